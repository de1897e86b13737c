set_option maxRecDepth 100000
theorem K_sub {D : va_G} {A : Nat → Prop} {H0 H : Heap} {locs : List Loc} {d : Nat → ClassId} {b ic : Nat → Nat} {a32 : Nat} {t0 t : GK} {S : SS} (hA0 : A = va_A (wK d b ic a32 t0) H0.size) (hT : TH D A H0 (wK d b ic a32 t) H locs) (q : Nat) (hq : va_A (wS d ic S) H.size q) : A q := by
  rw [hA0]
  rw [va_A_map] at hq ⊢
  rcases hq with h | h
  · exact Or.inl (List.mem_cons_of_mem _ (List.mem_append_left _ h : q ∈ adS ic ++ [b 1, b 2, b 3]))
  · exact Or.inr (Nat.le_trans hT.2.2.1 h)
def fX17_keep_B27 (N : Nat) (j0 : Nat) (k0 : CS) (K : GK → Option (GK)) (kb : GK → Int32 → Option (GK)) (t : GK) (x1 : Int32) : Option (GK) :=
  (if (10 : Int32) ≤ x1 then (K t) else (ix x1 10 (ix x1 10 (lett (gkA t 2 (x1).toNatClampNeg (k0.2.1 8 (x1).toNatClampNeg)) fun t_47 => (ix x1 10 (ix x1 10 (lett (gkA t_47 3 (x1).toNatClampNeg (k0.2.1 9 (x1).toNatClampNeg)) fun t_62 => (ix x1 10 (ix x1 10 (lett (gkA t_62 4 (x1).toNatClampNeg (k0.2.1 10 (x1).toNatClampNeg)) fun t_77 => (lett (x1 + (1 : Int32)) fun x1_78 => (kb t_77 x1_78))))))))))))
def fX17_keep_L27 (N : Nat) (j0 : Nat) (k0 : CS) (K : GK → Option (GK)) : Nat → GK → Int32 → Option (GK)
  | 0 => fun _ _ => none
  | n + 1 => fun t x1 => fX17_keep_B27 N j0 k0 K (fX17_keep_L27 N j0 k0 K n) t x1
def fX17_keep (N : Nat) (j0 : Nat) (k0 : CS) (t0 : GK) : Option (GK) :=
  (lett (gkJ t0 j0) fun t_8 => ((fX2_copyFrom N (k0.2.2.2 0) t_8.2.2.2).bind fun w_22 => (lett (gkS t_8 w_22) fun t_22 => (fX17_keep_L27 N j0 k0 (fun t => (lett (gkI t 5 (k0.1 11)) fun t_92 => (lett (gkI t_92 6 (k0.1 4)) fun t_103 => (lett (gkI t_103 7 (k0.1 12)) fun t_114 => (some t_114))))) N t_22 (0 : Int32)))))
theorem hdX17_keep : yX17_keep.cls = RX17 ∧ yX17_keep.cls ≠ "java/lang/invoke/MethodHandle" ∧ yX17_keep.cls ≠ "java/lang/invoke/VarHandle" ∧ (parseMethodDescriptor yX17_keep.desc).map (fun d => d.parameters.length) = some 0 := by decide +kernel
set_option maxHeartbeats 4000000 in
theorem mX17_keep (l : Launch) (D : va_G) (d : Nat → ClassId) (sd : Nat) (b : Nat → Nat) (ic : Nat → Nat) (a : Nat → Nat) (N : Nat) (j0 : Nat) (k0 : CS) (t0 : GK) (w : GK) (hf : fX17_keep N j0 k0 t0 = some w) (sz : Nat) : Met l yX17_keep (ws_ yX17_keep cX17_keep 2 none) (rm_ 1 22) (GPc D d sd [.ref (b 0)] (wK d b ic (a 32) t0) (KAt d a (fun _ => j0) k0) sz) (GQv D (wK d b ic (a 32) w) (wK d b ic (a 32) t0) sz) 0 0 (va_A (wK d b ic (a 32) t0) sz) := by
  refine Met.ofW (cc := cX17_keep) (maxL := 2) (ret := none) plX17 rfl ?_
  intro p e s m args below meth c s₁ B hml hv
  obtain ⟨C, hX, hR, hT, hr, hlocks, hargs, rfl⟩ := g_enter (own := RX17) B hml rfl hv
  have hx := C.1
  have hb := C.2.1
  have hV := hX.1
  obtain ⟨A, hA0⟩ : ∃ A, A = va_A (wK d b ic (a 32) t0) s.heap.size := ⟨_, rfl⟩
  rw [← hA0] at hX hR hT
  show W p l e (rm_ 1 22) s m args below meth c s.heap [] 0 0 (MQ below (GQv D (wK d b ic (a 32) w) (wK d b ic (a 32) t0) s.heap.size) args s 0 0 (va_A (wK d b ic (a 32) t0) s.heap.size)) _
  rw [← hA0]
  have hL27 : ∀ (K : GK → Option (GK)), (∀ (t : GK) (H : Heap) (locs : List Loc) (ls : Array Slot), TH D A s.heap (wK d b ic (a 32) t) H locs → lv_has ls 2 [(0, .ref (b 0))] → K t = some w → W p l e (rm_ 1 22) s m args below meth c H locs 0 0 (MQ below (GQv D (wK d b ic (a 32) w) (wK d b ic (a 32) t0) s.heap.size) args s 0 0 A) (F0 m 84 ls [])) → ∀ (n : Nat) (t : GK) (x1 : Int32) (H : Heap) (locs : List Loc) (ls : Array Slot), TH D A s.heap (wK d b ic (a 32) t) H locs → lv_has ls 2 [(0, .ref (b 0)), (1, .int x1)] → fX17_keep_L27 N j0 k0 K n t x1 = some w → W p l e (rm_ 1 22) s m args below meth c H locs 0 0 (MQ below (GQv D (wK d b ic (a 32) w) (wK d b ic (a 32) t0) s.heap.size) args s 0 0 A) (F0 m 27 ls []) := by
    intro K hE n
    induction n with
    | zero =>
      intro t x1 H locs ls hT hl hf
      cases hf
    | succ n ih =>
      intro t x1 H locs ls hT hl hf
      replace hf : fX17_keep_B27 N j0 k0 K (fX17_keep_L27 N j0 k0 K n) t x1 = some w := hf
      unfold fX17_keep_B27 at hf
      refine lv_iload_n hx hb dX17_keep_27 rfl (lv_at hl 1 rfl) ?_
      refine lv_bipush (v := 10) hx hb dX17_keep_28 (by decide) ?_
      refine lv_icmp_ge (tgt := 84) hx hb dX17_keep_30 (by decide) (fun hc => ?_) (fun hc => ?_)
      · have hf := ite_t hc hf
        exact hE t _ _ _ hT (lv_sub hl [0] rfl) hf
      · have hf := ite_f hc hf
        refine lv_aload_n hx hb dX17_keep_33 rfl (lv_at hl 0 rfl) ?_
        refine r_get C hV (hT.atp 0 rfl) (ci := 16) rfl in_X17 2 (by decide) q1202 rfl dX17_keep_34 ?_
        refine lv_iload_n hx hb dX17_keep_37 rfl (lv_at hl 1 rfl) ?_
        refine lv_aload_n hx hb dX17_keep_38 rfl (lv_at hl 0 rfl) ?_
        refine r_get C hV (hT.atp 0 rfl) (ci := 16) rfl in_X17 8 (by decide) q1208 rfl dX17_keep_39 ?_
        refine r_getN C hV hX.2.1 (hR.1.at hT.2.2) (ci := 1) rfl in_X0 8 (by decide) q347 rfl dX17_keep_42 ?_
        refine lv_iload_n hx hb dX17_keep_45 rfl (lv_at hl 1 rfl) ?_
        obtain ⟨hi, hf⟩ := ix_e hf
        refine r_ild C hV (hR.2.1.at hT.2.2) _ hi rfl dX17_keep_46 ?_
        obtain ⟨hi, hf⟩ := ix_e hf
        obtain ⟨t_47, et⟩ : ∃ y, y = (gkA t 2 (x1).toNatClampNeg (k0.2.1 8 (x1).toNatClampNeg)) := ⟨_, rfl⟩
        have hf := lett_e et hf
        refine w_ist (ws1 := (wK d b ic (a 32) t_47)) C hV hT 9 _ rfl hi rfl (by rw [et]; exact upd_set hT.2.1 rfl (gast_2 d b ic (a 32) t.1 t.2 _ _)) dX17_keep_47 (fun H locs hT => ?_)
        refine lv_aload_n hx hb dX17_keep_48 rfl (lv_at hl 0 rfl) ?_
        refine r_get C hV (hT.atp 0 rfl) (ci := 16) rfl in_X17 3 (by decide) q1203 rfl dX17_keep_49 ?_
        refine lv_iload_n hx hb dX17_keep_52 rfl (lv_at hl 1 rfl) ?_
        refine lv_aload_n hx hb dX17_keep_53 rfl (lv_at hl 0 rfl) ?_
        refine r_get C hV (hT.atp 0 rfl) (ci := 16) rfl in_X17 8 (by decide) q1208 rfl dX17_keep_54 ?_
        refine r_getN C hV hX.2.1 (hR.1.at hT.2.2) (ci := 1) rfl in_X0 9 (by decide) q349 rfl dX17_keep_57 ?_
        refine lv_iload_n hx hb dX17_keep_60 rfl (lv_at hl 1 rfl) ?_
        obtain ⟨hi, hf⟩ := ix_e hf
        refine r_ild C hV (hR.2.2.1.at hT.2.2) _ hi rfl dX17_keep_61 ?_
        obtain ⟨hi, hf⟩ := ix_e hf
        obtain ⟨t_62, et⟩ : ∃ y, y = (gkA t_47 3 (x1).toNatClampNeg (k0.2.1 9 (x1).toNatClampNeg)) := ⟨_, rfl⟩
        have hf := lett_e et hf
        refine w_ist (ws1 := (wK d b ic (a 32) t_62)) C hV hT 10 _ rfl hi rfl (by rw [et]; exact upd_set hT.2.1 rfl (gast_3 d b ic (a 32) t_47.1 t_47.2 _ _)) dX17_keep_62 (fun H locs hT => ?_)
        refine lv_aload_n hx hb dX17_keep_63 rfl (lv_at hl 0 rfl) ?_
        refine r_get C hV (hT.atp 0 rfl) (ci := 16) rfl in_X17 4 (by decide) q1204 rfl dX17_keep_64 ?_
        refine lv_iload_n hx hb dX17_keep_67 rfl (lv_at hl 1 rfl) ?_
        refine lv_aload_n hx hb dX17_keep_68 rfl (lv_at hl 0 rfl) ?_
        refine r_get C hV (hT.atp 0 rfl) (ci := 16) rfl in_X17 8 (by decide) q1208 rfl dX17_keep_69 ?_
        refine r_getN C hV hX.2.1 (hR.1.at hT.2.2) (ci := 1) rfl in_X0 10 (by decide) q351 rfl dX17_keep_72 ?_
        refine lv_iload_n hx hb dX17_keep_75 rfl (lv_at hl 1 rfl) ?_
        obtain ⟨hi, hf⟩ := ix_e hf
        refine r_ild C hV (hR.2.2.2.1.at hT.2.2) _ hi rfl dX17_keep_76 ?_
        obtain ⟨hi, hf⟩ := ix_e hf
        obtain ⟨t_77, et⟩ : ∃ y, y = (gkA t_62 4 (x1).toNatClampNeg (k0.2.1 10 (x1).toNatClampNeg)) := ⟨_, rfl⟩
        have hf := lett_e et hf
        refine w_ist (ws1 := (wK d b ic (a 32) t_77)) C hV hT 11 _ rfl hi rfl (by rw [et]; exact upd_set hT.2.1 rfl (gast_4 d b ic (a 32) t_62.1 t_62.2 _ _)) dX17_keep_77 (fun H locs hT => ?_)
        obtain ⟨x1_78, ex⟩ : ∃ y : Int32, y = (x1 + (1 : Int32)) := ⟨_, rfl⟩
        have hf := lett_e ex hf
        refine lv_iinc (v := x1_78) (lv' := [(1, .int x1_78), (0, .ref (b 0))]) hx hb dX17_keep_78 hl (k := 1) rfl (by rw [ex]; rfl) (by decide) rfl (fun ls hl => ?_)
        refine lv_goto (tgt := 27) hx hb dX17_keep_81 (by decide) ?_
        exact ih t_77 x1_78 _ _ _ hT (lv_sub hl [1, 0] rfl) hf
  refine W.eq (by rw [hargs]) (t_in (vs := [.ref (b 0)]) (n := 2) (Nat.le_of_ble_eq_true rfl) (fun ls hl => ?_))
  have hl : lv_has ls 2 [(0, .ref (b 0))] := hl
  unfold fX17_keep at hf
  refine lv_aload_n hx hb dX17_keep_0 rfl (lv_at hl 0 rfl) ?_
  refine lv_aload_n hx hb dX17_keep_1 rfl (lv_at hl 0 rfl) ?_
  refine r_get C hV (hT.atp 0 rfl) (ci := 16) rfl in_X17 8 (by decide) q1208 rfl dX17_keep_2 ?_
  refine r_getN C hV hX.2.1 (hR.1.at hT.2.2) (ci := 1) rfl in_X0 0 (by decide) q333 rfl dX17_keep_5 ?_
  obtain ⟨t_8, et⟩ : ∃ y, y = (gkJ t0 j0) := ⟨_, rfl⟩
  have hf := lett_e et hf
  refine w_put C hV hT (ws1 := (wK d b ic (a 32) t_8)) 0 rfl rfl in_X17 tyX17_ok nmX17 0 (by decide) q1200 (by rw [et]; exact upd_set hT.2.1 rfl (gset_0 d b ic (a 32) t0.1 t0.2 _)) rfl rfl rfl rfl (Nat.le_of_ble_eq_true rfl) dX17_keep_8 (fun H locs hT => ?_)
  refine lv_aload_n hx hb dX17_keep_11 rfl (lv_at hl 0 rfl) ?_
  refine r_get C hV (hT.atp 0 rfl) (ci := 16) rfl in_X17 1 (by decide) q1201 rfl dX17_keep_12 ?_
  refine lv_aload_n hx hb dX17_keep_15 rfl (lv_at hl 0 rfl) ?_
  refine r_get C hV (hT.atp 0 rfl) (ci := 16) rfl in_X17 8 (by decide) q1208 rfl dX17_keep_16 ?_
  refine r_getN C hV hX.2.1 (hR.1.at hT.2.2) (ci := 1) rfl in_X0 1 (by decide) q335 rfl dX17_keep_19 ?_
  obtain ⟨w_22, h_22, hf⟩ := bind_e hf
  refine g_callv (vs := [.ref (sa a 0 0)]) (rest := []) C hX hT (A_new hA0) (wK_cutS hT.2.1 _) (fun q hq => (hR.2.2.2.2 q hq).step hT.2.2 (K_sub hA0 hT)) (fun sz => mX2_copyFrom l D d sd ic (sa a 0) N (k0.2.2.2 0) t_8.2.2.2 _ h_22 sz) (cwV 1 C.2.2.2.2 (lw_V q1232 q916 q917 q125 q918) rfl rfl rfl hdX2_copyFrom ⟨Nat.le_of_ble_eq_true rfl, Nat.le_of_ble_eq_true rfl⟩) (g_recv hV (hT.atp 1 rfl) (ci := 2) rfl) rfl hl.1 rfl (Nat.le_of_ble_eq_true rfl) dX17_keep_22 ⟨Nat.zero_le _, Nat.zero_le _⟩ (fun H locs hT => ?_)
  obtain ⟨t_22, et⟩ : ∃ y, y = (gkS t_8 w_22) := ⟨_, rfl⟩
  rw [← et] at hT
  have hf := lett_e et hf
  refine lv_iconst (v := 0) hx hb dX17_keep_25 (by decide) ?_
  refine lv_istore_n (lv' := [(1, .int (0 : Int32)), (0, .ref (b 0))]) hx hb dX17_keep_26 rfl hl (by decide) rfl (fun ls hl => ?_)
  refine hL27 _ (fun t H locs ls hT hl hf => ?_) N t_22 (0 : Int32) _ _ _ hT (lv_sub hl [1, 0] rfl) hf
  refine lv_aload_n hx hb dX17_keep_84 rfl (lv_at hl 0 rfl) ?_
  refine lv_aload_n hx hb dX17_keep_85 rfl (lv_at hl 0 rfl) ?_
  refine r_get C hV (hT.atp 0 rfl) (ci := 16) rfl in_X17 8 (by decide) q1208 rfl dX17_keep_86 ?_
  refine r_getN C hV hX.2.1 (hR.1.at hT.2.2) (ci := 1) rfl in_X0 11 (by decide) q353 rfl dX17_keep_89 ?_
  obtain ⟨t_92, et⟩ : ∃ y, y = (gkI t 5 (k0.1 11)) := ⟨_, rfl⟩
  have hf := lett_e et hf
  refine w_put C hV hT (ws1 := (wK d b ic (a 32) t_92)) 0 rfl rfl in_X17 tyX17_ok nmX17 5 (by decide) q1205 (by rw [et]; exact upd_set hT.2.1 rfl (gset_5 d b ic (a 32) t.1 t.2 _)) rfl rfl rfl rfl (Nat.le_of_ble_eq_true rfl) dX17_keep_92 (fun H locs hT => ?_)
  refine lv_aload_n hx hb dX17_keep_95 rfl (lv_at hl 0 rfl) ?_
  refine lv_aload_n hx hb dX17_keep_96 rfl (lv_at hl 0 rfl) ?_
  refine r_get C hV (hT.atp 0 rfl) (ci := 16) rfl in_X17 8 (by decide) q1208 rfl dX17_keep_97 ?_
  refine r_getN C hV hX.2.1 (hR.1.at hT.2.2) (ci := 1) rfl in_X0 4 (by decide) q340 rfl dX17_keep_100 ?_
  obtain ⟨t_103, et⟩ : ∃ y, y = (gkI t_92 6 (k0.1 4)) := ⟨_, rfl⟩
  have hf := lett_e et hf
  refine w_put C hV hT (ws1 := (wK d b ic (a 32) t_103)) 0 rfl rfl in_X17 tyX17_ok nmX17 6 (by decide) q1206 (by rw [et]; exact upd_set hT.2.1 rfl (gset_6 d b ic (a 32) t_92.1 t_92.2 _)) rfl rfl rfl rfl (Nat.le_of_ble_eq_true rfl) dX17_keep_103 (fun H locs hT => ?_)
  refine lv_aload_n hx hb dX17_keep_106 rfl (lv_at hl 0 rfl) ?_
  refine lv_aload_n hx hb dX17_keep_107 rfl (lv_at hl 0 rfl) ?_
  refine r_get C hV (hT.atp 0 rfl) (ci := 16) rfl in_X17 8 (by decide) q1208 rfl dX17_keep_108 ?_
  refine r_getN C hV hX.2.1 (hR.1.at hT.2.2) (ci := 1) rfl in_X0 12 (by decide) q355 rfl dX17_keep_111 ?_
  obtain ⟨t_114, et⟩ : ∃ y, y = (gkI t_103 7 (k0.1 12)) := ⟨_, rfl⟩
  have hf := lett_e et hf
  refine w_put C hV hT (ws1 := (wK d b ic (a 32) t_114)) 0 rfl rfl in_X17 tyX17_ok nmX17 7 (by decide) q1207 (by rw [et]; exact upd_set hT.2.1 rfl (gset_7 d b ic (a 32) t_103.1 t_103.2 _)) rfl rfl rfl rfl (Nat.le_of_ble_eq_true rfl) dX17_keep_114 (fun H locs hT => ?_)
  exact f_vret (wK d b ic (a 32)) hA0 C hT hf hr hlocks dX17_keep_117
