set_option maxRecDepth 100000
def fX0_canLay_B26 (N : Nat) (j : JS) (r : RS) (rc : CS → Int32 → Int32 → Option (Int32 × CS)) (K : CS → Int32 → Int32 → Int32 → Int32 → Option (Int32 × CS)) (kb : CS → Int32 → Int32 → Int32 → Int32 → Int32 → Option (Int32 × CS)) (t : CS) (x1 : Int32) (x2 : Int32) (x3 : Int32) (x4 : Int32) (x5 : Int32) : Option (Int32 × CS) :=
  (if x1 ≤ x5 then (K t x1 x2 x3 x4) else (ix x5 6 (if ¬ (t.2.1 21 (x5).toNatClampNeg) = x3 then (lett (x5 + (1 : Int32)) fun x5_63 => (kb t x1 x2 x3 x4 x5_63)) else (ix x1 6 ((fX0_has N (j.2 1 (x1).toNatClampNeg) x5).bind fun w_54 => (if w_54 = 0 then (lett (x5 + (1 : Int32)) fun x5_63 => (kb t x1 x2 x3 x4 x5_63)) else (lett (x5 + (1 : Int32)) fun x5_63 => (kb t x1 x2 x3 (0 : Int32) x5_63))))))))
def fX0_canLay_L26 (N : Nat) (j : JS) (r : RS) (rc : CS → Int32 → Int32 → Option (Int32 × CS)) (K : CS → Int32 → Int32 → Int32 → Int32 → Option (Int32 × CS)) : Nat → CS → Int32 → Int32 → Int32 → Int32 → Int32 → Option (Int32 × CS)
  | 0 => fun _ _ _ _ _ _ => none
  | n + 1 => fun t x1 x2 x3 x4 x5 => fX0_canLay_B26 N j r rc K (fX0_canLay_L26 N j r rc K n) t x1 x2 x3 x4 x5
def fX0_canLay_B15 (N : Nat) (j : JS) (r : RS) (rc : CS → Int32 → Int32 → Option (Int32 × CS)) (K : CS → Option (Int32 × CS)) (kb : CS → Int32 → Int32 → Int32 → Option (Int32 × CS)) (t : CS) (x1 : Int32) (x2 : Int32) (x3 : Int32) : Option (Int32 × CS) :=
  (if x2 ≤ x3 then (K t) else (fX0_canLay_L26 N j r rc (fun t x1 x2 x3 x4 => (if ¬ x4 = 0 then (ix x1 6 (lett (csA t 21 (x1).toNatClampNeg x3) fun t_83 => ((rc t_83 (x1 + (1 : Int32)) x2).bind fun w_89 => (if w_89.1 = 0 then (lett (x3 + (1 : Int32)) fun x3_97 => (kb w_89.2 x1 x2 x3_97)) else (some ((1 : Int32), w_89.2)))))) else (lett (x3 + (1 : Int32)) fun x3_97 => (kb t x1 x2 x3_97)))) N t x1 x2 x3 (1 : Int32) (0 : Int32)))
def fX0_canLay_L15 (N : Nat) (j : JS) (r : RS) (rc : CS → Int32 → Int32 → Option (Int32 × CS)) (K : CS → Option (Int32 × CS)) : Nat → CS → Int32 → Int32 → Int32 → Option (Int32 × CS)
  | 0 => fun _ _ _ _ => none
  | n + 1 => fun t x1 x2 x3 => fX0_canLay_B15 N j r rc K (fX0_canLay_L15 N j r rc K n) t x1 x2 x3
def fX0_canLay_R (N : Nat) (j : JS) (r : RS) (rc : CS → Int32 → Int32 → Option (Int32 × CS)) (t0 : CS) (x1 : Int32) (x2 : Int32) : Option (Int32 × CS) :=
  ((fX1_roads N j).bind fun w_5 => (if ¬ x1 = w_5 then (fX0_canLay_L15 N j r rc (fun t => (some ((0 : Int32), t))) N t0 x1 x2 (0 : Int32)) else (some ((1 : Int32), t0))))
def fX0_canLay (N : Nat) (j : JS) (r : RS) : Nat → CS → Int32 → Int32 → Option (Int32 × CS)
  | 0 => fun _ _ _ => none
  | n + 1 => fun t x1 x2 => fX0_canLay_R N j r (fX0_canLay N j r n) t x1 x2
theorem hdX0_canLay : yX0_canLay.cls ≠ "java/lang/invoke/MethodHandle" ∧ yX0_canLay.cls ≠ "java/lang/invoke/VarHandle" ∧ (parseMethodDescriptor yX0_canLay.desc).map (fun d => d.parameters.length) = some 3 := by decide +kernel
set_option maxHeartbeats 8000000 in
theorem mX0_canLay (l : Launch) (D : va_G) (d : Nat → ClassId) (sd : Nat) (a : Nat → Nat) (ja : Nat → Nat) (N : Nat) (j : JS) (r : RS) : ∀ (kd : Nat) (t0 : CS) (x1 x2 : Int32) (w : Int32 × CS) (hf : fX0_canLay N j r kd t0 x1 x2 = some w) (sz : Nat), Met l yX0_canLay (ws_ yX0_canLay cX0_canLay 6 (some .boolean)) (rm_ (kd + 3) (40 * kd + 100)) (GPc D d sd [.ref (a 32), .int x1, .int x2] (wC d a ja t0) (fun P => JAt d ja j P ∧ RAt d (a 3) r P) sz) (GQi D w.1 (wC d a ja w.2) (wC d a ja t0) sz) 0 0 (va_A (wC d a ja t0) sz) := by
  intro kd
  induction kd with
  | zero =>
    intro t0 x1 x2 w hf sz
    cases hf
  | succ kd ihk =>
    intro t0 x1 x2 w hf sz
    replace hf : fX0_canLay_R N j r (fX0_canLay N j r kd) t0 x1 x2 = some w := hf
    refine Met.ofW (cc := cX0_canLay) (maxL := 6) (ret := (some .boolean)) plX0 rfl ?_
    intro p e s m args below meth c s₁ B hml hv
    obtain ⟨C, hX, hR, hT, hr, hlocks, hargs, rfl⟩ := g_enter (own := RX0) B hml rfl hv
    have hx := C.1
    have hb := C.2.1
    have hV := hX.1
    obtain ⟨A, hA0⟩ : ∃ A, A = va_A (wC d a ja t0) s.heap.size := ⟨_, rfl⟩
    rw [← hA0] at hX hR hT
    show W p l e (rm_ (kd + 1 + 3) (40 * (kd + 1) + 100)) s m args below meth c s.heap [] 0 0 (MQ below (GQi D w.1 (wC d a ja w.2) (wC d a ja t0) s.heap.size) args s 0 0 (va_A (wC d a ja t0) s.heap.size)) _
    rw [← hA0]
    have hJ := hR.1
    obtain ⟨rmc, rel, rcap, rf, hrl, hrel, hrc, hrg⟩ := hR.2.unpack
    have hL15 : ∀ (K : CS → Option (Int32 × CS)), (∀ (t : CS) (H : Heap) (locs : List Loc) (ls : Array Slot), TH D A s.heap (wC d a ja t) H locs → lv_has ls 6 [] → K t = some w → W p l e (rm_ (kd + 1 + 3) (40 * (kd + 1) + 100)) s m args below meth c H locs 0 0 (MQ below (GQi D w.1 (wC d a ja w.2) (wC d a ja t0) s.heap.size) args s 0 0 A) (F0 m 103 ls [])) → ∀ (n : Nat) (t : CS) (x1 : Int32) (x2 : Int32) (x3 : Int32) (H : Heap) (locs : List Loc) (ls : Array Slot), TH D A s.heap (wC d a ja t) H locs → lv_has ls 6 [(0, .ref (a 32)), (1, .int x1), (2, .int x2), (3, .int x3)] → fX0_canLay_L15 N j r (fX0_canLay N j r kd) K n t x1 x2 x3 = some w → W p l e (rm_ (kd + 1 + 3) (40 * (kd + 1) + 100)) s m args below meth c H locs 0 0 (MQ below (GQi D w.1 (wC d a ja w.2) (wC d a ja t0) s.heap.size) args s 0 0 A) (F0 m 15 ls []) := by
      intro K hE n
      induction n with
      | zero =>
        intro t x1 x2 x3 H locs ls hT hl hf
        cases hf
      | succ n ih =>
        have hL26 : ∀ (K : CS → Int32 → Int32 → Int32 → Int32 → Option (Int32 × CS)), (∀ (t : CS) (x1 : Int32) (x2 : Int32) (x3 : Int32) (x4 : Int32) (H : Heap) (locs : List Loc) (ls : Array Slot), TH D A s.heap (wC d a ja t) H locs → lv_has ls 6 [(0, .ref (a 32)), (1, .int x1), (2, .int x2), (3, .int x3), (4, .int x4)] → K t x1 x2 x3 x4 = some w → W p l e (rm_ (kd + 1 + 3) (40 * (kd + 1) + 100)) s m args below meth c H locs 0 0 (MQ below (GQi D w.1 (wC d a ja w.2) (wC d a ja t0) s.heap.size) args s 0 0 A) (F0 m 69 ls [])) → ∀ (n : Nat) (t : CS) (x1 : Int32) (x2 : Int32) (x3 : Int32) (x4 : Int32) (x5 : Int32) (H : Heap) (locs : List Loc) (ls : Array Slot), TH D A s.heap (wC d a ja t) H locs → lv_has ls 6 [(0, .ref (a 32)), (1, .int x1), (2, .int x2), (3, .int x3), (4, .int x4), (5, .int x5)] → fX0_canLay_L26 N j r (fX0_canLay N j r kd) K n t x1 x2 x3 x4 x5 = some w → W p l e (rm_ (kd + 1 + 3) (40 * (kd + 1) + 100)) s m args below meth c H locs 0 0 (MQ below (GQi D w.1 (wC d a ja w.2) (wC d a ja t0) s.heap.size) args s 0 0 A) (F0 m 26 ls []) := by
          intro K hE n
          induction n with
          | zero =>
            intro t x1 x2 x3 x4 x5 H locs ls hT hl hf
            cases hf
          | succ n ih =>
            intro t x1 x2 x3 x4 x5 H locs ls hT hl hf
            replace hf : fX0_canLay_B26 N j r (fX0_canLay N j r kd) K (fX0_canLay_L26 N j r (fX0_canLay N j r kd) K n) t x1 x2 x3 x4 x5 = some w := hf
            unfold fX0_canLay_B26 at hf
            refine lv_iload hx hb dX0_canLay_26 (lv_at hl 5 rfl) ?_
            refine lv_iload_n hx hb dX0_canLay_28 rfl (lv_at hl 1 rfl) ?_
            refine lv_icmp_ge (tgt := 69) hx hb dX0_canLay_29 (by decide) (fun hc => ?_) (fun hc => ?_)
            · have hf := ite_t hc hf
              exact hE t x1 x2 x3 x4 _ _ _ hT (lv_sub hl [0, 1, 2, 3, 4] rfl) hf
            · have hf := ite_f hc hf
              refine lv_aload_n hx hb dX0_canLay_32 rfl (lv_at hl 0 rfl) ?_
              refine r_get C hV (hT.atp 0 rfl) (ci := 1) rfl in_X0 21 (by decide) q366 rfl dX0_canLay_33 ?_
              refine lv_iload hx hb dX0_canLay_36 (lv_at hl 5 rfl) ?_
              obtain ⟨hi, hf⟩ := ix_e hf
              refine r_ild C hV (hT.atp 8 rfl) _ hi rfl dX0_canLay_38 ?_
              refine lv_iload_n hx hb dX0_canLay_39 rfl (lv_at hl 3 rfl) ?_
              refine lv_icmp_ne (tgt := 63) hx hb dX0_canLay_40 (by decide) (fun hc => ?_) (fun hc => ?_)
              · have hf := ite_t hc hf
                obtain ⟨x5_63, ex⟩ : ∃ y : Int32, y = (x5 + (1 : Int32)) := ⟨_, rfl⟩
                have hf := lett_e ex hf
                refine lv_iinc (v := x5_63) (lv' := [(5, .int x5_63), (0, .ref (a 32)), (1, .int x1), (2, .int x2), (3, .int x3), (4, .int x4)]) hx hb dX0_canLay_63 hl (k := 5) rfl (by rw [ex]; rfl) (by decide) rfl (fun ls hl => ?_)
                refine lv_goto (tgt := 26) hx hb dX0_canLay_66 (by decide) ?_
                exact ih t x1 x2 x3 x4 x5_63 _ _ _ hT (lv_sub hl [1, 2, 3, 4, 5, 0] rfl) hf
              · have hf := ite_f (fun q => q hc) hf
                refine lv_aload_n hx hb dX0_canLay_43 rfl (lv_at hl 0 rfl) ?_
                refine r_get C hV (hT.atp 0 rfl) (ci := 1) rfl in_X0 0 (by decide) q334 rfl dX0_canLay_44 ?_
                refine r_getN C hV hX.2.1 (hJ.1.at hT.2.2) (ci := 3) rfl in_X1 1 (by decide) q200 rfl dX0_canLay_47 ?_
                refine lv_iload_n hx hb dX0_canLay_50 rfl (lv_at hl 1 rfl) ?_
                obtain ⟨hi, hf⟩ := ix_e hf
                refine r_ild C hV (hJ.2.2.1.at hT.2.2) _ hi rfl dX0_canLay_51 ?_
                refine lv_iload hx hb dX0_canLay_52 (lv_at hl 5 rfl) ?_
                obtain ⟨w_54, h_54, hf⟩ := bind_e hf
                refine s_calli (vs := [.int (j.2 1 (x1).toNatClampNeg), .int x5]) (rest := []) C (A_new hA0) hT (fun sz => mX0_has l N (j.2 1 (x1).toNatClampNeg) x5 _ h_54 sz) (va_cwS 2 C.2.2.2.2 (lw_S q952 q953 q120 q954) rfl rfl rfl hdX0_has ⟨by dsimp only [rm_]; omega, by dsimp only [rm_]; omega⟩) rfl hl.1 rfl (Nat.le_of_ble_eq_true rfl) dX0_canLay_54 ⟨Nat.zero_le _, Nat.zero_le _⟩ (fun H locs hT => ?_)
                refine lv_if_eq (tgt := 63) hx hb dX0_canLay_57 (by decide) (fun hc => ?_) (fun hc => ?_)
                · have hf := ite_t hc hf
                  obtain ⟨x5_63, ex⟩ : ∃ y : Int32, y = (x5 + (1 : Int32)) := ⟨_, rfl⟩
                  have hf := lett_e ex hf
                  refine lv_iinc (v := x5_63) (lv' := [(5, .int x5_63), (0, .ref (a 32)), (1, .int x1), (2, .int x2), (3, .int x3), (4, .int x4)]) hx hb dX0_canLay_63 hl (k := 5) rfl (by rw [ex]; rfl) (by decide) rfl (fun ls hl => ?_)
                  refine lv_goto (tgt := 26) hx hb dX0_canLay_66 (by decide) ?_
                  exact ih t x1 x2 x3 x4 x5_63 _ _ _ hT (lv_sub hl [1, 2, 3, 4, 5, 0] rfl) hf
                · have hf := ite_f hc hf
                  refine lv_iconst (v := 0) hx hb dX0_canLay_60 (by decide) ?_
                  refine lv_istore (lv' := [(4, .int (0 : Int32)), (0, .ref (a 32)), (1, .int x1), (2, .int x2), (3, .int x3), (5, .int x5)]) hx hb dX0_canLay_61 hl (by decide) rfl (fun ls hl => ?_)
                  obtain ⟨x5_63, ex⟩ : ∃ y : Int32, y = (x5 + (1 : Int32)) := ⟨_, rfl⟩
                  have hf := lett_e ex hf
                  refine lv_iinc (v := x5_63) (lv' := [(5, .int x5_63), (4, .int (0 : Int32)), (0, .ref (a 32)), (1, .int x1), (2, .int x2), (3, .int x3)]) hx hb dX0_canLay_63 hl (k := 5) rfl (by rw [ex]; rfl) (by decide) rfl (fun ls hl => ?_)
                  refine lv_goto (tgt := 26) hx hb dX0_canLay_66 (by decide) ?_
                  exact ih t x1 x2 x3 (0 : Int32) x5_63 _ _ _ hT (lv_sub hl [2, 3, 4, 5, 1, 0] rfl) hf
        intro t x1 x2 x3 H locs ls hT hl hf
        replace hf : fX0_canLay_B15 N j r (fX0_canLay N j r kd) K (fX0_canLay_L15 N j r (fX0_canLay N j r kd) K n) t x1 x2 x3 = some w := hf
        unfold fX0_canLay_B15 at hf
        refine lv_iload_n hx hb dX0_canLay_15 rfl (lv_at hl 3 rfl) ?_
        refine lv_iload_n hx hb dX0_canLay_16 rfl (lv_at hl 2 rfl) ?_
        refine lv_icmp_ge (tgt := 103) hx hb dX0_canLay_17 (by decide) (fun hc => ?_) (fun hc => ?_)
        · have hf := ite_t hc hf
          exact hE t _ _ _ hT (lv_sub hl [] rfl) hf
        · have hf := ite_f hc hf
          refine lv_iconst (v := 1) hx hb dX0_canLay_20 (by decide) ?_
          refine lv_istore (lv' := [(4, .int (1 : Int32)), (0, .ref (a 32)), (1, .int x1), (2, .int x2), (3, .int x3)]) hx hb dX0_canLay_21 hl (by decide) rfl (fun ls hl => ?_)
          refine lv_iconst (v := 0) hx hb dX0_canLay_23 (by decide) ?_
          refine lv_istore (lv' := [(5, .int (0 : Int32)), (4, .int (1 : Int32)), (0, .ref (a 32)), (1, .int x1), (2, .int x2), (3, .int x3)]) hx hb dX0_canLay_24 hl (by decide) rfl (fun ls hl => ?_)
          refine hL26 _ (fun t x1 x2 x3 x4 H locs ls hT hl hf => ?_) N t x1 x2 x3 (1 : Int32) (0 : Int32) _ _ _ hT (lv_sub hl [2, 3, 4, 5, 1, 0] rfl) hf
          refine lv_iload hx hb dX0_canLay_69 (lv_at hl 4 rfl) ?_
          refine lv_if_ne (tgt := 77) hx hb dX0_canLay_71 (by decide) (fun hc => ?_) (fun hc => ?_)
          · have hf := ite_t hc hf
            refine lv_aload_n hx hb dX0_canLay_77 rfl (lv_at hl 0 rfl) ?_
            refine r_get C hV (hT.atp 0 rfl) (ci := 1) rfl in_X0 21 (by decide) q366 rfl dX0_canLay_78 ?_
            refine lv_iload_n hx hb dX0_canLay_81 rfl (lv_at hl 1 rfl) ?_
            refine lv_iload_n hx hb dX0_canLay_82 rfl (lv_at hl 3 rfl) ?_
            obtain ⟨hi, hf⟩ := ix_e hf
            obtain ⟨t_83, et⟩ : ∃ y, y = (csA t 21 (x1).toNatClampNeg x3) := ⟨_, rfl⟩
            have hf := lett_e et hf
            refine w_ist (ws1 := (wC d a ja t_83)) C hV hT 8 _ rfl hi rfl (by rw [et]; exact upd_set hT.2.1 rfl (cast_21 d a ja t _ _)) dX0_canLay_83 (fun H locs hT => ?_)
            refine lv_aload_n hx hb dX0_canLay_84 rfl (lv_at hl 0 rfl) ?_
            refine lv_iload_n hx hb dX0_canLay_85 rfl (lv_at hl 1 rfl) ?_
            refine lv_iconst (v := 1) hx hb dX0_canLay_86 (by decide) ?_
            refine lv_iadd hx hb dX0_canLay_87 ?_
            refine lv_iload_n hx hb dX0_canLay_88 rfl (lv_at hl 2 rfl) ?_
            obtain ⟨w_89, h_89, hf⟩ := bind_e hf
            refine g_scalli (vs := [.ref (a 32), .int (x1 + (1 : Int32)), .int x2]) (rest := []) C hX hT (A_new hA0) (Cut.all (D_nd hT.2.1) ((wC_fst d a ja _).trans (wC_fst d a ja t_83).symm)) (Ro := (fun P => JAt d ja j P ∧ RAt d (a 3) r P)) ⟨hJ.step hT.2.2 (A_full hA0 hT.2.2.1), hR.2.step hT.2.2 (A_full hA0 hT.2.2.1)⟩ (fun sz => ihk t_83 (x1 + (1 : Int32)) x2 _ h_89 sz) (va_cwS 3 C.2.2.2.2 (lw_S q1083 q1084 q120 q1085) rfl rfl rfl hdX0_canLay ⟨by dsimp only [rm_]; omega, by dsimp only [rm_]; omega⟩) rfl hl.1 rfl (Nat.le_of_ble_eq_true rfl) dX0_canLay_89 ⟨Nat.zero_le _, Nat.zero_le _⟩ (fun H locs hT => ?_)
            refine lv_if_eq (tgt := 97) hx hb dX0_canLay_92 (by decide) (fun hc => ?_) (fun hc => ?_)
            · have hf := ite_t hc hf
              obtain ⟨x3_97, ex⟩ : ∃ y : Int32, y = (x3 + (1 : Int32)) := ⟨_, rfl⟩
              have hf := lett_e ex hf
              refine lv_iinc (v := x3_97) (lv' := [(3, .int x3_97), (0, .ref (a 32)), (1, .int x1), (2, .int x2), (4, .int x4)]) hx hb dX0_canLay_97 hl (k := 3) rfl (by rw [ex]; rfl) (by decide) rfl (fun ls hl => ?_)
              refine lv_goto (tgt := 15) hx hb dX0_canLay_100 (by decide) ?_
              exact ih w_89.2 x1 x2 x3_97 _ _ _ hT (lv_sub hl [1, 2, 3, 0] rfl) hf
            · have hf := ite_f hc hf
              refine lv_iconst (v := 1) hx hb dX0_canLay_95 (by decide) ?_
              exact f_zret (wC d a ja) hA0 C hT hf (Or.inr rfl) hr hlocks dX0_canLay_96
          · have hf := ite_f (fun q => q hc) hf
            refine lv_goto (tgt := 97) hx hb dX0_canLay_74 (by decide) ?_
            obtain ⟨x3_97, ex⟩ : ∃ y : Int32, y = (x3 + (1 : Int32)) := ⟨_, rfl⟩
            have hf := lett_e ex hf
            refine lv_iinc (v := x3_97) (lv' := [(3, .int x3_97), (0, .ref (a 32)), (1, .int x1), (2, .int x2), (4, .int x4)]) hx hb dX0_canLay_97 hl (k := 3) rfl (by rw [ex]; rfl) (by decide) rfl (fun ls hl => ?_)
            refine lv_goto (tgt := 15) hx hb dX0_canLay_100 (by decide) ?_
            exact ih t x1 x2 x3_97 _ _ _ hT (lv_sub hl [1, 2, 3, 0] rfl) hf
    refine W.eq (by rw [hargs]) (t_in (vs := [.ref (a 32), .int x1, .int x2]) (n := 6) (Nat.le_of_ble_eq_true rfl) (fun ls hl => ?_))
    have hl : lv_has ls 6 [(0, .ref (a 32)), (1, .int x1), (2, .int x2)] := hl
    unfold fX0_canLay_R at hf
    refine lv_iload_n hx hb dX0_canLay_0 rfl (lv_at hl 1 rfl) ?_
    refine lv_aload_n hx hb dX0_canLay_1 rfl (lv_at hl 0 rfl) ?_
    refine r_get C hV (hT.atp 0 rfl) (ci := 1) rfl in_X0 0 (by decide) q334 rfl dX0_canLay_2 ?_
    obtain ⟨w_5, h_5, hf⟩ := bind_e hf
    refine g_calli (vs := []) (rest := [.int x1]) C hX hT (A_new hA0) (Cut.none _) (hJ.step hT.2.2 (Anil (A_new hA0) hT.2.2.1)) (fun sz => mX1_roads l D d sd ja N j _ h_5 sz) (cwV 0 C.2.2.2.2 (lw_V q709 q584 q585 q121 q586) rfl rfl rfl hdX1_roads ⟨by dsimp only [rm_]; omega, by dsimp only [rm_]; omega⟩) (g_recv hV (hJ.1.at hT.2.2) (ci := 3) rfl) rfl hl.1 rfl (Nat.le_of_ble_eq_true rfl) dX0_canLay_5 ⟨Nat.zero_le _, Nat.zero_le _⟩ (fun H locs hT => ?_)
    refine lv_icmp_ne (tgt := 13) hx hb dX0_canLay_8 (by decide) (fun hc => ?_) (fun hc => ?_)
    · have hf := ite_t hc hf
      refine lv_iconst (v := 0) hx hb dX0_canLay_13 (by decide) ?_
      refine lv_istore_n (lv' := [(3, .int (0 : Int32)), (0, .ref (a 32)), (1, .int x1), (2, .int x2)]) hx hb dX0_canLay_14 rfl hl (by decide) rfl (fun ls hl => ?_)
      refine hL15 _ (fun t H locs ls hT hl hf => ?_) N t0 x1 x2 (0 : Int32) _ _ _ hT (lv_sub hl [1, 2, 3, 0] rfl) hf
      refine lv_iconst (v := 0) hx hb dX0_canLay_103 (by decide) ?_
      exact f_zret (wC d a ja) hA0 C hT hf (Or.inl rfl) hr hlocks dX0_canLay_104
    · have hf := ite_f (fun q => q hc) hf
      refine lv_iconst (v := 1) hx hb dX0_canLay_11 (by decide) ?_
      exact f_zret (wC d a ja) hA0 C hT hf (Or.inr rfl) hr hlocks dX0_canLay_12
def fX0_rowsFrom_B19 (N : Nat) (j : JS) (r : RS) (rc : CS → Int32 → Int32 → Option (CS)) (K : CS → Option (CS)) (kb : CS → Int32 → Int32 → Int32 → Option (CS)) (t : CS) (x1 : Int32) (x2 : Int32) (x3 : Int32) : Option (CS) :=
  ((fX1_roads N j).bind fun w_25 => (if ((1 : Int32) <<< (w_25 &&& 31)) ≤ x3 then (K t) else ((fX1_areFree N j x3).bind fun w_37 => (if ¬ w_37 = 0 then (ix (x1 + (1 : Int32)) 4 (ix x1 4 ((fX2_copyFrom N (t.2.2.2 (2 + (x1).toNatClampNeg)) (t.2.2.2 (2 + ((x1 + (1 : Int32))).toNatClampNeg)) ).bind fun w_60 => (lett (csS t (2 + ((x1 + (1 : Int32))).toNatClampNeg) w_60) fun t_60 => (ix x1 3 (lett (csA t_60 22 (x1).toNatClampNeg x3) fun t_69 => (lett (csI t_69 15 x3) fun t_72 => (ix (x1 + (1 : Int32)) 4 ((fX0_goesOn N j r (2 + ((x1 + (1 : Int32))).toNatClampNeg) t_72 ).bind fun w_84 => ((rc w_84.2 (x1 + (1 : Int32)) x2).bind fun w_93 => (lett (x3 + (1 : Int32)) fun x3_96 => (kb w_93 x1 x2 x3_96)))))))))))) else (lett (x3 + (1 : Int32)) fun x3_96 => (kb t x1 x2 x3_96))))))
def fX0_rowsFrom_L19 (N : Nat) (j : JS) (r : RS) (rc : CS → Int32 → Int32 → Option (CS)) (K : CS → Option (CS)) : Nat → CS → Int32 → Int32 → Int32 → Option (CS)
  | 0 => fun _ _ _ _ => none
  | n + 1 => fun t x1 x2 x3 => fX0_rowsFrom_B19 N j r rc K (fX0_rowsFrom_L19 N j r rc K n) t x1 x2 x3
def fX0_rowsFrom_R (N : Nat) (j : JS) (r : RS) (rc : CS → Int32 → Int32 → Option (CS)) (t0 : CS) (x1 : Int32) (x2 : Int32) : Option (CS) :=
  (if ¬ x1 = x2 then (fX0_rowsFrom_L19 N j r rc (fun t => (some t)) N t0 x1 x2 (0 : Int32)) else (ix x1 4 ((fX0_triesRow N j r (2 + (x1).toNatClampNeg) t0 x2).bind fun w_13 => (some w_13))))
def fX0_rowsFrom (N : Nat) (j : JS) (r : RS) : Nat → CS → Int32 → Int32 → Option (CS)
  | 0 => fun _ _ _ => none
  | n + 1 => fun t x1 x2 => fX0_rowsFrom_R N j r (fX0_rowsFrom N j r n) t x1 x2
theorem hdX0_rowsFrom : yX0_rowsFrom.cls ≠ "java/lang/invoke/MethodHandle" ∧ yX0_rowsFrom.cls ≠ "java/lang/invoke/VarHandle" ∧ (parseMethodDescriptor yX0_rowsFrom.desc).map (fun d => d.parameters.length) = some 3 := by decide +kernel
set_option maxHeartbeats 8000000 in
theorem mX0_rowsFrom (l : Launch) (D : va_G) (d : Nat → ClassId) (sd : Nat) (a : Nat → Nat) (ja : Nat → Nat) (N : Nat) (j : JS) (r : RS) : ∀ (kd : Nat) (t0 : CS) (x1 x2 : Int32) (w : CS) (hf : fX0_rowsFrom N j r kd t0 x1 x2 = some w) (sz : Nat), Met l yX0_rowsFrom (ws_ yX0_rowsFrom cX0_rowsFrom 4 none) (rm_ (kd + 270) (40 * kd + 9000)) (GPc D d sd [.ref (a 32), .int x1, .int x2] (wC d a ja t0) (fun P => JAt d ja j P ∧ RAt d (a 3) r P) sz) (GQv D (wC d a ja w) (wC d a ja t0) sz) 0 0 (va_A (wC d a ja t0) sz) := by
  intro kd
  induction kd with
  | zero =>
    intro t0 x1 x2 w hf sz
    cases hf
  | succ kd ihk =>
    intro t0 x1 x2 w hf sz
    replace hf : fX0_rowsFrom_R N j r (fX0_rowsFrom N j r kd) t0 x1 x2 = some w := hf
    refine Met.ofW (cc := cX0_rowsFrom) (maxL := 4) (ret := none) plX0 rfl ?_
    intro p e s m args below meth c s₁ B hml hv
    obtain ⟨C, hX, hR, hT, hr, hlocks, hargs, rfl⟩ := g_enter (own := RX0) B hml rfl hv
    have hx := C.1
    have hb := C.2.1
    have hV := hX.1
    obtain ⟨A, hA0⟩ : ∃ A, A = va_A (wC d a ja t0) s.heap.size := ⟨_, rfl⟩
    rw [← hA0] at hX hR hT
    show W p l e (rm_ (kd + 1 + 270) (40 * (kd + 1) + 9000)) s m args below meth c s.heap [] 0 0 (MQ below (GQv D (wC d a ja w) (wC d a ja t0) s.heap.size) args s 0 0 (va_A (wC d a ja t0) s.heap.size)) _
    rw [← hA0]
    have hJ := hR.1
    obtain ⟨rmc, rel, rcap, rf, hrl, hrel, hrc, hrg⟩ := hR.2.unpack
    have hL19 : ∀ (K : CS → Option (CS)), (∀ (t : CS) (H : Heap) (locs : List Loc) (ls : Array Slot), TH D A s.heap (wC d a ja t) H locs → lv_has ls 4 [] → K t = some w → W p l e (rm_ (kd + 1 + 270) (40 * (kd + 1) + 9000)) s m args below meth c H locs 0 0 (MQ below (GQv D (wC d a ja w) (wC d a ja t0) s.heap.size) args s 0 0 A) (F0 m 102 ls [])) → ∀ (n : Nat) (t : CS) (x1 : Int32) (x2 : Int32) (x3 : Int32) (H : Heap) (locs : List Loc) (ls : Array Slot), TH D A s.heap (wC d a ja t) H locs → lv_has ls 4 [(0, .ref (a 32)), (1, .int x1), (2, .int x2), (3, .int x3)] → fX0_rowsFrom_L19 N j r (fX0_rowsFrom N j r kd) K n t x1 x2 x3 = some w → W p l e (rm_ (kd + 1 + 270) (40 * (kd + 1) + 9000)) s m args below meth c H locs 0 0 (MQ below (GQv D (wC d a ja w) (wC d a ja t0) s.heap.size) args s 0 0 A) (F0 m 19 ls []) := by
      intro K hE n
      induction n with
      | zero =>
        intro t x1 x2 x3 H locs ls hT hl hf
        cases hf
      | succ n ih =>
        intro t x1 x2 x3 H locs ls hT hl hf
        replace hf : fX0_rowsFrom_B19 N j r (fX0_rowsFrom N j r kd) K (fX0_rowsFrom_L19 N j r (fX0_rowsFrom N j r kd) K n) t x1 x2 x3 = some w := hf
        unfold fX0_rowsFrom_B19 at hf
        refine lv_iload_n hx hb dX0_rowsFrom_19 rfl (lv_at hl 3 rfl) ?_
        refine lv_iconst (v := 1) hx hb dX0_rowsFrom_20 (by decide) ?_
        refine lv_aload_n hx hb dX0_rowsFrom_21 rfl (lv_at hl 0 rfl) ?_
        refine r_get C hV (hT.atp 0 rfl) (ci := 1) rfl in_X0 0 (by decide) q334 rfl dX0_rowsFrom_22 ?_
        obtain ⟨w_25, h_25, hf⟩ := bind_e hf
        refine g_calli (vs := []) (rest := [.int (1 : Int32), .int x3]) C hX hT (A_new hA0) (Cut.none _) (hJ.step hT.2.2 (Anil (A_new hA0) hT.2.2.1)) (fun sz => mX1_roads l D d sd ja N j _ h_25 sz) (cwV 0 C.2.2.2.2 (lw_V q709 q584 q585 q121 q586) rfl rfl rfl hdX1_roads ⟨by dsimp only [rm_]; omega, by dsimp only [rm_]; omega⟩) (g_recv hV (hJ.1.at hT.2.2) (ci := 3) rfl) rfl hl.1 rfl (Nat.le_of_ble_eq_true rfl) dX0_rowsFrom_25 ⟨Nat.zero_le _, Nat.zero_le _⟩ (fun H locs hT => ?_)
        refine lv_ishl hx hb dX0_rowsFrom_28 ?_
        refine lv_icmp_ge (tgt := 102) hx hb dX0_rowsFrom_29 (by decide) (fun hc => ?_) (fun hc => ?_)
        · have hf := ite_t hc hf
          exact hE t _ _ _ hT (lv_sub hl [] rfl) hf
        · have hf := ite_f hc hf
          refine lv_aload_n hx hb dX0_rowsFrom_32 rfl (lv_at hl 0 rfl) ?_
          refine r_get C hV (hT.atp 0 rfl) (ci := 1) rfl in_X0 0 (by decide) q334 rfl dX0_rowsFrom_33 ?_
          refine lv_iload_n hx hb dX0_rowsFrom_36 rfl (lv_at hl 3 rfl) ?_
          obtain ⟨w_37, h_37, hf⟩ := bind_e hf
          refine g_calli (vs := [.int x3]) (rest := []) C hX hT (A_new hA0) (Cut.none _) (hJ.step hT.2.2 (Anil (A_new hA0) hT.2.2.1)) (fun sz => mX1_areFree l D d sd ja N j x3 _ h_37 sz) (cwV 1 C.2.2.2.2 (lw_V q1072 q1073 q1074 q121 q1075) rfl rfl rfl hdX1_areFree ⟨by dsimp only [rm_]; omega, by dsimp only [rm_]; omega⟩) (g_recv hV (hJ.1.at hT.2.2) (ci := 3) rfl) rfl hl.1 rfl (Nat.le_of_ble_eq_true rfl) dX0_rowsFrom_37 ⟨Nat.zero_le _, Nat.zero_le _⟩ (fun H locs hT => ?_)
          refine lv_if_ne (tgt := 46) hx hb dX0_rowsFrom_40 (by decide) (fun hc => ?_) (fun hc => ?_)
          · have hf := ite_t hc hf
            refine lv_aload_n hx hb dX0_rowsFrom_46 rfl (lv_at hl 0 rfl) ?_
            refine r_get C hV (hT.atp 0 rfl) (ci := 1) rfl in_X0 26 (by decide) q371 rfl dX0_rowsFrom_47 ?_
            refine lv_iload_n hx hb dX0_rowsFrom_50 rfl (lv_at hl 1 rfl) ?_
            refine lv_iconst (v := 1) hx hb dX0_rowsFrom_51 (by decide) ?_
            refine lv_iadd hx hb dX0_rowsFrom_52 ?_
            obtain ⟨hv_53, hf⟩ := ix_e hf
            have hi := hv_53
            have hq_53 := vin26s hi
            refine r_qld (x := (sa a (2 + ((x1 + (1 : Int32))).toNatClampNeg) 0)) C hV (hT.atp 11 rfl) (t0 := 4) rfl hi rfl dX0_rowsFrom_53 ?_
            refine lv_aload_n hx hb dX0_rowsFrom_54 rfl (lv_at hl 0 rfl) ?_
            refine r_get C hV (hT.atp 0 rfl) (ci := 1) rfl in_X0 26 (by decide) q371 rfl dX0_rowsFrom_55 ?_
            refine lv_iload_n hx hb dX0_rowsFrom_58 rfl (lv_at hl 1 rfl) ?_
            obtain ⟨hv_59, hf⟩ := ix_e hf
            have hi := hv_59
            have hq_59 := vin26s hi
            refine r_qld (x := (sa a (2 + (x1).toNatClampNeg) 0)) C hV (hT.atp 11 rfl) (t0 := 4) rfl hi rfl dX0_rowsFrom_59 ?_
            obtain ⟨w_60, h_60, hf⟩ := bind_e hf
            refine g_callv (vs := [.ref (sa a (2 + (x1).toNatClampNeg) 0)]) (rest := []) C hX hT (A_new hA0) (wC_cutS hT.2.1 hq_53 _) (wC_frz hT hq_53 hq_59 ((by have h9 := vin_succ hv_59; omega)) (t.2.2.2 (2 + ((x1 + (1 : Int32))).toNatClampNeg))) (fun sz => mX2_copyFrom l D d sd (sa a (2 + ((x1 + (1 : Int32))).toNatClampNeg)) (sa a (2 + (x1).toNatClampNeg)) N (t.2.2.2 (2 + (x1).toNatClampNeg)) (t.2.2.2 (2 + ((x1 + (1 : Int32))).toNatClampNeg))  _ h_60 sz) (cwV 1 C.2.2.2.2 (lw_V q915 q916 q917 q125 q918) rfl rfl rfl hdX2_copyFrom ⟨by dsimp only [rm_]; omega, by dsimp only [rm_]; omega⟩) (g_recv hV (hT.ats (i := (2 + ((x1 + (1 : Int32))).toNatClampNeg)) hq_53 0 rfl) (ci := 2) rfl) rfl hl.1 rfl (Nat.le_of_ble_eq_true rfl) dX0_rowsFrom_60 ⟨Nat.zero_le _, Nat.zero_le _⟩ (fun H locs hT => ?_)
            obtain ⟨t_60, et⟩ : ∃ y, y = (csS t (2 + ((x1 + (1 : Int32))).toNatClampNeg) w_60) := ⟨_, rfl⟩
            rw [← et] at hT
            have hf := lett_e et hf
            refine lv_aload_n hx hb dX0_rowsFrom_63 rfl (lv_at hl 0 rfl) ?_
            refine r_get C hV (hT.atp 0 rfl) (ci := 1) rfl in_X0 22 (by decide) q367 rfl dX0_rowsFrom_64 ?_
            refine lv_iload_n hx hb dX0_rowsFrom_67 rfl (lv_at hl 1 rfl) ?_
            refine lv_iload_n hx hb dX0_rowsFrom_68 rfl (lv_at hl 3 rfl) ?_
            obtain ⟨hi, hf⟩ := ix_e hf
            obtain ⟨t_69, et⟩ : ∃ y, y = (csA t_60 22 (x1).toNatClampNeg x3) := ⟨_, rfl⟩
            have hf := lett_e et hf
            refine w_ist (ws1 := (wC d a ja t_69)) C hV hT 9 _ rfl hi rfl (by rw [et]; exact upd_set hT.2.1 rfl (cast_22 d a ja t_60 _ _)) dX0_rowsFrom_69 (fun H locs hT => ?_)
            refine lv_aload_n hx hb dX0_rowsFrom_70 rfl (lv_at hl 0 rfl) ?_
            refine lv_iload_n hx hb dX0_rowsFrom_71 rfl (lv_at hl 3 rfl) ?_
            obtain ⟨t_72, et⟩ : ∃ y, y = (csI t_69 15 x3) := ⟨_, rfl⟩
            have hf := lett_e et hf
            refine w_put C hV hT (ws1 := (wC d a ja t_72)) 0 rfl rfl in_X0 tyX0_ok nmX0 15 (by decide) q359 (by rw [et]; exact upd_set hT.2.1 rfl (cset_15 d a ja t_69 _)) rfl rfl rfl rfl (Nat.le_of_ble_eq_true rfl) dX0_rowsFrom_72 (fun H locs hT => ?_)
            refine lv_aload_n hx hb dX0_rowsFrom_75 rfl (lv_at hl 0 rfl) ?_
            refine lv_aload_n hx hb dX0_rowsFrom_76 rfl (lv_at hl 0 rfl) ?_
            refine r_get C hV (hT.atp 0 rfl) (ci := 1) rfl in_X0 26 (by decide) q371 rfl dX0_rowsFrom_77 ?_
            refine lv_iload_n hx hb dX0_rowsFrom_80 rfl (lv_at hl 1 rfl) ?_
            refine lv_iconst (v := 1) hx hb dX0_rowsFrom_81 (by decide) ?_
            refine lv_iadd hx hb dX0_rowsFrom_82 ?_
            obtain ⟨hv_83, hf⟩ := ix_e hf
            have hi := hv_83
            have hq_83 := vin26s hi
            refine r_qld (x := (sa a (2 + ((x1 + (1 : Int32))).toNatClampNeg) 0)) C hV (hT.atp 11 rfl) (t0 := 4) rfl hi rfl dX0_rowsFrom_83 ?_
            obtain ⟨w_84, h_84, hf⟩ := bind_e hf
            refine g_calli (vs := [.ref (sa a (2 + ((x1 + (1 : Int32))).toNatClampNeg) 0)]) (rest := []) C hX hT (A_new hA0) (Cut.all (D_nd hT.2.1) ((wC_fst d a ja _).trans (wC_fst d a ja t_72).symm)) (Ro := (fun P => JAt d ja j P ∧ RAt d (a 3) r P)) ⟨hJ.step hT.2.2 (A_full hA0 hT.2.2.1), hR.2.step hT.2.2 (A_full hA0 hT.2.2.1)⟩ (fun sz => mX0_goesOn l D d sd a ja N j r (2 + ((x1 + (1 : Int32))).toNatClampNeg) t_72  _ h_84 hq_83 sz) (cwV 1 C.2.2.2.2 (lw_V q932 q934 qs30 q120 q935) rfl rfl rfl hdX0_goesOn ⟨by dsimp only [rm_]; omega, by dsimp only [rm_]; omega⟩) (g_recv hV (hT.atp 0 rfl) (ci := 1) rfl) rfl hl.1 rfl (Nat.le_of_ble_eq_true rfl) dX0_rowsFrom_84 ⟨Nat.zero_le _, Nat.zero_le _⟩ (fun H locs hT => ?_)
            refine lv_pop hx hb dX0_rowsFrom_87 rfl ?_
            refine lv_aload_n hx hb dX0_rowsFrom_88 rfl (lv_at hl 0 rfl) ?_
            refine lv_iload_n hx hb dX0_rowsFrom_89 rfl (lv_at hl 1 rfl) ?_
            refine lv_iconst (v := 1) hx hb dX0_rowsFrom_90 (by decide) ?_
            refine lv_iadd hx hb dX0_rowsFrom_91 ?_
            refine lv_iload_n hx hb dX0_rowsFrom_92 rfl (lv_at hl 2 rfl) ?_
            obtain ⟨w_93, h_93, hf⟩ := bind_e hf
            refine g_scallv (vs := [.ref (a 32), .int (x1 + (1 : Int32)), .int x2]) (rest := []) C hX hT (A_new hA0) (Cut.all (D_nd hT.2.1) ((wC_fst d a ja _).trans (wC_fst d a ja w_84.2).symm)) (Ro := (fun P => JAt d ja j P ∧ RAt d (a 3) r P)) ⟨hJ.step hT.2.2 (A_full hA0 hT.2.2.1), hR.2.step hT.2.2 (A_full hA0 hT.2.2.1)⟩ (fun sz => ihk w_84.2 (x1 + (1 : Int32)) x2 _ h_93 sz) (va_cwS 3 C.2.2.2.2 (lw_S q1101 q1102 q120 q1103) rfl rfl rfl hdX0_rowsFrom ⟨by dsimp only [rm_]; omega, by dsimp only [rm_]; omega⟩) rfl hl.1 rfl (Nat.le_of_ble_eq_true rfl) dX0_rowsFrom_93 ⟨Nat.zero_le _, Nat.zero_le _⟩ (fun H locs hT => ?_)
            obtain ⟨x3_96, ex⟩ : ∃ y : Int32, y = (x3 + (1 : Int32)) := ⟨_, rfl⟩
            have hf := lett_e ex hf
            refine lv_iinc (v := x3_96) (lv' := [(3, .int x3_96), (0, .ref (a 32)), (1, .int x1), (2, .int x2)]) hx hb dX0_rowsFrom_96 hl (k := 3) rfl (by rw [ex]; rfl) (by decide) rfl (fun ls hl => ?_)
            refine lv_goto (tgt := 19) hx hb dX0_rowsFrom_99 (by decide) ?_
            exact ih w_93 x1 x2 x3_96 _ _ _ hT (lv_sub hl [1, 2, 3, 0] rfl) hf
          · have hf := ite_f (fun q => q hc) hf
            refine lv_goto (tgt := 96) hx hb dX0_rowsFrom_43 (by decide) ?_
            obtain ⟨x3_96, ex⟩ : ∃ y : Int32, y = (x3 + (1 : Int32)) := ⟨_, rfl⟩
            have hf := lett_e ex hf
            refine lv_iinc (v := x3_96) (lv' := [(3, .int x3_96), (0, .ref (a 32)), (1, .int x1), (2, .int x2)]) hx hb dX0_rowsFrom_96 hl (k := 3) rfl (by rw [ex]; rfl) (by decide) rfl (fun ls hl => ?_)
            refine lv_goto (tgt := 19) hx hb dX0_rowsFrom_99 (by decide) ?_
            exact ih t x1 x2 x3_96 _ _ _ hT (lv_sub hl [1, 2, 3, 0] rfl) hf
    refine W.eq (by rw [hargs]) (t_in (vs := [.ref (a 32), .int x1, .int x2]) (n := 4) (Nat.le_of_ble_eq_true rfl) (fun ls hl => ?_))
    have hl : lv_has ls 4 [(0, .ref (a 32)), (1, .int x1), (2, .int x2)] := hl
    unfold fX0_rowsFrom_R at hf
    refine lv_iload_n hx hb dX0_rowsFrom_0 rfl (lv_at hl 1 rfl) ?_
    refine lv_iload_n hx hb dX0_rowsFrom_1 rfl (lv_at hl 2 rfl) ?_
    refine lv_icmp_ne (tgt := 17) hx hb dX0_rowsFrom_2 (by decide) (fun hc => ?_) (fun hc => ?_)
    · have hf := ite_t hc hf
      refine lv_iconst (v := 0) hx hb dX0_rowsFrom_17 (by decide) ?_
      refine lv_istore_n (lv' := [(3, .int (0 : Int32)), (0, .ref (a 32)), (1, .int x1), (2, .int x2)]) hx hb dX0_rowsFrom_18 rfl hl (by decide) rfl (fun ls hl => ?_)
      refine hL19 _ (fun t H locs ls hT hl hf => ?_) N t0 x1 x2 (0 : Int32) _ _ _ hT (lv_sub hl [1, 2, 3, 0] rfl) hf
      exact f_vret (wC d a ja) hA0 C hT hf hr hlocks dX0_rowsFrom_102
    · have hf := ite_f (fun q => q hc) hf
      refine lv_aload_n hx hb dX0_rowsFrom_5 rfl (lv_at hl 0 rfl) ?_
      refine lv_aload_n hx hb dX0_rowsFrom_6 rfl (lv_at hl 0 rfl) ?_
      refine r_get C hV (hT.atp 0 rfl) (ci := 1) rfl in_X0 26 (by decide) q371 rfl dX0_rowsFrom_7 ?_
      refine lv_iload_n hx hb dX0_rowsFrom_10 rfl (lv_at hl 1 rfl) ?_
      obtain ⟨hv_11, hf⟩ := ix_e hf
      have hi := hv_11
      have hq_11 := vin26s hi
      refine r_qld (x := (sa a (2 + (x1).toNatClampNeg) 0)) C hV (hT.atp 11 rfl) (t0 := 4) rfl hi rfl dX0_rowsFrom_11 ?_
      refine lv_iload_n hx hb dX0_rowsFrom_12 rfl (lv_at hl 2 rfl) ?_
      obtain ⟨w_13, h_13, hf⟩ := bind_e hf
      refine g_callv (vs := [.ref (sa a (2 + (x1).toNatClampNeg) 0), .int x2]) (rest := []) C hX hT (A_new hA0) (Cut.all (D_nd hT.2.1) ((wC_fst d a ja _).trans (wC_fst d a ja t0).symm)) (Ro := (fun P => JAt d ja j P ∧ RAt d (a 3) r P)) ⟨hJ.step hT.2.2 (A_full hA0 hT.2.2.1), hR.2.step hT.2.2 (A_full hA0 hT.2.2.1)⟩ (fun sz => mX0_triesRow l D d sd a ja N j r (2 + (x1).toNatClampNeg) t0 x2 _ h_13 hq_11 sz) (cwV 2 C.2.2.2.2 (lw_V q1104 q1106 qs36 q120 q1107) rfl rfl rfl hdX0_triesRow ⟨by dsimp only [rm_]; omega, by dsimp only [rm_]; omega⟩) (g_recv hV (hT.atp 0 rfl) (ci := 1) rfl) rfl hl.1 rfl (Nat.le_of_ble_eq_true rfl) dX0_rowsFrom_13 ⟨Nat.zero_le _, Nat.zero_le _⟩ (fun H locs hT => ?_)
      exact f_vret (wC d a ja) hA0 C hT hf hr hlocks dX0_rowsFrom_16
def fX0_beats_B26 (N : Nat) (j : JS) (r : RS) (K : CS → Int32 → Int32 → Option (Int32 × CS)) (kb : CS → Int32 → Int32 → Option (Int32 × CS)) (t : CS) (x1 : Int32) (x2 : Int32) : Option (Int32 × CS) :=
  ((fX0_canLay N j r 8 t (0 : Int32) x2).bind fun w_29 => (if ¬ w_29.1 = 0 then (K w_29.2 x1 x2) else (lett (x2 + (1 : Int32)) fun x2_35 => (kb w_29.2 x1 x2_35))))
def fX0_beats_L26 (N : Nat) (j : JS) (r : RS) (K : CS → Int32 → Int32 → Option (Int32 × CS)) : Nat → CS → Int32 → Int32 → Option (Int32 × CS)
  | 0 => fun _ _ _ => none
  | n + 1 => fun t x1 x2 => fX0_beats_B26 N j r K (fX0_beats_L26 N j r K n) t x1 x2
def fX0_beats (N : Nat) (j : JS) (r : RS) (t0 : CS) (x1 : Int32) : Option (Int32 × CS) :=
  ((fX0_isJunction N j r  t0 ).bind fun w_1 => (if w_1.1 = 0 then (some ((-3 : Int32), w_1.2)) else ((fX0_in N (x1).toInt64 (-1 : Int64) (5 : Int64)).bind fun w_15 => (if ¬ w_15 = 0 then (fX0_beats_L26 N j r (fun t x1 x2 => (if ¬ x1 = (-1 : Int32) then ((fX0_isRoad N j r  t x1).bind fun w_52 => (if w_52.1 = 0 then (some ((-2 : Int32), w_52.2)) else (ix x1 6 (some ((w_52.2.2.1 21 (x1).toNatClampNeg), w_52.2))))) else (some (x2, t)))) N w_1.2 x1 (0 : Int32)) else (some ((-3 : Int32), w_1.2))))))
theorem hdX0_beats : yX0_beats.cls = RX0 ∧ yX0_beats.cls ≠ "java/lang/invoke/MethodHandle" ∧ yX0_beats.cls ≠ "java/lang/invoke/VarHandle" ∧ (parseMethodDescriptor yX0_beats.desc).map (fun d => d.parameters.length) = some 1 := by decide +kernel
set_option maxHeartbeats 4000000 in
theorem mX0_beats (l : Launch) (D : va_G) (d : Nat → ClassId) (sd : Nat) (a : Nat → Nat) (ja : Nat → Nat) (N : Nat) (j : JS) (r : RS) (t0 : CS) (x1 : Int32) (w : Int32 × CS) (hf : fX0_beats N j r t0 x1 = some w) (sz : Nat) : Met l yX0_beats (ws_ yX0_beats cX0_beats 3 (some .int)) (rm_ 12 445) (GPc D d sd [.ref (a 32), .int x1] (wC d a ja t0) (fun P => JAt d ja j P ∧ RAt d (a 3) r P) sz) (GQi D w.1 (wC d a ja w.2) (wC d a ja t0) sz) 0 0 (va_A (wC d a ja t0) sz) := by
  refine Met.ofW (cc := cX0_beats) (maxL := 3) (ret := (some .int)) plX0 rfl ?_
  intro p e s m args below meth c s₁ B hml hv
  obtain ⟨C, hX, hR, hT, hr, hlocks, hargs, rfl⟩ := g_enter (own := RX0) B hml rfl hv
  have hx := C.1
  have hb := C.2.1
  have hV := hX.1
  obtain ⟨A, hA0⟩ : ∃ A, A = va_A (wC d a ja t0) s.heap.size := ⟨_, rfl⟩
  rw [← hA0] at hX hR hT
  show W p l e (rm_ 12 445) s m args below meth c s.heap [] 0 0 (MQ below (GQi D w.1 (wC d a ja w.2) (wC d a ja t0) s.heap.size) args s 0 0 (va_A (wC d a ja t0) s.heap.size)) _
  rw [← hA0]
  have hJ := hR.1
  obtain ⟨rmc, rel, rcap, rf, hrl, hrel, hrc, hrg⟩ := hR.2.unpack
  have hL26 : ∀ (K : CS → Int32 → Int32 → Option (Int32 × CS)), (∀ (t : CS) (x1 : Int32) (x2 : Int32) (H : Heap) (locs : List Loc) (ls : Array Slot), TH D A s.heap (wC d a ja t) H locs → lv_has ls 3 [(0, .ref (a 32)), (1, .int x1), (2, .int x2)] → K t x1 x2 = some w → W p l e (rm_ 12 445) s m args below meth c H locs 0 0 (MQ below (GQi D w.1 (wC d a ja w.2) (wC d a ja t0) s.heap.size) args s 0 0 A) (F0 m 41 ls [])) → ∀ (n : Nat) (t : CS) (x1 : Int32) (x2 : Int32) (H : Heap) (locs : List Loc) (ls : Array Slot), TH D A s.heap (wC d a ja t) H locs → lv_has ls 3 [(0, .ref (a 32)), (1, .int x1), (2, .int x2)] → fX0_beats_L26 N j r K n t x1 x2 = some w → W p l e (rm_ 12 445) s m args below meth c H locs 0 0 (MQ below (GQi D w.1 (wC d a ja w.2) (wC d a ja t0) s.heap.size) args s 0 0 A) (F0 m 26 ls []) := by
    intro K hE n
    induction n with
    | zero =>
      intro t x1 x2 H locs ls hT hl hf
      cases hf
    | succ n ih =>
      intro t x1 x2 H locs ls hT hl hf
      replace hf : fX0_beats_B26 N j r K (fX0_beats_L26 N j r K n) t x1 x2 = some w := hf
      unfold fX0_beats_B26 at hf
      refine lv_aload_n hx hb dX0_beats_26 rfl (lv_at hl 0 rfl) ?_
      refine lv_iconst (v := 0) hx hb dX0_beats_27 (by decide) ?_
      refine lv_iload_n hx hb dX0_beats_28 rfl (lv_at hl 2 rfl) ?_
      obtain ⟨w_29, h_29, hf⟩ := bind_e hf
      refine g_scalli (vs := [.ref (a 32), .int (0 : Int32), .int x2]) (rest := []) C hX hT (A_new hA0) (Cut.all (D_nd hT.2.1) ((wC_fst d a ja _).trans (wC_fst d a ja t).symm)) (Ro := (fun P => JAt d ja j P ∧ RAt d (a 3) r P)) ⟨hJ.step hT.2.2 (A_full hA0 hT.2.2.1), hR.2.step hT.2.2 (A_full hA0 hT.2.2.1)⟩ (fun sz => mX0_canLay l D d sd a ja N j r 8 t (0 : Int32) x2 _ h_29 sz) (va_cwS 3 C.2.2.2.2 (lw_S q1083 q1084 q120 q1085) rfl rfl rfl hdX0_canLay ⟨Nat.le_of_ble_eq_true rfl, Nat.le_of_ble_eq_true rfl⟩) rfl hl.1 rfl (Nat.le_of_ble_eq_true rfl) dX0_beats_29 ⟨Nat.zero_le _, Nat.zero_le _⟩ (fun H locs hT => ?_)
      refine lv_if_ne (tgt := 41) hx hb dX0_beats_32 (by decide) (fun hc => ?_) (fun hc => ?_)
      · have hf := ite_t hc hf
        exact hE w_29.2 x1 x2 _ _ _ hT hl hf
      · have hf := ite_f (fun q => q hc) hf
        obtain ⟨x2_35, ex⟩ : ∃ y : Int32, y = (x2 + (1 : Int32)) := ⟨_, rfl⟩
        have hf := lett_e ex hf
        refine lv_iinc (v := x2_35) (lv' := [(2, .int x2_35), (0, .ref (a 32)), (1, .int x1)]) hx hb dX0_beats_35 hl (k := 2) rfl (by rw [ex]; rfl) (by decide) rfl (fun ls hl => ?_)
        refine lv_goto (tgt := 26) hx hb dX0_beats_38 (by decide) ?_
        exact ih w_29.2 x1 x2_35 _ _ _ hT (lv_sub hl [1, 2, 0] rfl) hf
  refine W.eq (by rw [hargs]) (t_in (vs := [.ref (a 32), .int x1]) (n := 3) (Nat.le_of_ble_eq_true rfl) (fun ls hl => ?_))
  have hl : lv_has ls 3 [(0, .ref (a 32)), (1, .int x1)] := hl
  unfold fX0_beats at hf
  refine lv_aload_n hx hb dX0_beats_0 rfl (lv_at hl 0 rfl) ?_
  obtain ⟨w_1, h_1, hf⟩ := bind_e hf
  refine g_calli (vs := []) (rest := []) C hX hT (A_new hA0) (Cut.all (D_nd hT.2.1) ((wC_fst d a ja _).trans (wC_fst d a ja t0).symm)) (Ro := (fun P => JAt d ja j P ∧ RAt d (a 3) r P)) ⟨hJ.step hT.2.2 (A_full hA0 hT.2.2.1), hR.2.step hT.2.2 (A_full hA0 hT.2.2.1)⟩ (fun sz => mX0_isJunction l D d sd a ja N j r  t0  _ h_1 sz) (cwV 0 C.2.2.2.2 (lw_V q923 q925 qs28 q120 q926) rfl rfl rfl hdX0_isJunction ⟨Nat.le_of_ble_eq_true rfl, Nat.le_of_ble_eq_true rfl⟩) (g_recv hV (hT.atp 0 rfl) (ci := 1) rfl) rfl hl.1 rfl (Nat.le_of_ble_eq_true rfl) dX0_beats_1 ⟨Nat.zero_le _, Nat.zero_le _⟩ (fun H locs hT => ?_)
  refine lv_if_eq (tgt := 21) hx hb dX0_beats_4 (by decide) (fun hc => ?_) (fun hc => ?_)
  · have hf := ite_t hc hf
    refine lv_bipush (v := -3) hx hb dX0_beats_21 (by decide) ?_
    exact f_iret (wC d a ja) hA0 C hT hf hr hlocks dX0_beats_23
  · have hf := ite_f hc hf
    refine lv_iload_n hx hb dX0_beats_7 rfl (lv_at hl 1 rfl) ?_
    refine lv_i2l hx hb dX0_beats_8 rfl ?_
    refine g_ldc2 (v := -1) C q884 dX0_beats_9 ?_
    refine g_ldc2 (v := 5) C q1082 dX0_beats_12 ?_
    obtain ⟨w_15, h_15, hf⟩ := bind_e hf
    refine s_calli (vs := [.long (x1).toInt64, .long (-1 : Int64), .long (5 : Int64)]) (rest := []) C (A_new hA0) hT (fun sz => mX0_in l N (x1).toInt64 (-1 : Int64) (5 : Int64) _ h_15 sz) (va_cwS 3 C.2.2.2.2 (lw_S q885 q518 q120 q519) rfl rfl rfl hdX0_in ⟨Nat.le_of_ble_eq_true rfl, Nat.le_of_ble_eq_true rfl⟩) rfl hl.1 rfl (Nat.le_of_ble_eq_true rfl) dX0_beats_15 ⟨Nat.zero_le _, Nat.zero_le _⟩ (fun H locs hT => ?_)
    refine lv_if_ne (tgt := 24) hx hb dX0_beats_18 (by decide) (fun hc => ?_) (fun hc => ?_)
    · have hf := ite_t hc hf
      refine lv_iconst (v := 0) hx hb dX0_beats_24 (by decide) ?_
      refine lv_istore_n (lv' := [(2, .int (0 : Int32)), (0, .ref (a 32)), (1, .int x1)]) hx hb dX0_beats_25 rfl hl (by decide) rfl (fun ls hl => ?_)
      refine hL26 _ (fun t x1 x2 H locs ls hT hl hf => ?_) N w_1.2 x1 (0 : Int32) _ _ _ hT (lv_sub hl [1, 2, 0] rfl) hf
      refine lv_iload_n hx hb dX0_beats_41 rfl (lv_at hl 1 rfl) ?_
      refine lv_iconst (v := -1) hx hb dX0_beats_42 (by decide) ?_
      refine lv_icmp_ne (tgt := 50) hx hb dX0_beats_43 (by decide) (fun hc => ?_) (fun hc => ?_)
      · have hf := ite_t hc hf
        refine lv_aload_n hx hb dX0_beats_50 rfl (lv_at hl 0 rfl) ?_
        refine lv_iload_n hx hb dX0_beats_51 rfl (lv_at hl 1 rfl) ?_
        obtain ⟨w_52, h_52, hf⟩ := bind_e hf
        refine g_calli (vs := [.int x1]) (rest := []) C hX hT (A_new hA0) (Cut.all (D_nd hT.2.1) ((wC_fst d a ja _).trans (wC_fst d a ja t).symm)) (Ro := (fun P => JAt d ja j P ∧ RAt d (a 3) r P)) ⟨hJ.step hT.2.2 (A_full hA0 hT.2.2.1), hR.2.step hT.2.2 (A_full hA0 hT.2.2.1)⟩ (fun sz => mX0_isRoad l D d sd a ja N j r  t x1 _ h_52 sz) (cwV 1 C.2.2.2.2 (lw_V q890 q892 qs26 q120 q893) rfl rfl rfl hdX0_isRoad ⟨Nat.le_of_ble_eq_true rfl, Nat.le_of_ble_eq_true rfl⟩) (g_recv hV (hT.atp 0 rfl) (ci := 1) rfl) rfl hl.1 rfl (Nat.le_of_ble_eq_true rfl) dX0_beats_52 ⟨Nat.zero_le _, Nat.zero_le _⟩ (fun H locs hT => ?_)
        refine lv_if_eq (tgt := 67) hx hb dX0_beats_55 (by decide) (fun hc => ?_) (fun hc => ?_)
        · have hf := ite_t hc hf
          refine lv_bipush (v := -2) hx hb dX0_beats_67 (by decide) ?_
          exact f_iret (wC d a ja) hA0 C hT hf hr hlocks dX0_beats_69
        · have hf := ite_f hc hf
          refine lv_aload_n hx hb dX0_beats_58 rfl (lv_at hl 0 rfl) ?_
          refine r_get C hV (hT.atp 0 rfl) (ci := 1) rfl in_X0 21 (by decide) q366 rfl dX0_beats_59 ?_
          refine lv_iload_n hx hb dX0_beats_62 rfl (lv_at hl 1 rfl) ?_
          obtain ⟨hi, hf⟩ := ix_e hf
          refine r_ild C hV (hT.atp 8 rfl) _ hi rfl dX0_beats_63 ?_
          refine lv_goto (tgt := 69) hx hb dX0_beats_64 (by decide) ?_
          exact f_iret (wC d a ja) hA0 C hT hf hr hlocks dX0_beats_69
      · have hf := ite_f (fun q => q hc) hf
        refine lv_iload_n hx hb dX0_beats_46 rfl (lv_at hl 2 rfl) ?_
        refine lv_goto (tgt := 69) hx hb dX0_beats_47 (by decide) ?_
        exact f_iret (wC d a ja) hA0 C hT hf hr hlocks dX0_beats_69
    · have hf := ite_f (fun q => q hc) hf
      refine lv_bipush (v := -3) hx hb dX0_beats_21 (by decide) ?_
      exact f_iret (wC d a ja) hA0 C hT hf hr hlocks dX0_beats_23
def fX0_row (N : Nat) (j : JS) (r : RS) (t0 : CS) (x1 : Int32) (x2 : Int32) : Option (Int32 × CS) :=
  ((fX0_isJunction N j r  t0 ).bind fun w_1 => (if w_1.1 = 0 then (some ((-10000 : Int32), w_1.2)) else ((fX0_in N (x1).toInt64 (1 : Int64) (3 : Int64)).bind fun w_13 => (if w_13 = 0 then (some ((-10000 : Int32), w_1.2)) else ((fX0_in N (x2).toInt64 (0 : Int64) (4 : Int64)).bind fun w_25 => (if ¬ w_25 = 0 then (lett (csI w_1.2 24 (-1 : Int32)) fun t_37 => ((fX2_copyFrom N (t_37.2.2.2 0) (t_37.2.2.2 2) ).bind fun w_50 => (lett (csS t_37 2 w_50) fun t_50 => ((fX0_rowsFrom N j r 5 t_50 (0 : Int32) x1).bind fun w_56 => (lett (csI w_56 15 (-1 : Int32)) fun t_61 => (if (2 : Int32) ≤ x2 then (if x1 ≤ (x2 - (2 : Int32)) then (some ((-2 : Int32), t_61)) else (ix (x2 - (2 : Int32)) 3 (some ((t_61.2.1 23 ((x2 - (2 : Int32))).toNatClampNeg), t_61)))) else (if ¬ x2 = 0 then (some ((t_61.1 25), t_61)) else (some ((t_61.1 24), t_61))))))))) else (some ((-10000 : Int32), w_1.2))))))))
theorem hdX0_row : yX0_row.cls = RX0 ∧ yX0_row.cls ≠ "java/lang/invoke/MethodHandle" ∧ yX0_row.cls ≠ "java/lang/invoke/VarHandle" ∧ (parseMethodDescriptor yX0_row.desc).map (fun d => d.parameters.length) = some 2 := by decide +kernel
set_option maxHeartbeats 4000000 in
theorem mX0_row (l : Launch) (D : va_G) (d : Nat → ClassId) (sd : Nat) (a : Nat → Nat) (ja : Nat → Nat) (N : Nat) (j : JS) (r : RS) (t0 : CS) (x1 : Int32) (x2 : Int32) (w : Int32 × CS) (hf : fX0_row N j r t0 x1 x2 = some w) (sz : Nat) : Met l yX0_row (ws_ yX0_row cX0_row 3 (some .int)) (rm_ 276 9223) (GPc D d sd [.ref (a 32), .int x1, .int x2] (wC d a ja t0) (fun P => JAt d ja j P ∧ RAt d (a 3) r P) sz) (GQi D w.1 (wC d a ja w.2) (wC d a ja t0) sz) 0 0 (va_A (wC d a ja t0) sz) := by
  refine Met.ofW (cc := cX0_row) (maxL := 3) (ret := (some .int)) plX0 rfl ?_
  intro p e s m args below meth c s₁ B hml hv
  obtain ⟨C, hX, hR, hT, hr, hlocks, hargs, rfl⟩ := g_enter (own := RX0) B hml rfl hv
  have hx := C.1
  have hb := C.2.1
  have hV := hX.1
  obtain ⟨A, hA0⟩ : ∃ A, A = va_A (wC d a ja t0) s.heap.size := ⟨_, rfl⟩
  rw [← hA0] at hX hR hT
  show W p l e (rm_ 276 9223) s m args below meth c s.heap [] 0 0 (MQ below (GQi D w.1 (wC d a ja w.2) (wC d a ja t0) s.heap.size) args s 0 0 (va_A (wC d a ja t0) s.heap.size)) _
  rw [← hA0]
  have hJ := hR.1
  obtain ⟨rmc, rel, rcap, rf, hrl, hrel, hrc, hrg⟩ := hR.2.unpack
  refine W.eq (by rw [hargs]) (t_in (vs := [.ref (a 32), .int x1, .int x2]) (n := 3) (Nat.le_of_ble_eq_true rfl) (fun ls hl => ?_))
  have hl : lv_has ls 3 [(0, .ref (a 32)), (1, .int x1), (2, .int x2)] := hl
  unfold fX0_row at hf
  refine lv_aload_n hx hb dX0_row_0 rfl (lv_at hl 0 rfl) ?_
  obtain ⟨w_1, h_1, hf⟩ := bind_e hf
  refine g_calli (vs := []) (rest := []) C hX hT (A_new hA0) (Cut.all (D_nd hT.2.1) ((wC_fst d a ja _).trans (wC_fst d a ja t0).symm)) (Ro := (fun P => JAt d ja j P ∧ RAt d (a 3) r P)) ⟨hJ.step hT.2.2 (A_full hA0 hT.2.2.1), hR.2.step hT.2.2 (A_full hA0 hT.2.2.1)⟩ (fun sz => mX0_isJunction l D d sd a ja N j r  t0  _ h_1 sz) (cwV 0 C.2.2.2.2 (lw_V q923 q925 qs28 q120 q926) rfl rfl rfl hdX0_isJunction ⟨Nat.le_of_ble_eq_true rfl, Nat.le_of_ble_eq_true rfl⟩) (g_recv hV (hT.atp 0 rfl) (ci := 1) rfl) rfl hl.1 rfl (Nat.le_of_ble_eq_true rfl) dX0_row_1 ⟨Nat.zero_le _, Nat.zero_le _⟩ (fun H locs hT => ?_)
  refine lv_if_eq (tgt := 31) hx hb dX0_row_4 (by decide) (fun hc => ?_) (fun hc => ?_)
  · have hf := ite_t hc hf
    refine lv_sipush (v := -10000) hx hb dX0_row_31 (by decide) ?_
    exact f_iret (wC d a ja) hA0 C hT hf hr hlocks dX0_row_34
  · have hf := ite_f hc hf
    refine lv_iload_n hx hb dX0_row_7 rfl (lv_at hl 1 rfl) ?_
    refine lv_i2l hx hb dX0_row_8 rfl ?_
    refine lv_lconst (v := 1) hx hb dX0_row_9 (by decide) ?_
    refine g_ldc2 (v := 3) C q1099 dX0_row_10 ?_
    obtain ⟨w_13, h_13, hf⟩ := bind_e hf
    refine s_calli (vs := [.long (x1).toInt64, .long (1 : Int64), .long (3 : Int64)]) (rest := []) C (A_new hA0) hT (fun sz => mX0_in l N (x1).toInt64 (1 : Int64) (3 : Int64) _ h_13 sz) (va_cwS 3 C.2.2.2.2 (lw_S q885 q518 q120 q519) rfl rfl rfl hdX0_in ⟨Nat.le_of_ble_eq_true rfl, Nat.le_of_ble_eq_true rfl⟩) rfl hl.1 rfl (Nat.le_of_ble_eq_true rfl) dX0_row_13 ⟨Nat.zero_le _, Nat.zero_le _⟩ (fun H locs hT => ?_)
    refine lv_if_eq (tgt := 31) hx hb dX0_row_16 (by decide) (fun hc => ?_) (fun hc => ?_)
    · have hf := ite_t hc hf
      refine lv_sipush (v := -10000) hx hb dX0_row_31 (by decide) ?_
      exact f_iret (wC d a ja) hA0 C hT hf hr hlocks dX0_row_34
    · have hf := ite_f hc hf
      refine lv_iload_n hx hb dX0_row_19 rfl (lv_at hl 2 rfl) ?_
      refine lv_i2l hx hb dX0_row_20 rfl ?_
      refine lv_lconst (v := 0) hx hb dX0_row_21 (by decide) ?_
      refine g_ldc2 (v := 4) C q1100 dX0_row_22 ?_
      obtain ⟨w_25, h_25, hf⟩ := bind_e hf
      refine s_calli (vs := [.long (x2).toInt64, .long (0 : Int64), .long (4 : Int64)]) (rest := []) C (A_new hA0) hT (fun sz => mX0_in l N (x2).toInt64 (0 : Int64) (4 : Int64) _ h_25 sz) (va_cwS 3 C.2.2.2.2 (lw_S q885 q518 q120 q519) rfl rfl rfl hdX0_in ⟨Nat.le_of_ble_eq_true rfl, Nat.le_of_ble_eq_true rfl⟩) rfl hl.1 rfl (Nat.le_of_ble_eq_true rfl) dX0_row_25 ⟨Nat.zero_le _, Nat.zero_le _⟩ (fun H locs hT => ?_)
      refine lv_if_ne (tgt := 35) hx hb dX0_row_28 (by decide) (fun hc => ?_) (fun hc => ?_)
      · have hf := ite_t hc hf
        refine lv_aload_n hx hb dX0_row_35 rfl (lv_at hl 0 rfl) ?_
        refine lv_iconst (v := -1) hx hb dX0_row_36 (by decide) ?_
        obtain ⟨t_37, et⟩ : ∃ y, y = (csI w_1.2 24 (-1 : Int32)) := ⟨_, rfl⟩
        have hf := lett_e et hf
        refine w_put C hV hT (ws1 := (wC d a ja t_37)) 0 rfl rfl in_X0 tyX0_ok nmX0 24 (by decide) q369 (by rw [et]; exact upd_set hT.2.1 rfl (cset_24 d a ja w_1.2 _)) rfl rfl rfl rfl (Nat.le_of_ble_eq_true rfl) dX0_row_37 (fun H locs hT => ?_)
        refine lv_aload_n hx hb dX0_row_40 rfl (lv_at hl 0 rfl) ?_
        refine r_get C hV (hT.atp 0 rfl) (ci := 1) rfl in_X0 26 (by decide) q371 rfl dX0_row_41 ?_
        refine lv_iconst (v := 0) hx hb dX0_row_44 (by decide) ?_
        refine r_qld (x := (sa a 2 0)) C hV (hT.atp 11 rfl) (t0 := 4) rfl (vin_of (by decide)) rfl dX0_row_45 ?_
        refine lv_aload_n hx hb dX0_row_46 rfl (lv_at hl 0 rfl) ?_
        refine r_get C hV (hT.atp 0 rfl) (ci := 1) rfl in_X0 1 (by decide) q336 rfl dX0_row_47 ?_
        obtain ⟨w_50, h_50, hf⟩ := bind_e hf
        refine g_callv (vs := [.ref (sa a 0 0)]) (rest := []) C hX hT (A_new hA0) (wC_cutS hT.2.1 (by decide) _) (wC_frz hT (by decide) (by decide) ((by decide)) (t_37.2.2.2 2)) (fun sz => mX2_copyFrom l D d sd (sa a 2) (sa a 0) N (t_37.2.2.2 0) (t_37.2.2.2 2)  _ h_50 sz) (cwV 1 C.2.2.2.2 (lw_V q915 q916 q917 q125 q918) rfl rfl rfl hdX2_copyFrom ⟨Nat.le_of_ble_eq_true rfl, Nat.le_of_ble_eq_true rfl⟩) (g_recv hV (hT.ats (i := 2) (by decide) 0 rfl) (ci := 2) rfl) rfl hl.1 rfl (Nat.le_of_ble_eq_true rfl) dX0_row_50 ⟨Nat.zero_le _, Nat.zero_le _⟩ (fun H locs hT => ?_)
        obtain ⟨t_50, et⟩ : ∃ y, y = (csS t_37 2 w_50) := ⟨_, rfl⟩
        rw [← et] at hT
        have hf := lett_e et hf
        refine lv_aload_n hx hb dX0_row_53 rfl (lv_at hl 0 rfl) ?_
        refine lv_iconst (v := 0) hx hb dX0_row_54 (by decide) ?_
        refine lv_iload_n hx hb dX0_row_55 rfl (lv_at hl 1 rfl) ?_
        obtain ⟨w_56, h_56, hf⟩ := bind_e hf
        refine g_scallv (vs := [.ref (a 32), .int (0 : Int32), .int x1]) (rest := []) C hX hT (A_new hA0) (Cut.all (D_nd hT.2.1) ((wC_fst d a ja _).trans (wC_fst d a ja t_50).symm)) (Ro := (fun P => JAt d ja j P ∧ RAt d (a 3) r P)) ⟨hJ.step hT.2.2 (A_full hA0 hT.2.2.1), hR.2.step hT.2.2 (A_full hA0 hT.2.2.1)⟩ (fun sz => mX0_rowsFrom l D d sd a ja N j r 5 t_50 (0 : Int32) x1 _ h_56 sz) (va_cwS 3 C.2.2.2.2 (lw_S q1101 q1102 q120 q1103) rfl rfl rfl hdX0_rowsFrom ⟨Nat.le_of_ble_eq_true rfl, Nat.le_of_ble_eq_true rfl⟩) rfl hl.1 rfl (Nat.le_of_ble_eq_true rfl) dX0_row_56 ⟨Nat.zero_le _, Nat.zero_le _⟩ (fun H locs hT => ?_)
        refine lv_aload_n hx hb dX0_row_59 rfl (lv_at hl 0 rfl) ?_
        refine lv_iconst (v := -1) hx hb dX0_row_60 (by decide) ?_
        obtain ⟨t_61, et⟩ : ∃ y, y = (csI w_56 15 (-1 : Int32)) := ⟨_, rfl⟩
        have hf := lett_e et hf
        refine w_put C hV hT (ws1 := (wC d a ja t_61)) 0 rfl rfl in_X0 tyX0_ok nmX0 15 (by decide) q359 (by rw [et]; exact upd_set hT.2.1 rfl (cset_15 d a ja w_56 _)) rfl rfl rfl rfl (Nat.le_of_ble_eq_true rfl) dX0_row_61 (fun H locs hT => ?_)
        refine lv_iload_n hx hb dX0_row_64 rfl (lv_at hl 2 rfl) ?_
        refine lv_iconst (v := 2) hx hb dX0_row_65 (by decide) ?_
        refine lv_icmp_ge (tgt := 85) hx hb dX0_row_66 (by decide) (fun hc => ?_) (fun hc => ?_)
        · have hf := ite_t hc hf
          refine lv_iload_n hx hb dX0_row_85 rfl (lv_at hl 2 rfl) ?_
          refine lv_iconst (v := 2) hx hb dX0_row_86 (by decide) ?_
          refine lv_isub hx hb dX0_row_87 ?_
          refine lv_iload_n hx hb dX0_row_88 rfl (lv_at hl 1 rfl) ?_
          refine lv_icmp_ge (tgt := 103) hx hb dX0_row_89 (by decide) (fun hc => ?_) (fun hc => ?_)
          · have hf := ite_t hc hf
            refine lv_bipush (v := -2) hx hb dX0_row_103 (by decide) ?_
            exact f_iret (wC d a ja) hA0 C hT hf hr hlocks dX0_row_105
          · have hf := ite_f hc hf
            refine lv_aload_n hx hb dX0_row_92 rfl (lv_at hl 0 rfl) ?_
            refine r_get C hV (hT.atp 0 rfl) (ci := 1) rfl in_X0 23 (by decide) q368 rfl dX0_row_93 ?_
            refine lv_iload_n hx hb dX0_row_96 rfl (lv_at hl 2 rfl) ?_
            refine lv_iconst (v := 2) hx hb dX0_row_97 (by decide) ?_
            refine lv_isub hx hb dX0_row_98 ?_
            obtain ⟨hi, hf⟩ := ix_e hf
            refine r_ild C hV (hT.atp 10 rfl) _ hi rfl dX0_row_99 ?_
            refine lv_goto (tgt := 105) hx hb dX0_row_100 (by decide) ?_
            exact f_iret (wC d a ja) hA0 C hT hf hr hlocks dX0_row_105
        · have hf := ite_f hc hf
          refine lv_iload_n hx hb dX0_row_69 rfl (lv_at hl 2 rfl) ?_
          refine lv_if_ne (tgt := 80) hx hb dX0_row_70 (by decide) (fun hc => ?_) (fun hc => ?_)
          · have hf := ite_t hc hf
            refine lv_aload_n hx hb dX0_row_80 rfl (lv_at hl 0 rfl) ?_
            refine r_get C hV (hT.atp 0 rfl) (ci := 1) rfl in_X0 25 (by decide) q370 rfl dX0_row_81 ?_
            exact f_iret (wC d a ja) hA0 C hT hf hr hlocks dX0_row_84
          · have hf := ite_f (fun q => q hc) hf
            refine lv_aload_n hx hb dX0_row_73 rfl (lv_at hl 0 rfl) ?_
            refine r_get C hV (hT.atp 0 rfl) (ci := 1) rfl in_X0 24 (by decide) q369 rfl dX0_row_74 ?_
            refine lv_goto (tgt := 84) hx hb dX0_row_77 (by decide) ?_
            exact f_iret (wC d a ja) hA0 C hT hf hr hlocks dX0_row_84
      · have hf := ite_f (fun q => q hc) hf
        refine lv_sipush (v := -10000) hx hb dX0_row_31 (by decide) ?_
        exact f_iret (wC d a ja) hA0 C hT hf hr hlocks dX0_row_34
