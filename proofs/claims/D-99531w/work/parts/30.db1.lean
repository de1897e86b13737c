set_option maxRecDepth 100000
def fX0_put_B3 (N : Nat) (j : JS) (r : RS) (K : CS → Option (CS)) (kb : CS → Int32 → Int32 → Option (CS)) (t : CS) (x1 : Int32) (x2 : Int32) : Option (CS) :=
  (if x2 < 0 then (K t) else (ix (t.1 7) 400 (lett (csA t 6 ((t.1 7)).toNatClampNeg (vp_nar .byte ((x1 >>> (x2 &&& 31))).toInt8.toInt32)) fun t_19 => (lett (csI t_19 7 ((t_19.1 7) + (1 : Int32))) fun t_27 => (lett (x2 + (-8 : Int32)) fun x2_30 => (kb t_27 x1 x2_30))))))
def fX0_put_L3 (N : Nat) (j : JS) (r : RS) (K : CS → Option (CS)) : Nat → CS → Int32 → Int32 → Option (CS)
  | 0 => fun _ _ _ => none
  | n + 1 => fun t x1 x2 => fX0_put_B3 N j r K (fX0_put_L3 N j r K n) t x1 x2
def fX0_put (N : Nat) (j : JS) (r : RS) (t0 : CS) (x1 : Int32) : Option (CS) :=
  (fX0_put_L3 N j r (fun t => (some t)) N t0 x1 (24 : Int32))
theorem hdX0_put : yX0_put.cls = RX0 ∧ yX0_put.cls ≠ "java/lang/invoke/MethodHandle" ∧ yX0_put.cls ≠ "java/lang/invoke/VarHandle" ∧ (parseMethodDescriptor yX0_put.desc).map (fun d => d.parameters.length) = some 1 := by decide +kernel
set_option maxHeartbeats 4000000 in
theorem mX0_put (l : Launch) (D : va_G) (d : Nat → ClassId) (sd : Nat) (a : Nat → Nat) (ja : Nat → Nat) (N : Nat) (j : JS) (r : RS) (t0 : CS) (x1 : Int32) (w : CS) (hf : fX0_put N j r t0 x1 = some w) (sz : Nat) : Met l yX0_put (ws_ yX0_put cX0_put 3 none) (rm_ 0 0) (GPc D d sd [.ref (a 32), .int x1] (wC d a ja t0) (fun P => JAt d ja j P ∧ RAt d (a 3) r P) sz) (GQv D (wC d a ja w) (wC d a ja t0) sz) 0 0 (va_A (wC d a ja t0) sz) := by
  refine Met.ofW (cc := cX0_put) (maxL := 3) (ret := none) plX0 rfl ?_
  intro p e s m args below meth c s₁ B hml hv
  obtain ⟨C, hX, hR, hT, hr, hlocks, hargs, rfl⟩ := g_enter (own := RX0) B hml rfl hv
  have hx := C.1
  have hb := C.2.1
  have hV := hX.1
  obtain ⟨A, hA0⟩ : ∃ A, A = va_A (wC d a ja t0) s.heap.size := ⟨_, rfl⟩
  rw [← hA0] at hX hR hT
  show W p l e (rm_ 0 0) s m args below meth c s.heap [] 0 0 (MQ below (GQv D (wC d a ja w) (wC d a ja t0) s.heap.size) args s 0 0 (va_A (wC d a ja t0) s.heap.size)) _
  rw [← hA0]
  have hJ := hR.1
  obtain ⟨rmc, rel, rcap, rf, hrl, hrel, hrc, hrg⟩ := hR.2.unpack
  have hL3 : ∀ (K : CS → Option (CS)), (∀ (t : CS) (H : Heap) (locs : List Loc) (ls : Array Slot), TH D A s.heap (wC d a ja t) H locs → lv_has ls 3 [] → K t = some w → W p l e (rm_ 0 0) s m args below meth c H locs 0 0 (MQ below (GQv D (wC d a ja w) (wC d a ja t0) s.heap.size) args s 0 0 A) (F0 m 36 ls [])) → ∀ (n : Nat) (t : CS) (x1 : Int32) (x2 : Int32) (H : Heap) (locs : List Loc) (ls : Array Slot), TH D A s.heap (wC d a ja t) H locs → lv_has ls 3 [(0, .ref (a 32)), (1, .int x1), (2, .int x2)] → fX0_put_L3 N j r K n t x1 x2 = some w → W p l e (rm_ 0 0) s m args below meth c H locs 0 0 (MQ below (GQv D (wC d a ja w) (wC d a ja t0) s.heap.size) args s 0 0 A) (F0 m 3 ls []) := by
    intro K hE n
    induction n with
    | zero =>
      intro t x1 x2 H locs ls hT hl hf
      cases hf
    | succ n ih =>
      intro t x1 x2 H locs ls hT hl hf
      replace hf : fX0_put_B3 N j r K (fX0_put_L3 N j r K n) t x1 x2 = some w := hf
      unfold fX0_put_B3 at hf
      refine lv_iload_n hx hb dX0_put_3 rfl (lv_at hl 2 rfl) ?_
      refine lv_if_lt (tgt := 36) hx hb dX0_put_4 (by decide) (fun hc => ?_) (fun hc => ?_)
      · have hf := ite_t hc hf
        exact hE t _ _ _ hT (lv_sub hl [] rfl) hf
      · have hf := ite_f hc hf
        refine lv_aload_n hx hb dX0_put_7 rfl (lv_at hl 0 rfl) ?_
        refine r_get C hV (hT.atp 0 rfl) (ci := 1) rfl in_X0 6 (by decide) q344 rfl dX0_put_8 ?_
        refine lv_aload_n hx hb dX0_put_11 rfl (lv_at hl 0 rfl) ?_
        refine r_get C hV (hT.atp 0 rfl) (ci := 1) rfl in_X0 7 (by decide) q346 rfl dX0_put_12 ?_
        refine lv_iload_n hx hb dX0_put_15 rfl (lv_at hl 1 rfl) ?_
        refine lv_iload_n hx hb dX0_put_16 rfl (lv_at hl 2 rfl) ?_
        refine lv_ishr hx hb dX0_put_17 ?_
        refine lv_i2b hx hb dX0_put_18 rfl ?_
        obtain ⟨hi, hf⟩ := ix_e hf
        obtain ⟨t_19, et⟩ : ∃ y, y = (csA t 6 ((t.1 7)).toNatClampNeg (vp_nar .byte ((x1 >>> (x2 &&& 31))).toInt8.toInt32)) := ⟨_, rfl⟩
        have hf := lett_e et hf
        refine w_bst (ws1 := (wC d a ja t_19)) C hV hT 1 _ rfl hi rfl (by rw [et]; exact upd_set hT.2.1 rfl (cast_6 d a ja t _ _)) dX0_put_19 (fun H locs hT => ?_)
        refine lv_aload_n hx hb dX0_put_20 rfl (lv_at hl 0 rfl) ?_
        refine lv_dup hx hb dX0_put_21 rfl ?_
        refine r_get C hV (hT.atp 0 rfl) (ci := 1) rfl in_X0 7 (by decide) q346 rfl dX0_put_22 ?_
        refine lv_iconst (v := 1) hx hb dX0_put_25 (by decide) ?_
        refine lv_iadd hx hb dX0_put_26 ?_
        obtain ⟨t_27, et⟩ : ∃ y, y = (csI t_19 7 ((t_19.1 7) + (1 : Int32))) := ⟨_, rfl⟩
        have hf := lett_e et hf
        refine w_put C hV hT (ws1 := (wC d a ja t_27)) 0 rfl rfl in_X0 tyX0_ok nmX0 7 (by decide) q346 (by rw [et]; exact upd_set hT.2.1 rfl (cset_7 d a ja t_19 _)) rfl rfl rfl rfl (Nat.le_of_ble_eq_true rfl) dX0_put_27 (fun H locs hT => ?_)
        obtain ⟨x2_30, ex⟩ : ∃ y : Int32, y = (x2 + (-8 : Int32)) := ⟨_, rfl⟩
        have hf := lett_e ex hf
        refine lv_iinc (v := x2_30) (lv' := [(2, .int x2_30), (0, .ref (a 32)), (1, .int x1)]) hx hb dX0_put_30 hl (k := 2) rfl (by rw [ex]; rfl) (by decide) rfl (fun ls hl => ?_)
        refine lv_goto (tgt := 3) hx hb dX0_put_33 (by decide) ?_
        exact ih t_27 x1 x2_30 _ _ _ hT (lv_sub hl [1, 2, 0] rfl) hf
  refine W.eq (by rw [hargs]) (t_in (vs := [.ref (a 32), .int x1]) (n := 3) (Nat.le_of_ble_eq_true rfl) (fun ls hl => ?_))
  have hl : lv_has ls 3 [(0, .ref (a 32)), (1, .int x1)] := hl
  unfold fX0_put at hf
  refine lv_bipush (v := 24) hx hb dX0_put_0 (by decide) ?_
  refine lv_istore_n (lv' := [(2, .int (24 : Int32)), (0, .ref (a 32)), (1, .int x1)]) hx hb dX0_put_2 rfl hl (by decide) rfl (fun ls hl => ?_)
  refine hL3 _ (fun t H locs ls hT hl hf => ?_) N t0 x1 (24 : Int32) _ _ _ hT (lv_sub hl [1, 2, 0] rfl) hf
  exact f_vret (wC d a ja) hA0 C hT hf hr hlocks dX0_put_36
def fX0_feed (N : Nat) (j : JS) (r : RS) (t0 : CS) (x1 : Int32) (x2 : Int32) (x3 : Int32) (x4 : Int32) (x5 : Int32) : Option (Int32 × CS) :=
  (if ((t0.1 7) + (20 : Int32)) ≤ (400 : Int32) then ((fX0_put N j r  t0 x1).bind fun w_17 => ((fX0_put N j r  w_17 x2).bind fun w_22 => ((fX0_put N j r  w_22 x3).bind fun w_27 => ((fX0_put N j r  w_27 x4).bind fun w_33 => ((fX0_put N j r  w_33 x5).bind fun w_39 => (some ((w_39.1 7), w_39))))))) else (some ((-1 : Int32), t0)))
theorem hdX0_feed : yX0_feed.cls = RX0 ∧ yX0_feed.cls ≠ "java/lang/invoke/MethodHandle" ∧ yX0_feed.cls ≠ "java/lang/invoke/VarHandle" ∧ (parseMethodDescriptor yX0_feed.desc).map (fun d => d.parameters.length) = some 5 := by decide +kernel
set_option maxHeartbeats 4000000 in
theorem mX0_feed (l : Launch) (D : va_G) (d : Nat → ClassId) (sd : Nat) (a : Nat → Nat) (ja : Nat → Nat) (N : Nat) (j : JS) (r : RS) (t0 : CS) (x1 : Int32) (x2 : Int32) (x3 : Int32) (x4 : Int32) (x5 : Int32) (w : Int32 × CS) (hf : fX0_feed N j r t0 x1 x2 x3 x4 x5 = some w) (sz : Nat) : Met l yX0_feed (ws_ yX0_feed cX0_feed 6 (some .int)) (rm_ 1 22) (GPc D d sd [.ref (a 32), .int x1, .int x2, .int x3, .int x4, .int x5] (wC d a ja t0) (fun P => JAt d ja j P ∧ RAt d (a 3) r P) sz) (GQi D w.1 (wC d a ja w.2) (wC d a ja t0) sz) 0 0 (va_A (wC d a ja t0) sz) := by
  refine Met.ofW (cc := cX0_feed) (maxL := 6) (ret := (some .int)) plX0 rfl ?_
  intro p e s m args below meth c s₁ B hml hv
  obtain ⟨C, hX, hR, hT, hr, hlocks, hargs, rfl⟩ := g_enter (own := RX0) B hml rfl hv
  have hx := C.1
  have hb := C.2.1
  have hV := hX.1
  obtain ⟨A, hA0⟩ : ∃ A, A = va_A (wC d a ja t0) s.heap.size := ⟨_, rfl⟩
  rw [← hA0] at hX hR hT
  show W p l e (rm_ 1 22) s m args below meth c s.heap [] 0 0 (MQ below (GQi D w.1 (wC d a ja w.2) (wC d a ja t0) s.heap.size) args s 0 0 (va_A (wC d a ja t0) s.heap.size)) _
  rw [← hA0]
  have hJ := hR.1
  obtain ⟨rmc, rel, rcap, rf, hrl, hrel, hrc, hrg⟩ := hR.2.unpack
  refine W.eq (by rw [hargs]) (t_in (vs := [.ref (a 32), .int x1, .int x2, .int x3, .int x4, .int x5]) (n := 6) (Nat.le_of_ble_eq_true rfl) (fun ls hl => ?_))
  have hl : lv_has ls 6 [(0, .ref (a 32)), (1, .int x1), (2, .int x2), (3, .int x3), (4, .int x4), (5, .int x5)] := hl
  unfold fX0_feed at hf
  refine lv_aload_n hx hb dX0_feed_0 rfl (lv_at hl 0 rfl) ?_
  refine r_get C hV (hT.atp 0 rfl) (ci := 1) rfl in_X0 7 (by decide) q346 rfl dX0_feed_1 ?_
  refine lv_bipush (v := 20) hx hb dX0_feed_4 (by decide) ?_
  refine lv_iadd hx hb dX0_feed_6 ?_
  refine lv_sipush (v := 400) hx hb dX0_feed_7 (by decide) ?_
  refine lv_icmp_le (tgt := 15) hx hb dX0_feed_10 (by decide) (fun hc => ?_) (fun hc => ?_)
  · have hf := ite_t hc hf
    refine lv_aload_n hx hb dX0_feed_15 rfl (lv_at hl 0 rfl) ?_
    refine lv_iload_n hx hb dX0_feed_16 rfl (lv_at hl 1 rfl) ?_
    obtain ⟨w_17, h_17, hf⟩ := bind_e hf
    refine g_callv (vs := [.int x1]) (rest := []) C hX hT (A_new hA0) (Cut.all (D_nd hT.2.1) ((wC_fst d a ja _).trans (wC_fst d a ja t0).symm)) (Ro := (fun P => JAt d ja j P ∧ RAt d (a 3) r P)) ⟨hJ.step hT.2.2 (A_full hA0 hT.2.2.1), hR.2.step hT.2.2 (A_full hA0 hT.2.2.1)⟩ (fun sz => mX0_put l D d sd a ja N j r  t0 x1 _ h_17 sz) (cwV 1 C.2.2.2.2 (lw_V q448 q450 qs1 q120 q451) rfl rfl rfl hdX0_put ⟨Nat.le_of_ble_eq_true rfl, Nat.le_of_ble_eq_true rfl⟩) (g_recv hV (hT.atp 0 rfl) (ci := 1) rfl) rfl hl.1 rfl (Nat.le_of_ble_eq_true rfl) dX0_feed_17 ⟨Nat.zero_le _, Nat.zero_le _⟩ (fun H locs hT => ?_)
    refine lv_aload_n hx hb dX0_feed_20 rfl (lv_at hl 0 rfl) ?_
    refine lv_iload_n hx hb dX0_feed_21 rfl (lv_at hl 2 rfl) ?_
    obtain ⟨w_22, h_22, hf⟩ := bind_e hf
    refine g_callv (vs := [.int x2]) (rest := []) C hX hT (A_new hA0) (Cut.all (D_nd hT.2.1) ((wC_fst d a ja _).trans (wC_fst d a ja w_17).symm)) (Ro := (fun P => JAt d ja j P ∧ RAt d (a 3) r P)) ⟨hJ.step hT.2.2 (A_full hA0 hT.2.2.1), hR.2.step hT.2.2 (A_full hA0 hT.2.2.1)⟩ (fun sz => mX0_put l D d sd a ja N j r  w_17 x2 _ h_22 sz) (cwV 1 C.2.2.2.2 (lw_V q448 q450 qs1 q120 q451) rfl rfl rfl hdX0_put ⟨Nat.le_of_ble_eq_true rfl, Nat.le_of_ble_eq_true rfl⟩) (g_recv hV (hT.atp 0 rfl) (ci := 1) rfl) rfl hl.1 rfl (Nat.le_of_ble_eq_true rfl) dX0_feed_22 ⟨Nat.zero_le _, Nat.zero_le _⟩ (fun H locs hT => ?_)
    refine lv_aload_n hx hb dX0_feed_25 rfl (lv_at hl 0 rfl) ?_
    refine lv_iload_n hx hb dX0_feed_26 rfl (lv_at hl 3 rfl) ?_
    obtain ⟨w_27, h_27, hf⟩ := bind_e hf
    refine g_callv (vs := [.int x3]) (rest := []) C hX hT (A_new hA0) (Cut.all (D_nd hT.2.1) ((wC_fst d a ja _).trans (wC_fst d a ja w_22).symm)) (Ro := (fun P => JAt d ja j P ∧ RAt d (a 3) r P)) ⟨hJ.step hT.2.2 (A_full hA0 hT.2.2.1), hR.2.step hT.2.2 (A_full hA0 hT.2.2.1)⟩ (fun sz => mX0_put l D d sd a ja N j r  w_22 x3 _ h_27 sz) (cwV 1 C.2.2.2.2 (lw_V q448 q450 qs1 q120 q451) rfl rfl rfl hdX0_put ⟨Nat.le_of_ble_eq_true rfl, Nat.le_of_ble_eq_true rfl⟩) (g_recv hV (hT.atp 0 rfl) (ci := 1) rfl) rfl hl.1 rfl (Nat.le_of_ble_eq_true rfl) dX0_feed_27 ⟨Nat.zero_le _, Nat.zero_le _⟩ (fun H locs hT => ?_)
    refine lv_aload_n hx hb dX0_feed_30 rfl (lv_at hl 0 rfl) ?_
    refine lv_iload hx hb dX0_feed_31 (lv_at hl 4 rfl) ?_
    obtain ⟨w_33, h_33, hf⟩ := bind_e hf
    refine g_callv (vs := [.int x4]) (rest := []) C hX hT (A_new hA0) (Cut.all (D_nd hT.2.1) ((wC_fst d a ja _).trans (wC_fst d a ja w_27).symm)) (Ro := (fun P => JAt d ja j P ∧ RAt d (a 3) r P)) ⟨hJ.step hT.2.2 (A_full hA0 hT.2.2.1), hR.2.step hT.2.2 (A_full hA0 hT.2.2.1)⟩ (fun sz => mX0_put l D d sd a ja N j r  w_27 x4 _ h_33 sz) (cwV 1 C.2.2.2.2 (lw_V q448 q450 qs1 q120 q451) rfl rfl rfl hdX0_put ⟨Nat.le_of_ble_eq_true rfl, Nat.le_of_ble_eq_true rfl⟩) (g_recv hV (hT.atp 0 rfl) (ci := 1) rfl) rfl hl.1 rfl (Nat.le_of_ble_eq_true rfl) dX0_feed_33 ⟨Nat.zero_le _, Nat.zero_le _⟩ (fun H locs hT => ?_)
    refine lv_aload_n hx hb dX0_feed_36 rfl (lv_at hl 0 rfl) ?_
    refine lv_iload hx hb dX0_feed_37 (lv_at hl 5 rfl) ?_
    obtain ⟨w_39, h_39, hf⟩ := bind_e hf
    refine g_callv (vs := [.int x5]) (rest := []) C hX hT (A_new hA0) (Cut.all (D_nd hT.2.1) ((wC_fst d a ja _).trans (wC_fst d a ja w_33).symm)) (Ro := (fun P => JAt d ja j P ∧ RAt d (a 3) r P)) ⟨hJ.step hT.2.2 (A_full hA0 hT.2.2.1), hR.2.step hT.2.2 (A_full hA0 hT.2.2.1)⟩ (fun sz => mX0_put l D d sd a ja N j r  w_33 x5 _ h_39 sz) (cwV 1 C.2.2.2.2 (lw_V q448 q450 qs1 q120 q451) rfl rfl rfl hdX0_put ⟨Nat.le_of_ble_eq_true rfl, Nat.le_of_ble_eq_true rfl⟩) (g_recv hV (hT.atp 0 rfl) (ci := 1) rfl) rfl hl.1 rfl (Nat.le_of_ble_eq_true rfl) dX0_feed_39 ⟨Nat.zero_le _, Nat.zero_le _⟩ (fun H locs hT => ?_)
    refine lv_aload_n hx hb dX0_feed_42 rfl (lv_at hl 0 rfl) ?_
    refine r_get C hV (hT.atp 0 rfl) (ci := 1) rfl in_X0 7 (by decide) q346 rfl dX0_feed_43 ?_
    exact f_iret (wC d a ja) hA0 C hT hf hr hlocks dX0_feed_46
  · have hf := ite_f hc hf
    refine lv_iconst (v := -1) hx hb dX0_feed_13 (by decide) ?_
    exact f_iret (wC d a ja) hA0 C hT hf hr hlocks dX0_feed_14
def fX0_end (N : Nat) (j : JS) (r : RS) (t0 : CS) (x1 : Int32) : Option (Int32 × CS) :=
  (if x1 < 0 then (some ((-1 : Int32), t0)) else (if x1 ≤ (t0.1 7) then (lett (csI t0 7 x1) fun t_16 => (some (x1, t_16))) else (some ((-1 : Int32), t0))))
theorem hdX0_end : yX0_end.cls = RX0 ∧ yX0_end.cls ≠ "java/lang/invoke/MethodHandle" ∧ yX0_end.cls ≠ "java/lang/invoke/VarHandle" ∧ (parseMethodDescriptor yX0_end.desc).map (fun d => d.parameters.length) = some 1 := by decide +kernel
set_option maxHeartbeats 4000000 in
theorem mX0_end (l : Launch) (D : va_G) (d : Nat → ClassId) (sd : Nat) (a : Nat → Nat) (ja : Nat → Nat) (N : Nat) (j : JS) (r : RS) (t0 : CS) (x1 : Int32) (w : Int32 × CS) (hf : fX0_end N j r t0 x1 = some w) (sz : Nat) : Met l yX0_end (ws_ yX0_end cX0_end 2 (some .int)) (rm_ 0 0) (GPc D d sd [.ref (a 32), .int x1] (wC d a ja t0) (fun P => JAt d ja j P ∧ RAt d (a 3) r P) sz) (GQi D w.1 (wC d a ja w.2) (wC d a ja t0) sz) 0 0 (va_A (wC d a ja t0) sz) := by
  refine Met.ofW (cc := cX0_end) (maxL := 2) (ret := (some .int)) plX0 rfl ?_
  intro p e s m args below meth c s₁ B hml hv
  obtain ⟨C, hX, hR, hT, hr, hlocks, hargs, rfl⟩ := g_enter (own := RX0) B hml rfl hv
  have hx := C.1
  have hb := C.2.1
  have hV := hX.1
  obtain ⟨A, hA0⟩ : ∃ A, A = va_A (wC d a ja t0) s.heap.size := ⟨_, rfl⟩
  rw [← hA0] at hX hR hT
  show W p l e (rm_ 0 0) s m args below meth c s.heap [] 0 0 (MQ below (GQi D w.1 (wC d a ja w.2) (wC d a ja t0) s.heap.size) args s 0 0 (va_A (wC d a ja t0) s.heap.size)) _
  rw [← hA0]
  have hJ := hR.1
  obtain ⟨rmc, rel, rcap, rf, hrl, hrel, hrc, hrg⟩ := hR.2.unpack
  refine W.eq (by rw [hargs]) (t_in (vs := [.ref (a 32), .int x1]) (n := 2) (Nat.le_of_ble_eq_true rfl) (fun ls hl => ?_))
  have hl : lv_has ls 2 [(0, .ref (a 32)), (1, .int x1)] := hl
  unfold fX0_end at hf
  refine lv_iload_n hx hb dX0_end_0 rfl (lv_at hl 1 rfl) ?_
  refine lv_if_lt (tgt := 12) hx hb dX0_end_1 (by decide) (fun hc => ?_) (fun hc => ?_)
  · have hf := ite_t hc hf
    refine lv_iconst (v := -1) hx hb dX0_end_12 (by decide) ?_
    exact f_iret (wC d a ja) hA0 C hT hf hr hlocks dX0_end_13
  · have hf := ite_f hc hf
    refine lv_iload_n hx hb dX0_end_4 rfl (lv_at hl 1 rfl) ?_
    refine lv_aload_n hx hb dX0_end_5 rfl (lv_at hl 0 rfl) ?_
    refine r_get C hV (hT.atp 0 rfl) (ci := 1) rfl in_X0 7 (by decide) q346 rfl dX0_end_6 ?_
    refine lv_icmp_le (tgt := 14) hx hb dX0_end_9 (by decide) (fun hc => ?_) (fun hc => ?_)
    · have hf := ite_t hc hf
      refine lv_aload_n hx hb dX0_end_14 rfl (lv_at hl 0 rfl) ?_
      refine lv_iload_n hx hb dX0_end_15 rfl (lv_at hl 1 rfl) ?_
      obtain ⟨t_16, et⟩ : ∃ y, y = (csI t0 7 x1) := ⟨_, rfl⟩
      have hf := lett_e et hf
      refine w_put C hV hT (ws1 := (wC d a ja t_16)) 0 rfl rfl in_X0 tyX0_ok nmX0 7 (by decide) q346 (by rw [et]; exact upd_set hT.2.1 rfl (cset_7 d a ja t0 _)) rfl rfl rfl rfl (Nat.le_of_ble_eq_true rfl) dX0_end_16 (fun H locs hT => ?_)
      refine lv_iload_n hx hb dX0_end_19 rfl (lv_at hl 1 rfl) ?_
      exact f_iret (wC d a ja) hA0 C hT hf hr hlocks dX0_end_20
    · have hf := ite_f hc hf
      refine lv_iconst (v := -1) hx hb dX0_end_12 (by decide) ?_
      exact f_iret (wC d a ja) hA0 C hT hf hr hlocks dX0_end_13
def fX0_force (N : Nat) (j : JS) (r : RS) (t0 : CS) (x1 : Int32) : Option (Int32 × CS) :=
  ((fX0_in N (x1).toInt64 (-1 : Int64) ((r.1 - (1 : Int32))).toInt64).bind fun w_15 => (if ¬ w_15 = 0 then (lett (t0.1 4) fun x2_28 => (lett (csI t0 4 x1) fun t_31 => (some (x2_28, t_31)))) else (some ((-2 : Int32), t0))))
theorem hdX0_force : yX0_force.cls = RX0 ∧ yX0_force.cls ≠ "java/lang/invoke/MethodHandle" ∧ yX0_force.cls ≠ "java/lang/invoke/VarHandle" ∧ (parseMethodDescriptor yX0_force.desc).map (fun d => d.parameters.length) = some 1 := by decide +kernel
set_option maxHeartbeats 4000000 in
theorem mX0_force (l : Launch) (D : va_G) (d : Nat → ClassId) (sd : Nat) (a : Nat → Nat) (ja : Nat → Nat) (N : Nat) (j : JS) (r : RS) (t0 : CS) (x1 : Int32) (w : Int32 × CS) (hf : fX0_force N j r t0 x1 = some w) (sz : Nat) : Met l yX0_force (ws_ yX0_force cX0_force 3 (some .int)) (rm_ 1 25) (GPc D d sd [.ref (a 32), .int x1] (wC d a ja t0) (fun P => JAt d ja j P ∧ RAt d (a 3) r P) sz) (GQi D w.1 (wC d a ja w.2) (wC d a ja t0) sz) 0 0 (va_A (wC d a ja t0) sz) := by
  refine Met.ofW (cc := cX0_force) (maxL := 3) (ret := (some .int)) plX0 rfl ?_
  intro p e s m args below meth c s₁ B hml hv
  obtain ⟨C, hX, hR, hT, hr, hlocks, hargs, rfl⟩ := g_enter (own := RX0) B hml rfl hv
  have hx := C.1
  have hb := C.2.1
  have hV := hX.1
  obtain ⟨A, hA0⟩ : ∃ A, A = va_A (wC d a ja t0) s.heap.size := ⟨_, rfl⟩
  rw [← hA0] at hX hR hT
  show W p l e (rm_ 1 25) s m args below meth c s.heap [] 0 0 (MQ below (GQi D w.1 (wC d a ja w.2) (wC d a ja t0) s.heap.size) args s 0 0 (va_A (wC d a ja t0) s.heap.size)) _
  rw [← hA0]
  have hJ := hR.1
  obtain ⟨rmc, rel, rcap, rf, hrl, hrel, hrc, hrg⟩ := hR.2.unpack
  refine W.eq (by rw [hargs]) (t_in (vs := [.ref (a 32), .int x1]) (n := 3) (Nat.le_of_ble_eq_true rfl) (fun ls hl => ?_))
  have hl : lv_has ls 3 [(0, .ref (a 32)), (1, .int x1)] := hl
  unfold fX0_force at hf
  refine lv_iload_n hx hb dX0_force_0 rfl (lv_at hl 1 rfl) ?_
  refine lv_i2l hx hb dX0_force_1 rfl ?_
  refine g_ldc2 (v := -1) C q884 dX0_force_2 ?_
  refine lv_aload_n hx hb dX0_force_5 rfl (lv_at hl 0 rfl) ?_
  refine r_get C hV (hT.atp 0 rfl) (ci := 1) rfl in_X0 3 (by decide) q338 rfl dX0_force_6 ?_
  refine g_calli (vs := []) (rest := [.long (-1 : Int64), .long (x1).toInt64]) C hX hT (A_new hA0) (Cut.none _) (hrl.step hT.2.2 (Anil (A_new hA0) hT.2.2.1)) (fun sz => mJ2_size l D d sd (a 3) rel N rmc r.1 _ rfl sz) (cwV 0 C.2.2.2.2 (lw_V q714 q588 q589 q124 q590) rfl rfl rfl hdJ2_size ⟨Nat.le_of_ble_eq_true rfl, Nat.le_of_ble_eq_true rfl⟩) (g_recv hV (hrl.at hT.2.2) (ci := 4) rfl) rfl hl.1 rfl (Nat.le_of_ble_eq_true rfl) dX0_force_9 ⟨Nat.zero_le _, Nat.zero_le _⟩ (fun H locs hT => ?_)
  refine lv_iconst (v := 1) hx hb dX0_force_12 (by decide) ?_
  refine lv_isub hx hb dX0_force_13 ?_
  refine lv_i2l hx hb dX0_force_14 rfl ?_
  obtain ⟨w_15, h_15, hf⟩ := bind_e hf
  refine s_calli (vs := [.long (x1).toInt64, .long (-1 : Int64), .long ((r.1 - (1 : Int32))).toInt64]) (rest := []) C (A_new hA0) hT (fun sz => mX0_in l N (x1).toInt64 (-1 : Int64) ((r.1 - (1 : Int32))).toInt64 _ h_15 sz) (va_cwS 3 C.2.2.2.2 (lw_S q885 q518 q120 q519) rfl rfl rfl hdX0_in ⟨Nat.le_of_ble_eq_true rfl, Nat.le_of_ble_eq_true rfl⟩) rfl hl.1 rfl (Nat.le_of_ble_eq_true rfl) dX0_force_15 ⟨Nat.zero_le _, Nat.zero_le _⟩ (fun H locs hT => ?_)
  refine lv_if_ne (tgt := 24) hx hb dX0_force_18 (by decide) (fun hc => ?_) (fun hc => ?_)
  · have hf := ite_t hc hf
    refine lv_aload_n hx hb dX0_force_24 rfl (lv_at hl 0 rfl) ?_
    refine r_get C hV (hT.atp 0 rfl) (ci := 1) rfl in_X0 4 (by decide) q341 rfl dX0_force_25 ?_
    refine lv_topi (fun x2_28 ex => ?_)
    have hf := lett_e ex hf
    refine lv_istore_n (lv' := [(2, .int x2_28), (0, .ref (a 32)), (1, .int x1)]) hx hb dX0_force_28 rfl hl (by decide) rfl (fun ls hl => ?_)
    refine lv_aload_n hx hb dX0_force_29 rfl (lv_at hl 1 rfl) ?_
    refine lv_iload_n hx hb dX0_force_30 rfl (lv_at hl 2 rfl) ?_
    obtain ⟨t_31, et⟩ : ∃ y, y = (csI t0 4 x1) := ⟨_, rfl⟩
    have hf := lett_e et hf
    refine w_put C hV hT (ws1 := (wC d a ja t_31)) 0 rfl rfl in_X0 tyX0_ok nmX0 4 (by decide) q341 (by rw [et]; exact upd_set hT.2.1 rfl (cset_4 d a ja t0 _)) rfl rfl rfl rfl (Nat.le_of_ble_eq_true rfl) dX0_force_31 (fun H locs hT => ?_)
    refine lv_iload_n hx hb dX0_force_34 rfl (lv_at hl 0 rfl) ?_
    exact f_iret (wC d a ja) hA0 C hT hf hr hlocks dX0_force_35
  · have hf := ite_f (fun q => q hc) hf
    refine lv_bipush (v := -2) hx hb dX0_force_21 (by decide) ?_
    exact f_iret (wC d a ja) hA0 C hT hf hr hlocks dX0_force_23
def fX0_isRoad (N : Nat) (j : JS) (r : RS) (t0 : CS) (x1 : Int32) : Option (Int32 × CS) :=
  ((fX1_roads N j).bind fun w_7 => ((fX0_in N (x1).toInt64 (0 : Int64) ((w_7 - (1 : Int32))).toInt64).bind fun w_13 => (ckz w_13 (some (w_13, t0)))))
theorem hdX0_isRoad : yX0_isRoad.cls = RX0 ∧ yX0_isRoad.cls ≠ "java/lang/invoke/MethodHandle" ∧ yX0_isRoad.cls ≠ "java/lang/invoke/VarHandle" ∧ (parseMethodDescriptor yX0_isRoad.desc).map (fun d => d.parameters.length) = some 1 := by decide +kernel
set_option maxHeartbeats 4000000 in
theorem mX0_isRoad (l : Launch) (D : va_G) (d : Nat → ClassId) (sd : Nat) (a : Nat → Nat) (ja : Nat → Nat) (N : Nat) (j : JS) (r : RS) (t0 : CS) (x1 : Int32) (w : Int32 × CS) (hf : fX0_isRoad N j r t0 x1 = some w) (sz : Nat) : Met l yX0_isRoad (ws_ yX0_isRoad cX0_isRoad 2 (some .boolean)) (rm_ 2 40) (GPc D d sd [.ref (a 32), .int x1] (wC d a ja t0) (fun P => JAt d ja j P ∧ RAt d (a 3) r P) sz) (GQi D w.1 (wC d a ja w.2) (wC d a ja t0) sz) 0 0 (va_A (wC d a ja t0) sz) := by
  refine Met.ofW (cc := cX0_isRoad) (maxL := 2) (ret := (some .boolean)) plX0 rfl ?_
  intro p e s m args below meth c s₁ B hml hv
  obtain ⟨C, hX, hR, hT, hr, hlocks, hargs, rfl⟩ := g_enter (own := RX0) B hml rfl hv
  have hx := C.1
  have hb := C.2.1
  have hV := hX.1
  obtain ⟨A, hA0⟩ : ∃ A, A = va_A (wC d a ja t0) s.heap.size := ⟨_, rfl⟩
  rw [← hA0] at hX hR hT
  show W p l e (rm_ 2 40) s m args below meth c s.heap [] 0 0 (MQ below (GQi D w.1 (wC d a ja w.2) (wC d a ja t0) s.heap.size) args s 0 0 (va_A (wC d a ja t0) s.heap.size)) _
  rw [← hA0]
  have hJ := hR.1
  obtain ⟨rmc, rel, rcap, rf, hrl, hrel, hrc, hrg⟩ := hR.2.unpack
  refine W.eq (by rw [hargs]) (t_in (vs := [.ref (a 32), .int x1]) (n := 2) (Nat.le_of_ble_eq_true rfl) (fun ls hl => ?_))
  have hl : lv_has ls 2 [(0, .ref (a 32)), (1, .int x1)] := hl
  unfold fX0_isRoad at hf
  refine lv_iload_n hx hb dX0_isRoad_0 rfl (lv_at hl 1 rfl) ?_
  refine lv_i2l hx hb dX0_isRoad_1 rfl ?_
  refine lv_lconst (v := 0) hx hb dX0_isRoad_2 (by decide) ?_
  refine lv_aload_n hx hb dX0_isRoad_3 rfl (lv_at hl 0 rfl) ?_
  refine r_get C hV (hT.atp 0 rfl) (ci := 1) rfl in_X0 0 (by decide) q334 rfl dX0_isRoad_4 ?_
  obtain ⟨w_7, h_7, hf⟩ := bind_e hf
  refine g_calli (vs := []) (rest := [.long (0 : Int64), .long (x1).toInt64]) C hX hT (A_new hA0) (Cut.none _) (hJ.step hT.2.2 (Anil (A_new hA0) hT.2.2.1)) (fun sz => mX1_roads l D d sd ja N j _ h_7 sz) (cwV 0 C.2.2.2.2 (lw_V q709 q584 q585 q121 q586) rfl rfl rfl hdX1_roads ⟨Nat.le_of_ble_eq_true rfl, Nat.le_of_ble_eq_true rfl⟩) (g_recv hV (hJ.1.at hT.2.2) (ci := 3) rfl) rfl hl.1 rfl (Nat.le_of_ble_eq_true rfl) dX0_isRoad_7 ⟨Nat.zero_le _, Nat.zero_le _⟩ (fun H locs hT => ?_)
  refine lv_iconst (v := 1) hx hb dX0_isRoad_10 (by decide) ?_
  refine lv_isub hx hb dX0_isRoad_11 ?_
  refine lv_i2l hx hb dX0_isRoad_12 rfl ?_
  obtain ⟨w_13, h_13, hf⟩ := bind_e hf
  refine s_calli (vs := [.long (x1).toInt64, .long (0 : Int64), .long ((w_7 - (1 : Int32))).toInt64]) (rest := []) C (A_new hA0) hT (fun sz => mX0_in l N (x1).toInt64 (0 : Int64) ((w_7 - (1 : Int32))).toInt64 _ h_13 sz) (va_cwS 3 C.2.2.2.2 (lw_S q885 q518 q120 q519) rfl rfl rfl hdX0_in ⟨Nat.le_of_ble_eq_true rfl, Nat.le_of_ble_eq_true rfl⟩) rfl hl.1 rfl (Nat.le_of_ble_eq_true rfl) dX0_isRoad_13 ⟨Nat.zero_le _, Nat.zero_le _⟩ (fun H locs hT => ?_)
  obtain ⟨hz, hf⟩ := ckz_e hf
  exact f_zret (wC d a ja) hA0 C hT hf hz hr hlocks dX0_isRoad_16
def fX0_road (N : Nat) (j : JS) (r : RS) (t0 : CS) (x1 : Int32) (x2 : Int32) : Option (Int32 × CS) :=
  ((fX0_isRoad N j r  t0 x1).bind fun w_2 => (if ¬ w_2.1 = 0 then (if x2 = (0 : Int32) then (ix x1 6 (some (((w_2.2.2.2.2 0).1 0 (x1).toNatClampNeg), w_2.2))) else (if x2 = (1 : Int32) then (ix x1 6 (some (((w_2.2.2.2.2 0).1 1 (x1).toNatClampNeg), w_2.2))) else (if x2 = (2 : Int32) then (ix x1 6 (some (((w_2.2.2.2.2 0).1 2 (x1).toNatClampNeg), w_2.2))) else (if x2 = (3 : Int32) then (ix x1 6 (some ((j.2 1 (x1).toNatClampNeg), w_2.2))) else (if x2 = (4 : Int32) then (ix x1 6 (some (((w_2.2.2.2.2 0).1 3 (x1).toNatClampNeg), w_2.2))) else (if x2 = (5 : Int32) then (ix x1 6 (some (((w_2.2.2.2.2 0).1 4 (x1).toNatClampNeg), w_2.2))) else (if x2 = (6 : Int32) then ((fX2_since N (w_2.2.2.2.2 0) x1).bind fun w_117 => (lett (csS w_2.2 0 w_117.2) fun t_117 => (some (w_117.1, t_117)))) else (some ((-1 : Int32), w_2.2))))))))) else (some ((-1 : Int32), w_2.2))))
theorem hdX0_road : yX0_road.cls = RX0 ∧ yX0_road.cls ≠ "java/lang/invoke/MethodHandle" ∧ yX0_road.cls ≠ "java/lang/invoke/VarHandle" ∧ (parseMethodDescriptor yX0_road.desc).map (fun d => d.parameters.length) = some 2 := by decide +kernel
set_option maxHeartbeats 4000000 in
theorem mX0_road (l : Launch) (D : va_G) (d : Nat → ClassId) (sd : Nat) (a : Nat → Nat) (ja : Nat → Nat) (N : Nat) (j : JS) (r : RS) (t0 : CS) (x1 : Int32) (x2 : Int32) (w : Int32 × CS) (hf : fX0_road N j r t0 x1 x2 = some w) (sz : Nat) : Met l yX0_road (ws_ yX0_road cX0_road 3 (some .int)) (rm_ 3 61) (GPc D d sd [.ref (a 32), .int x1, .int x2] (wC d a ja t0) (fun P => JAt d ja j P ∧ RAt d (a 3) r P) sz) (GQi D w.1 (wC d a ja w.2) (wC d a ja t0) sz) 0 0 (va_A (wC d a ja t0) sz) := by
  refine Met.ofW (cc := cX0_road) (maxL := 3) (ret := (some .int)) plX0 rfl ?_
  intro p e s m args below meth c s₁ B hml hv
  obtain ⟨C, hX, hR, hT, hr, hlocks, hargs, rfl⟩ := g_enter (own := RX0) B hml rfl hv
  have hx := C.1
  have hb := C.2.1
  have hV := hX.1
  obtain ⟨A, hA0⟩ : ∃ A, A = va_A (wC d a ja t0) s.heap.size := ⟨_, rfl⟩
  rw [← hA0] at hX hR hT
  show W p l e (rm_ 3 61) s m args below meth c s.heap [] 0 0 (MQ below (GQi D w.1 (wC d a ja w.2) (wC d a ja t0) s.heap.size) args s 0 0 (va_A (wC d a ja t0) s.heap.size)) _
  rw [← hA0]
  have hJ := hR.1
  obtain ⟨rmc, rel, rcap, rf, hrl, hrel, hrc, hrg⟩ := hR.2.unpack
  refine W.eq (by rw [hargs]) (t_in (vs := [.ref (a 32), .int x1, .int x2]) (n := 3) (Nat.le_of_ble_eq_true rfl) (fun ls hl => ?_))
  have hl : lv_has ls 3 [(0, .ref (a 32)), (1, .int x1), (2, .int x2)] := hl
  unfold fX0_road at hf
  refine lv_aload_n hx hb dX0_road_0 rfl (lv_at hl 0 rfl) ?_
  refine lv_iload_n hx hb dX0_road_1 rfl (lv_at hl 1 rfl) ?_
  obtain ⟨w_2, h_2, hf⟩ := bind_e hf
  refine g_calli (vs := [.int x1]) (rest := []) C hX hT (A_new hA0) (Cut.all (D_nd hT.2.1) ((wC_fst d a ja _).trans (wC_fst d a ja t0).symm)) (Ro := (fun P => JAt d ja j P ∧ RAt d (a 3) r P)) ⟨hJ.step hT.2.2 (A_full hA0 hT.2.2.1), hR.2.step hT.2.2 (A_full hA0 hT.2.2.1)⟩ (fun sz => mX0_isRoad l D d sd a ja N j r  t0 x1 _ h_2 sz) (cwV 1 C.2.2.2.2 (lw_V q890 q892 qs26 q120 q893) rfl rfl rfl hdX0_isRoad ⟨Nat.le_of_ble_eq_true rfl, Nat.le_of_ble_eq_true rfl⟩) (g_recv hV (hT.atp 0 rfl) (ci := 1) rfl) rfl hl.1 rfl (Nat.le_of_ble_eq_true rfl) dX0_road_2 ⟨Nat.zero_le _, Nat.zero_le _⟩ (fun H locs hT => ?_)
  refine lv_if_ne (tgt := 10) hx hb dX0_road_5 (by decide) (fun hc => ?_) (fun hc => ?_)
  · have hf := ite_t hc hf
    refine lv_iload_n hx hb dX0_road_10 rfl (lv_at hl 2 rfl) ?_
    by_cases hc0 : x2 = (0 : Int32)
    · have hf := ite_t hc0 hf
      refine lv_tableIn (tgt := 52) hx hb dX0_road_11 (by rw [hc0]; decide) (by rw [hc0]; decide) (by rw [hc0]; rfl) (by decide) ?_
      refine lv_aload_n hx hb dX0_road_52 rfl (lv_at hl 0 rfl) ?_
      refine r_get C hV (hT.atp 0 rfl) (ci := 1) rfl in_X0 1 (by decide) q336 rfl dX0_road_53 ?_
      refine r_getN C hV hX.2.1 (hT.ats (i := 0) (by decide) 0 rfl) (ci := 2) rfl in_X2 0 (by decide) q228 rfl dX0_road_56 ?_
      refine lv_iload_n hx hb dX0_road_59 rfl (lv_at hl 1 rfl) ?_
      obtain ⟨hi, hf⟩ := ix_e hf
      refine r_ild C hV (hT.ats (i := 0) (by decide) 1 rfl) _ hi rfl dX0_road_60 ?_
      exact f_iret (wC d a ja) hA0 C hT hf hr hlocks dX0_road_61
    · have hf := ite_f hc0 hf
      by_cases hc1 : x2 = (1 : Int32)
      · have hf := ite_t hc1 hf
        refine lv_tableIn (tgt := 62) hx hb dX0_road_11 (by rw [hc1]; decide) (by rw [hc1]; decide) (by rw [hc1]; rfl) (by decide) ?_
        refine lv_aload_n hx hb dX0_road_62 rfl (lv_at hl 0 rfl) ?_
        refine r_get C hV (hT.atp 0 rfl) (ci := 1) rfl in_X0 1 (by decide) q336 rfl dX0_road_63 ?_
        refine r_getN C hV hX.2.1 (hT.ats (i := 0) (by decide) 0 rfl) (ci := 2) rfl in_X2 1 (by decide) q230 rfl dX0_road_66 ?_
        refine lv_iload_n hx hb dX0_road_69 rfl (lv_at hl 1 rfl) ?_
        obtain ⟨hi, hf⟩ := ix_e hf
        refine r_ild C hV (hT.ats (i := 0) (by decide) 2 rfl) _ hi rfl dX0_road_70 ?_
        exact f_iret (wC d a ja) hA0 C hT hf hr hlocks dX0_road_71
      · have hf := ite_f hc1 hf
        by_cases hc2 : x2 = (2 : Int32)
        · have hf := ite_t hc2 hf
          refine lv_tableIn (tgt := 72) hx hb dX0_road_11 (by rw [hc2]; decide) (by rw [hc2]; decide) (by rw [hc2]; rfl) (by decide) ?_
          refine lv_aload_n hx hb dX0_road_72 rfl (lv_at hl 0 rfl) ?_
          refine r_get C hV (hT.atp 0 rfl) (ci := 1) rfl in_X0 1 (by decide) q336 rfl dX0_road_73 ?_
          refine r_getN C hV hX.2.1 (hT.ats (i := 0) (by decide) 0 rfl) (ci := 2) rfl in_X2 2 (by decide) q232 rfl dX0_road_76 ?_
          refine lv_iload_n hx hb dX0_road_79 rfl (lv_at hl 1 rfl) ?_
          obtain ⟨hi, hf⟩ := ix_e hf
          refine r_ild C hV (hT.ats (i := 0) (by decide) 3 rfl) _ hi rfl dX0_road_80 ?_
          exact f_iret (wC d a ja) hA0 C hT hf hr hlocks dX0_road_81
        · have hf := ite_f hc2 hf
          by_cases hc3 : x2 = (3 : Int32)
          · have hf := ite_t hc3 hf
            refine lv_tableIn (tgt := 82) hx hb dX0_road_11 (by rw [hc3]; decide) (by rw [hc3]; decide) (by rw [hc3]; rfl) (by decide) ?_
            refine lv_aload_n hx hb dX0_road_82 rfl (lv_at hl 0 rfl) ?_
            refine r_get C hV (hT.atp 0 rfl) (ci := 1) rfl in_X0 0 (by decide) q334 rfl dX0_road_83 ?_
            refine r_getN C hV hX.2.1 (hJ.1.at hT.2.2) (ci := 3) rfl in_X1 1 (by decide) q200 rfl dX0_road_86 ?_
            refine lv_iload_n hx hb dX0_road_89 rfl (lv_at hl 1 rfl) ?_
            obtain ⟨hi, hf⟩ := ix_e hf
            refine r_ild C hV (hJ.2.2.1.at hT.2.2) _ hi rfl dX0_road_90 ?_
            exact f_iret (wC d a ja) hA0 C hT hf hr hlocks dX0_road_91
          · have hf := ite_f hc3 hf
            by_cases hc4 : x2 = (4 : Int32)
            · have hf := ite_t hc4 hf
              refine lv_tableIn (tgt := 92) hx hb dX0_road_11 (by rw [hc4]; decide) (by rw [hc4]; decide) (by rw [hc4]; rfl) (by decide) ?_
              refine lv_aload_n hx hb dX0_road_92 rfl (lv_at hl 0 rfl) ?_
              refine r_get C hV (hT.atp 0 rfl) (ci := 1) rfl in_X0 1 (by decide) q336 rfl dX0_road_93 ?_
              refine r_getN C hV hX.2.1 (hT.ats (i := 0) (by decide) 0 rfl) (ci := 2) rfl in_X2 3 (by decide) q234 rfl dX0_road_96 ?_
              refine lv_iload_n hx hb dX0_road_99 rfl (lv_at hl 1 rfl) ?_
              obtain ⟨hi, hf⟩ := ix_e hf
              refine r_ild C hV (hT.ats (i := 0) (by decide) 4 rfl) _ hi rfl dX0_road_100 ?_
              exact f_iret (wC d a ja) hA0 C hT hf hr hlocks dX0_road_101
            · have hf := ite_f hc4 hf
              by_cases hc5 : x2 = (5 : Int32)
              · have hf := ite_t hc5 hf
                refine lv_tableIn (tgt := 102) hx hb dX0_road_11 (by rw [hc5]; decide) (by rw [hc5]; decide) (by rw [hc5]; rfl) (by decide) ?_
                refine lv_aload_n hx hb dX0_road_102 rfl (lv_at hl 0 rfl) ?_
                refine r_get C hV (hT.atp 0 rfl) (ci := 1) rfl in_X0 1 (by decide) q336 rfl dX0_road_103 ?_
                refine r_getN C hV hX.2.1 (hT.ats (i := 0) (by decide) 0 rfl) (ci := 2) rfl in_X2 4 (by decide) q236 rfl dX0_road_106 ?_
                refine lv_iload_n hx hb dX0_road_109 rfl (lv_at hl 1 rfl) ?_
                obtain ⟨hi, hf⟩ := ix_e hf
                refine r_ild C hV (hT.ats (i := 0) (by decide) 5 rfl) _ hi rfl dX0_road_110 ?_
                exact f_iret (wC d a ja) hA0 C hT hf hr hlocks dX0_road_111
              · have hf := ite_f hc5 hf
                by_cases hc6 : x2 = (6 : Int32)
                · have hf := ite_t hc6 hf
                  refine lv_tableIn (tgt := 112) hx hb dX0_road_11 (by rw [hc6]; decide) (by rw [hc6]; decide) (by rw [hc6]; rfl) (by decide) ?_
                  refine lv_aload_n hx hb dX0_road_112 rfl (lv_at hl 0 rfl) ?_
                  refine r_get C hV (hT.atp 0 rfl) (ci := 1) rfl in_X0 1 (by decide) q336 rfl dX0_road_113 ?_
                  refine lv_iload_n hx hb dX0_road_116 rfl (lv_at hl 1 rfl) ?_
                  obtain ⟨w_117, h_117, hf⟩ := bind_e hf
                  refine g_calli (vs := [.int x1]) (rest := []) C hX hT (A_new hA0) (wC_cutS hT.2.1 (by decide) _) trivial (fun sz => mX2_since l D d sd (sa a 0) N (w_2.2.2.2.2 0) x1 _ h_117 sz) (cwV 1 C.2.2.2.2 (lw_V q894 q895 q896 q125 q897) rfl rfl rfl hdX2_since ⟨Nat.le_of_ble_eq_true rfl, Nat.le_of_ble_eq_true rfl⟩) (g_recv hV (hT.ats (i := 0) (by decide) 0 rfl) (ci := 2) rfl) rfl hl.1 rfl (Nat.le_of_ble_eq_true rfl) dX0_road_117 ⟨Nat.zero_le _, Nat.zero_le _⟩ (fun H locs hT => ?_)
                  obtain ⟨t_117, et⟩ : ∃ y, y = (csS w_2.2 0 w_117.2) := ⟨_, rfl⟩
                  rw [← et] at hT
                  have hf := lett_e et hf
                  exact f_iret (wC d a ja) hA0 C hT hf hr hlocks dX0_road_120
                · have hf := ite_f hc6 hf
                  have hd0 := i32ne (n := 0) (by decide) hc0
                  have hd1 := i32ne (n := 1) (by decide) hc1
                  have hd2 := i32ne (n := 2) (by decide) hc2
                  have hd3 := i32ne (n := 3) (by decide) hc3
                  have hd4 := i32ne (n := 4) (by decide) hc4
                  have hd5 := i32ne (n := 5) (by decide) hc5
                  have hd6 := i32ne (n := 6) (by decide) hc6
                  refine lv_tableOut (tgt := 121) hx hb dX0_road_11 (by omega) (by decide) ?_
                  refine lv_iconst (v := -1) hx hb dX0_road_121 (by decide) ?_
                  exact f_iret (wC d a ja) hA0 C hT hf hr hlocks dX0_road_122
  · have hf := ite_f (fun q => q hc) hf
    refine lv_iconst (v := -1) hx hb dX0_road_8 (by decide) ?_
    exact f_iret (wC d a ja) hA0 C hT hf hr hlocks dX0_road_9
def fX0_isBeat (N : Nat) (j : JS) (r : RS) (t0 : CS) (x1 : Int32) : Option (Int32 × CS) :=
  ((fX0_in N (x1).toInt64 (0 : Int64) (((j.1 3) - (1 : Int32))).toInt64).bind fun w_13 => (ckz w_13 (some (w_13, t0))))
theorem hdX0_isBeat : yX0_isBeat.cls = RX0 ∧ yX0_isBeat.cls ≠ "java/lang/invoke/MethodHandle" ∧ yX0_isBeat.cls ≠ "java/lang/invoke/VarHandle" ∧ (parseMethodDescriptor yX0_isBeat.desc).map (fun d => d.parameters.length) = some 1 := by decide +kernel
set_option maxHeartbeats 4000000 in
theorem mX0_isBeat (l : Launch) (D : va_G) (d : Nat → ClassId) (sd : Nat) (a : Nat → Nat) (ja : Nat → Nat) (N : Nat) (j : JS) (r : RS) (t0 : CS) (x1 : Int32) (w : Int32 × CS) (hf : fX0_isBeat N j r t0 x1 = some w) (sz : Nat) : Met l yX0_isBeat (ws_ yX0_isBeat cX0_isBeat 2 (some .boolean)) (rm_ 1 25) (GPc D d sd [.ref (a 32), .int x1] (wC d a ja t0) (fun P => JAt d ja j P ∧ RAt d (a 3) r P) sz) (GQi D w.1 (wC d a ja w.2) (wC d a ja t0) sz) 0 0 (va_A (wC d a ja t0) sz) := by
  refine Met.ofW (cc := cX0_isBeat) (maxL := 2) (ret := (some .boolean)) plX0 rfl ?_
  intro p e s m args below meth c s₁ B hml hv
  obtain ⟨C, hX, hR, hT, hr, hlocks, hargs, rfl⟩ := g_enter (own := RX0) B hml rfl hv
  have hx := C.1
  have hb := C.2.1
  have hV := hX.1
  obtain ⟨A, hA0⟩ : ∃ A, A = va_A (wC d a ja t0) s.heap.size := ⟨_, rfl⟩
  rw [← hA0] at hX hR hT
  show W p l e (rm_ 1 25) s m args below meth c s.heap [] 0 0 (MQ below (GQi D w.1 (wC d a ja w.2) (wC d a ja t0) s.heap.size) args s 0 0 (va_A (wC d a ja t0) s.heap.size)) _
  rw [← hA0]
  have hJ := hR.1
  obtain ⟨rmc, rel, rcap, rf, hrl, hrel, hrc, hrg⟩ := hR.2.unpack
  refine W.eq (by rw [hargs]) (t_in (vs := [.ref (a 32), .int x1]) (n := 2) (Nat.le_of_ble_eq_true rfl) (fun ls hl => ?_))
  have hl : lv_has ls 2 [(0, .ref (a 32)), (1, .int x1)] := hl
  unfold fX0_isBeat at hf
  refine lv_iload_n hx hb dX0_isBeat_0 rfl (lv_at hl 1 rfl) ?_
  refine lv_i2l hx hb dX0_isBeat_1 rfl ?_
  refine lv_lconst (v := 0) hx hb dX0_isBeat_2 (by decide) ?_
  refine lv_aload_n hx hb dX0_isBeat_3 rfl (lv_at hl 0 rfl) ?_
  refine r_get C hV (hT.atp 0 rfl) (ci := 1) rfl in_X0 0 (by decide) q334 rfl dX0_isBeat_4 ?_
  refine r_getN C hV hX.2.1 (hJ.1.at hT.2.2) (ci := 3) rfl in_X1 3 (by decide) q205 rfl dX0_isBeat_7 ?_
  refine lv_iconst (v := 1) hx hb dX0_isBeat_10 (by decide) ?_
  refine lv_isub hx hb dX0_isBeat_11 ?_
  refine lv_i2l hx hb dX0_isBeat_12 rfl ?_
  obtain ⟨w_13, h_13, hf⟩ := bind_e hf
  refine s_calli (vs := [.long (x1).toInt64, .long (0 : Int64), .long (((j.1 3) - (1 : Int32))).toInt64]) (rest := []) C (A_new hA0) hT (fun sz => mX0_in l N (x1).toInt64 (0 : Int64) (((j.1 3) - (1 : Int32))).toInt64 _ h_13 sz) (va_cwS 3 C.2.2.2.2 (lw_S q885 q518 q120 q519) rfl rfl rfl hdX0_in ⟨Nat.le_of_ble_eq_true rfl, Nat.le_of_ble_eq_true rfl⟩) rfl hl.1 rfl (Nat.le_of_ble_eq_true rfl) dX0_isBeat_13 ⟨Nat.zero_le _, Nat.zero_le _⟩ (fun H locs hT => ?_)
  obtain ⟨hz, hf⟩ := ckz_e hf
  exact f_zret (wC d a ja) hA0 C hT hf hz hr hlocks dX0_isBeat_16
def fX0_scored (N : Nat) (j : JS) (r : RS) (t0 : CS) (x1 : Int32) : Option (Int32 × CS) :=
  ((fX0_isBeat N j r  t0 x1).bind fun w_2 => (if w_2.1 = 0 then (some ((-1 : Int32), w_2.2)) else (ix x1 12 (some (((w_2.2.2.2.2 0).1 6 (x1).toNatClampNeg), w_2.2)))))
theorem hdX0_scored : yX0_scored.cls = RX0 ∧ yX0_scored.cls ≠ "java/lang/invoke/MethodHandle" ∧ yX0_scored.cls ≠ "java/lang/invoke/VarHandle" ∧ (parseMethodDescriptor yX0_scored.desc).map (fun d => d.parameters.length) = some 1 := by decide +kernel
set_option maxHeartbeats 4000000 in
theorem mX0_scored (l : Launch) (D : va_G) (d : Nat → ClassId) (sd : Nat) (a : Nat → Nat) (ja : Nat → Nat) (N : Nat) (j : JS) (r : RS) (t0 : CS) (x1 : Int32) (w : Int32 × CS) (hf : fX0_scored N j r t0 x1 = some w) (sz : Nat) : Met l yX0_scored (ws_ yX0_scored cX0_scored 2 (some .int)) (rm_ 2 46) (GPc D d sd [.ref (a 32), .int x1] (wC d a ja t0) (fun P => JAt d ja j P ∧ RAt d (a 3) r P) sz) (GQi D w.1 (wC d a ja w.2) (wC d a ja t0) sz) 0 0 (va_A (wC d a ja t0) sz) := by
  refine Met.ofW (cc := cX0_scored) (maxL := 2) (ret := (some .int)) plX0 rfl ?_
  intro p e s m args below meth c s₁ B hml hv
  obtain ⟨C, hX, hR, hT, hr, hlocks, hargs, rfl⟩ := g_enter (own := RX0) B hml rfl hv
  have hx := C.1
  have hb := C.2.1
  have hV := hX.1
  obtain ⟨A, hA0⟩ : ∃ A, A = va_A (wC d a ja t0) s.heap.size := ⟨_, rfl⟩
  rw [← hA0] at hX hR hT
  show W p l e (rm_ 2 46) s m args below meth c s.heap [] 0 0 (MQ below (GQi D w.1 (wC d a ja w.2) (wC d a ja t0) s.heap.size) args s 0 0 (va_A (wC d a ja t0) s.heap.size)) _
  rw [← hA0]
  have hJ := hR.1
  obtain ⟨rmc, rel, rcap, rf, hrl, hrel, hrc, hrg⟩ := hR.2.unpack
  refine W.eq (by rw [hargs]) (t_in (vs := [.ref (a 32), .int x1]) (n := 2) (Nat.le_of_ble_eq_true rfl) (fun ls hl => ?_))
  have hl : lv_has ls 2 [(0, .ref (a 32)), (1, .int x1)] := hl
  unfold fX0_scored at hf
  refine lv_aload_n hx hb dX0_scored_0 rfl (lv_at hl 0 rfl) ?_
  refine lv_iload_n hx hb dX0_scored_1 rfl (lv_at hl 1 rfl) ?_
  obtain ⟨w_2, h_2, hf⟩ := bind_e hf
  refine g_calli (vs := [.int x1]) (rest := []) C hX hT (A_new hA0) (Cut.all (D_nd hT.2.1) ((wC_fst d a ja _).trans (wC_fst d a ja t0).symm)) (Ro := (fun P => JAt d ja j P ∧ RAt d (a 3) r P)) ⟨hJ.step hT.2.2 (A_full hA0 hT.2.2.1), hR.2.step hT.2.2 (A_full hA0 hT.2.2.1)⟩ (fun sz => mX0_isBeat l D d sd a ja N j r  t0 x1 _ h_2 sz) (cwV 1 C.2.2.2.2 (lw_V q903 q905 qs27 q120 q906) rfl rfl rfl hdX0_isBeat ⟨Nat.le_of_ble_eq_true rfl, Nat.le_of_ble_eq_true rfl⟩) (g_recv hV (hT.atp 0 rfl) (ci := 1) rfl) rfl hl.1 rfl (Nat.le_of_ble_eq_true rfl) dX0_scored_2 ⟨Nat.zero_le _, Nat.zero_le _⟩ (fun H locs hT => ?_)
  refine lv_if_eq (tgt := 20) hx hb dX0_scored_5 (by decide) (fun hc => ?_) (fun hc => ?_)
  · have hf := ite_t hc hf
    refine lv_iconst (v := -1) hx hb dX0_scored_20 (by decide) ?_
    exact f_iret (wC d a ja) hA0 C hT hf hr hlocks dX0_scored_21
  · have hf := ite_f hc hf
    refine lv_aload_n hx hb dX0_scored_8 rfl (lv_at hl 0 rfl) ?_
    refine r_get C hV (hT.atp 0 rfl) (ci := 1) rfl in_X0 1 (by decide) q336 rfl dX0_scored_9 ?_
    refine r_getN C hV hX.2.1 (hT.ats (i := 0) (by decide) 0 rfl) (ci := 2) rfl in_X2 6 (by decide) q240 rfl dX0_scored_12 ?_
    refine lv_iload_n hx hb dX0_scored_15 rfl (lv_at hl 1 rfl) ?_
    obtain ⟨hi, hf⟩ := ix_e hf
    refine r_ild C hV (hT.ats (i := 0) (by decide) 7 rfl) _ hi rfl dX0_scored_16 ?_
    refine lv_goto (tgt := 21) hx hb dX0_scored_17 (by decide) ?_
    exact f_iret (wC d a ja) hA0 C hT hf hr hlocks dX0_scored_21
def fX0_heard (N : Nat) (j : JS) (r : RS) (t0 : CS) : Option (Int32 × CS) :=
  (some (((t0.2.2.2 0).2 7), t0))
theorem hdX0_heard : yX0_heard.cls = RX0 ∧ yX0_heard.cls ≠ "java/lang/invoke/MethodHandle" ∧ yX0_heard.cls ≠ "java/lang/invoke/VarHandle" ∧ (parseMethodDescriptor yX0_heard.desc).map (fun d => d.parameters.length) = some 0 := by decide +kernel
set_option maxHeartbeats 4000000 in
theorem mX0_heard (l : Launch) (D : va_G) (d : Nat → ClassId) (sd : Nat) (a : Nat → Nat) (ja : Nat → Nat) (N : Nat) (j : JS) (r : RS) (t0 : CS) (w : Int32 × CS) (hf : fX0_heard N j r t0 = some w) (sz : Nat) : Met l yX0_heard (ws_ yX0_heard cX0_heard 1 (some .int)) (rm_ 0 0) (GPc D d sd [.ref (a 32)] (wC d a ja t0) (fun P => JAt d ja j P ∧ RAt d (a 3) r P) sz) (GQi D w.1 (wC d a ja w.2) (wC d a ja t0) sz) 0 0 (va_A (wC d a ja t0) sz) := by
  refine Met.ofW (cc := cX0_heard) (maxL := 1) (ret := (some .int)) plX0 rfl ?_
  intro p e s m args below meth c s₁ B hml hv
  obtain ⟨C, hX, hR, hT, hr, hlocks, hargs, rfl⟩ := g_enter (own := RX0) B hml rfl hv
  have hx := C.1
  have hb := C.2.1
  have hV := hX.1
  obtain ⟨A, hA0⟩ : ∃ A, A = va_A (wC d a ja t0) s.heap.size := ⟨_, rfl⟩
  rw [← hA0] at hX hR hT
  show W p l e (rm_ 0 0) s m args below meth c s.heap [] 0 0 (MQ below (GQi D w.1 (wC d a ja w.2) (wC d a ja t0) s.heap.size) args s 0 0 (va_A (wC d a ja t0) s.heap.size)) _
  rw [← hA0]
  have hJ := hR.1
  obtain ⟨rmc, rel, rcap, rf, hrl, hrel, hrc, hrg⟩ := hR.2.unpack
  refine W.eq (by rw [hargs]) (t_in (vs := [.ref (a 32)]) (n := 1) (Nat.le_of_ble_eq_true rfl) (fun ls hl => ?_))
  have hl : lv_has ls 1 [(0, .ref (a 32))] := hl
  unfold fX0_heard at hf
  refine lv_aload_n hx hb dX0_heard_0 rfl (lv_at hl 0 rfl) ?_
  refine r_get C hV (hT.atp 0 rfl) (ci := 1) rfl in_X0 1 (by decide) q336 rfl dX0_heard_1 ?_
  refine r_getN C hV hX.2.1 (hT.ats (i := 0) (by decide) 0 rfl) (ci := 2) rfl in_X2 7 (by decide) q242 rfl dX0_heard_4 ?_
  exact f_iret (wC d a ja) hA0 C hT hf hr hlocks dX0_heard_7
def fX0_undo (N : Nat) (j : JS) (r : RS) (t0 : CS) : Option (Int32 × CS) :=
  (if ¬ (t0.1 19) = 0 then (lett (csI t0 20 (irem (((t0.1 20) + (20 : Int32)) - (1 : Int32)) (20 : Int32))) fun t_22 => (lett (csI t_22 19 ((t_22.1 19) - (1 : Int32))) fun t_32 => (ix (t_32.1 20) 20 ((fX2_copyFrom N (t_32.2.2.2 (6 + ((t_32.1 20)).toNatClampNeg)) (t_32.2.2.2 0) ).bind fun w_48 => (lett (csS t_32 0 w_48) fun t_48 => (some ((t_48.1 19), t_48))))))) else (some ((-1 : Int32), t0)))
theorem hdX0_undo : yX0_undo.cls = RX0 ∧ yX0_undo.cls ≠ "java/lang/invoke/MethodHandle" ∧ yX0_undo.cls ≠ "java/lang/invoke/VarHandle" ∧ (parseMethodDescriptor yX0_undo.desc).map (fun d => d.parameters.length) = some 0 := by decide +kernel
set_option maxHeartbeats 4000000 in
theorem mX0_undo (l : Launch) (D : va_G) (d : Nat → ClassId) (sd : Nat) (a : Nat → Nat) (ja : Nat → Nat) (N : Nat) (j : JS) (r : RS) (t0 : CS) (w : Int32 × CS) (hf : fX0_undo N j r t0 = some w) (sz : Nat) : Met l yX0_undo (ws_ yX0_undo cX0_undo 1 (some .int)) (rm_ 1 22) (GPc D d sd [.ref (a 32)] (wC d a ja t0) (fun P => JAt d ja j P ∧ RAt d (a 3) r P) sz) (GQi D w.1 (wC d a ja w.2) (wC d a ja t0) sz) 0 0 (va_A (wC d a ja t0) sz) := by
  refine Met.ofW (cc := cX0_undo) (maxL := 1) (ret := (some .int)) plX0 rfl ?_
  intro p e s m args below meth c s₁ B hml hv
  obtain ⟨C, hX, hR, hT, hr, hlocks, hargs, rfl⟩ := g_enter (own := RX0) B hml rfl hv
  have hx := C.1
  have hb := C.2.1
  have hV := hX.1
  obtain ⟨A, hA0⟩ : ∃ A, A = va_A (wC d a ja t0) s.heap.size := ⟨_, rfl⟩
  rw [← hA0] at hX hR hT
  show W p l e (rm_ 1 22) s m args below meth c s.heap [] 0 0 (MQ below (GQi D w.1 (wC d a ja w.2) (wC d a ja t0) s.heap.size) args s 0 0 (va_A (wC d a ja t0) s.heap.size)) _
  rw [← hA0]
  have hJ := hR.1
  obtain ⟨rmc, rel, rcap, rf, hrl, hrel, hrc, hrg⟩ := hR.2.unpack
  refine W.eq (by rw [hargs]) (t_in (vs := [.ref (a 32)]) (n := 1) (Nat.le_of_ble_eq_true rfl) (fun ls hl => ?_))
  have hl : lv_has ls 1 [(0, .ref (a 32))] := hl
  unfold fX0_undo at hf
  refine lv_aload_n hx hb dX0_undo_0 rfl (lv_at hl 0 rfl) ?_
  refine r_get C hV (hT.atp 0 rfl) (ci := 1) rfl in_X0 19 (by decide) q364 rfl dX0_undo_1 ?_
  refine lv_if_ne (tgt := 9) hx hb dX0_undo_4 (by decide) (fun hc => ?_) (fun hc => ?_)
  · have hf := ite_t hc hf
    refine lv_aload_n hx hb dX0_undo_9 rfl (lv_at hl 0 rfl) ?_
    refine lv_aload_n hx hb dX0_undo_10 rfl (lv_at hl 0 rfl) ?_
    refine r_get C hV (hT.atp 0 rfl) (ci := 1) rfl in_X0 20 (by decide) q365 rfl dX0_undo_11 ?_
    refine lv_bipush (v := 20) hx hb dX0_undo_14 (by decide) ?_
    refine lv_iadd hx hb dX0_undo_16 ?_
    refine lv_iconst (v := 1) hx hb dX0_undo_17 (by decide) ?_
    refine lv_isub hx hb dX0_undo_18 ?_
    refine lv_bipush (v := 20) hx hb dX0_undo_19 (by decide) ?_
    refine g_irem hx hb dX0_undo_21 (by decide) ?_
    obtain ⟨t_22, et⟩ : ∃ y, y = (csI t0 20 (irem (((t0.1 20) + (20 : Int32)) - (1 : Int32)) (20 : Int32))) := ⟨_, rfl⟩
    have hf := lett_e et hf
    refine w_put C hV hT (ws1 := (wC d a ja t_22)) 0 rfl rfl in_X0 tyX0_ok nmX0 20 (by decide) q365 (by rw [et]; exact upd_set hT.2.1 rfl (cset_20 d a ja t0 _)) rfl rfl rfl rfl (Nat.le_of_ble_eq_true rfl) dX0_undo_22 (fun H locs hT => ?_)
    refine lv_aload_n hx hb dX0_undo_25 rfl (lv_at hl 0 rfl) ?_
    refine lv_dup hx hb dX0_undo_26 rfl ?_
    refine r_get C hV (hT.atp 0 rfl) (ci := 1) rfl in_X0 19 (by decide) q364 rfl dX0_undo_27 ?_
    refine lv_iconst (v := 1) hx hb dX0_undo_30 (by decide) ?_
    refine lv_isub hx hb dX0_undo_31 ?_
    obtain ⟨t_32, et⟩ : ∃ y, y = (csI t_22 19 ((t_22.1 19) - (1 : Int32))) := ⟨_, rfl⟩
    have hf := lett_e et hf
    refine w_put C hV hT (ws1 := (wC d a ja t_32)) 0 rfl rfl in_X0 tyX0_ok nmX0 19 (by decide) q364 (by rw [et]; exact upd_set hT.2.1 rfl (cset_19 d a ja t_22 _)) rfl rfl rfl rfl (Nat.le_of_ble_eq_true rfl) dX0_undo_32 (fun H locs hT => ?_)
    refine lv_aload_n hx hb dX0_undo_35 rfl (lv_at hl 0 rfl) ?_
    refine r_get C hV (hT.atp 0 rfl) (ci := 1) rfl in_X0 1 (by decide) q336 rfl dX0_undo_36 ?_
    refine lv_aload_n hx hb dX0_undo_39 rfl (lv_at hl 0 rfl) ?_
    refine r_get C hV (hT.atp 0 rfl) (ci := 1) rfl in_X0 18 (by decide) q362 rfl dX0_undo_40 ?_
    refine lv_aload_n hx hb dX0_undo_43 rfl (lv_at hl 0 rfl) ?_
    refine r_get C hV (hT.atp 0 rfl) (ci := 1) rfl in_X0 20 (by decide) q365 rfl dX0_undo_44 ?_
    obtain ⟨hv_47, hf⟩ := ix_e hf
    have hi := hv_47
    have hq_47 := vin26p hi
    refine r_qld (x := (sa a (6 + ((t_32.1 20)).toNatClampNeg) 0)) C hV (hT.atp 7 rfl) (t0 := 4) rfl hi rfl dX0_undo_47 ?_
    obtain ⟨w_48, h_48, hf⟩ := bind_e hf
    refine g_callv (vs := [.ref (sa a (6 + ((t_32.1 20)).toNatClampNeg) 0)]) (rest := []) C hX hT (A_new hA0) (wC_cutS hT.2.1 (by decide) _) (wC_frz hT (by decide) hq_47 ((by omega)) (t_32.2.2.2 0)) (fun sz => mX2_copyFrom l D d sd (sa a 0) (sa a (6 + ((t_32.1 20)).toNatClampNeg)) N (t_32.2.2.2 (6 + ((t_32.1 20)).toNatClampNeg)) (t_32.2.2.2 0)  _ h_48 sz) (cwV 1 C.2.2.2.2 (lw_V q915 q916 q917 q125 q918) rfl rfl rfl hdX2_copyFrom ⟨Nat.le_of_ble_eq_true rfl, Nat.le_of_ble_eq_true rfl⟩) (g_recv hV (hT.ats (i := 0) (by decide) 0 rfl) (ci := 2) rfl) rfl hl.1 rfl (Nat.le_of_ble_eq_true rfl) dX0_undo_48 ⟨Nat.zero_le _, Nat.zero_le _⟩ (fun H locs hT => ?_)
    obtain ⟨t_48, et⟩ : ∃ y, y = (csS t_32 0 w_48) := ⟨_, rfl⟩
    rw [← et] at hT
    have hf := lett_e et hf
    refine lv_aload_n hx hb dX0_undo_51 rfl (lv_at hl 0 rfl) ?_
    refine r_get C hV (hT.atp 0 rfl) (ci := 1) rfl in_X0 19 (by decide) q364 rfl dX0_undo_52 ?_
    exact f_iret (wC d a ja) hA0 C hT hf hr hlocks dX0_undo_55
  · have hf := ite_f (fun q => q hc) hf
    refine lv_iconst (v := -1) hx hb dX0_undo_7 (by decide) ?_
    exact f_iret (wC d a ja) hA0 C hT hf hr hlocks dX0_undo_8
def fX0_isJunction (N : Nat) (j : JS) (r : RS) (t0 : CS) : Option (Int32 × CS) :=
  (if (j.1 3) ≤ 0 then (some ((0 : Int32), t0)) else (some ((1 : Int32), t0)))
theorem hdX0_isJunction : yX0_isJunction.cls = RX0 ∧ yX0_isJunction.cls ≠ "java/lang/invoke/MethodHandle" ∧ yX0_isJunction.cls ≠ "java/lang/invoke/VarHandle" ∧ (parseMethodDescriptor yX0_isJunction.desc).map (fun d => d.parameters.length) = some 0 := by decide +kernel
set_option maxHeartbeats 4000000 in
theorem mX0_isJunction (l : Launch) (D : va_G) (d : Nat → ClassId) (sd : Nat) (a : Nat → Nat) (ja : Nat → Nat) (N : Nat) (j : JS) (r : RS) (t0 : CS) (w : Int32 × CS) (hf : fX0_isJunction N j r t0 = some w) (sz : Nat) : Met l yX0_isJunction (ws_ yX0_isJunction cX0_isJunction 1 (some .boolean)) (rm_ 0 0) (GPc D d sd [.ref (a 32)] (wC d a ja t0) (fun P => JAt d ja j P ∧ RAt d (a 3) r P) sz) (GQi D w.1 (wC d a ja w.2) (wC d a ja t0) sz) 0 0 (va_A (wC d a ja t0) sz) := by
  refine Met.ofW (cc := cX0_isJunction) (maxL := 1) (ret := (some .boolean)) plX0 rfl ?_
  intro p e s m args below meth c s₁ B hml hv
  obtain ⟨C, hX, hR, hT, hr, hlocks, hargs, rfl⟩ := g_enter (own := RX0) B hml rfl hv
  have hx := C.1
  have hb := C.2.1
  have hV := hX.1
  obtain ⟨A, hA0⟩ : ∃ A, A = va_A (wC d a ja t0) s.heap.size := ⟨_, rfl⟩
  rw [← hA0] at hX hR hT
  show W p l e (rm_ 0 0) s m args below meth c s.heap [] 0 0 (MQ below (GQi D w.1 (wC d a ja w.2) (wC d a ja t0) s.heap.size) args s 0 0 (va_A (wC d a ja t0) s.heap.size)) _
  rw [← hA0]
  have hJ := hR.1
  obtain ⟨rmc, rel, rcap, rf, hrl, hrel, hrc, hrg⟩ := hR.2.unpack
  refine W.eq (by rw [hargs]) (t_in (vs := [.ref (a 32)]) (n := 1) (Nat.le_of_ble_eq_true rfl) (fun ls hl => ?_))
  have hl : lv_has ls 1 [(0, .ref (a 32))] := hl
  unfold fX0_isJunction at hf
  refine lv_aload_n hx hb dX0_isJunction_0 rfl (lv_at hl 0 rfl) ?_
  refine r_get C hV (hT.atp 0 rfl) (ci := 1) rfl in_X0 0 (by decide) q334 rfl dX0_isJunction_1 ?_
  refine r_getN C hV hX.2.1 (hJ.1.at hT.2.2) (ci := 3) rfl in_X1 3 (by decide) q205 rfl dX0_isJunction_4 ?_
  refine lv_if_le (tgt := 14) hx hb dX0_isJunction_7 (by decide) (fun hc => ?_) (fun hc => ?_)
  · have hf := ite_t hc hf
    refine lv_iconst (v := 0) hx hb dX0_isJunction_14 (by decide) ?_
    exact f_zret (wC d a ja) hA0 C hT hf (Or.inl rfl) hr hlocks dX0_isJunction_15
  · have hf := ite_f hc hf
    refine lv_iconst (v := 1) hx hb dX0_isJunction_10 (by decide) ?_
    refine lv_goto (tgt := 15) hx hb dX0_isJunction_11 (by decide) ?_
    exact f_zret (wC d a ja) hA0 C hT hf (Or.inr rfl) hr hlocks dX0_isJunction_15
def fX0_keeps (N : Nat) (j : JS) (r : RS) (t0 : CS) : Option (CS) :=
  (ix (t0.1 20) 20 ((fX2_copyFrom N (t0.2.2.2 0) (t0.2.2.2 (6 + ((t0.1 20)).toNatClampNeg)) ).bind fun w_13 => (lett (csS t0 (6 + ((t0.1 20)).toNatClampNeg) w_13) fun t_13 => (lett (csI t_13 20 (irem ((t_13.1 20) + (1 : Int32)) (20 : Int32))) fun t_26 => (lett (csI t_26 19 (jmin (20 : Int32) ((t_26.1 19) + (1 : Int32)))) fun t_41 => (some t_41))))))
theorem hdX0_keeps : yX0_keeps.cls = RX0 ∧ yX0_keeps.cls ≠ "java/lang/invoke/MethodHandle" ∧ yX0_keeps.cls ≠ "java/lang/invoke/VarHandle" ∧ (parseMethodDescriptor yX0_keeps.desc).map (fun d => d.parameters.length) = some 0 := by decide +kernel
set_option maxHeartbeats 4000000 in
theorem mX0_keeps (l : Launch) (D : va_G) (d : Nat → ClassId) (sd : Nat) (a : Nat → Nat) (ja : Nat → Nat) (N : Nat) (j : JS) (r : RS) (t0 : CS) (w : CS) (hf : fX0_keeps N j r t0 = some w) (sz : Nat) : Met l yX0_keeps (ws_ yX0_keeps cX0_keeps 1 none) (rm_ 1 22) (GPc D d sd [.ref (a 32)] (wC d a ja t0) (fun P => JAt d ja j P ∧ RAt d (a 3) r P) sz) (GQv D (wC d a ja w) (wC d a ja t0) sz) 0 0 (va_A (wC d a ja t0) sz) := by
  refine Met.ofW (cc := cX0_keeps) (maxL := 1) (ret := none) plX0 rfl ?_
  intro p e s m args below meth c s₁ B hml hv
  obtain ⟨C, hX, hR, hT, hr, hlocks, hargs, rfl⟩ := g_enter (own := RX0) B hml rfl hv
  have hx := C.1
  have hb := C.2.1
  have hV := hX.1
  obtain ⟨A, hA0⟩ : ∃ A, A = va_A (wC d a ja t0) s.heap.size := ⟨_, rfl⟩
  rw [← hA0] at hX hR hT
  show W p l e (rm_ 1 22) s m args below meth c s.heap [] 0 0 (MQ below (GQv D (wC d a ja w) (wC d a ja t0) s.heap.size) args s 0 0 (va_A (wC d a ja t0) s.heap.size)) _
  rw [← hA0]
  have hJ := hR.1
  obtain ⟨rmc, rel, rcap, rf, hrl, hrel, hrc, hrg⟩ := hR.2.unpack
  refine W.eq (by rw [hargs]) (t_in (vs := [.ref (a 32)]) (n := 1) (Nat.le_of_ble_eq_true rfl) (fun ls hl => ?_))
  have hl : lv_has ls 1 [(0, .ref (a 32))] := hl
  unfold fX0_keeps at hf
  refine lv_aload_n hx hb dX0_keeps_0 rfl (lv_at hl 0 rfl) ?_
  refine r_get C hV (hT.atp 0 rfl) (ci := 1) rfl in_X0 18 (by decide) q362 rfl dX0_keeps_1 ?_
  refine lv_aload_n hx hb dX0_keeps_4 rfl (lv_at hl 0 rfl) ?_
  refine r_get C hV (hT.atp 0 rfl) (ci := 1) rfl in_X0 20 (by decide) q365 rfl dX0_keeps_5 ?_
  obtain ⟨hv_8, hf⟩ := ix_e hf
  have hi := hv_8
  have hq_8 := vin26p hi
  refine r_qld (x := (sa a (6 + ((t0.1 20)).toNatClampNeg) 0)) C hV (hT.atp 7 rfl) (t0 := 4) rfl hi rfl dX0_keeps_8 ?_
  refine lv_aload_n hx hb dX0_keeps_9 rfl (lv_at hl 0 rfl) ?_
  refine r_get C hV (hT.atp 0 rfl) (ci := 1) rfl in_X0 1 (by decide) q336 rfl dX0_keeps_10 ?_
  obtain ⟨w_13, h_13, hf⟩ := bind_e hf
  refine g_callv (vs := [.ref (sa a 0 0)]) (rest := []) C hX hT (A_new hA0) (wC_cutS hT.2.1 hq_8 _) (wC_frz hT hq_8 (by decide) ((by omega)) (t0.2.2.2 (6 + ((t0.1 20)).toNatClampNeg))) (fun sz => mX2_copyFrom l D d sd (sa a (6 + ((t0.1 20)).toNatClampNeg)) (sa a 0) N (t0.2.2.2 0) (t0.2.2.2 (6 + ((t0.1 20)).toNatClampNeg))  _ h_13 sz) (cwV 1 C.2.2.2.2 (lw_V q915 q916 q917 q125 q918) rfl rfl rfl hdX2_copyFrom ⟨Nat.le_of_ble_eq_true rfl, Nat.le_of_ble_eq_true rfl⟩) (g_recv hV (hT.ats (i := (6 + ((t0.1 20)).toNatClampNeg)) hq_8 0 rfl) (ci := 2) rfl) rfl hl.1 rfl (Nat.le_of_ble_eq_true rfl) dX0_keeps_13 ⟨Nat.zero_le _, Nat.zero_le _⟩ (fun H locs hT => ?_)
  obtain ⟨t_13, et⟩ : ∃ y, y = (csS t0 (6 + ((t0.1 20)).toNatClampNeg) w_13) := ⟨_, rfl⟩
  rw [← et] at hT
  have hf := lett_e et hf
  refine lv_aload_n hx hb dX0_keeps_16 rfl (lv_at hl 0 rfl) ?_
  refine lv_aload_n hx hb dX0_keeps_17 rfl (lv_at hl 0 rfl) ?_
  refine r_get C hV (hT.atp 0 rfl) (ci := 1) rfl in_X0 20 (by decide) q365 rfl dX0_keeps_18 ?_
  refine lv_iconst (v := 1) hx hb dX0_keeps_21 (by decide) ?_
  refine lv_iadd hx hb dX0_keeps_22 ?_
  refine lv_bipush (v := 20) hx hb dX0_keeps_23 (by decide) ?_
  refine g_irem hx hb dX0_keeps_25 (by decide) ?_
  obtain ⟨t_26, et⟩ : ∃ y, y = (csI t_13 20 (irem ((t_13.1 20) + (1 : Int32)) (20 : Int32))) := ⟨_, rfl⟩
  have hf := lett_e et hf
  refine w_put C hV hT (ws1 := (wC d a ja t_26)) 0 rfl rfl in_X0 tyX0_ok nmX0 20 (by decide) q365 (by rw [et]; exact upd_set hT.2.1 rfl (cset_20 d a ja t_13 _)) rfl rfl rfl rfl (Nat.le_of_ble_eq_true rfl) dX0_keeps_26 (fun H locs hT => ?_)
  refine lv_aload_n hx hb dX0_keeps_29 rfl (lv_at hl 0 rfl) ?_
  refine lv_bipush (v := 20) hx hb dX0_keeps_30 (by decide) ?_
  refine lv_aload_n hx hb dX0_keeps_32 rfl (lv_at hl 0 rfl) ?_
  refine r_get C hV (hT.atp 0 rfl) (ci := 1) rfl in_X0 19 (by decide) q364 rfl dX0_keeps_33 ?_
  refine lv_iconst (v := 1) hx hb dX0_keeps_36 (by decide) ?_
  refine lv_iadd hx hb dX0_keeps_37 ?_
  refine g_min C hl.1 q931 q675 q138 q676 (Nat.le_of_ble_eq_true rfl) (Nat.le_of_ble_eq_true rfl) ⟨Nat.zero_le _, Nat.zero_le _⟩ dX0_keeps_38 ?_
  obtain ⟨t_41, et⟩ : ∃ y, y = (csI t_26 19 (jmin (20 : Int32) ((t_26.1 19) + (1 : Int32)))) := ⟨_, rfl⟩
  have hf := lett_e et hf
  refine w_put C hV hT (ws1 := (wC d a ja t_41)) 0 rfl rfl in_X0 tyX0_ok nmX0 19 (by decide) q364 (by rw [et]; exact upd_set hT.2.1 rfl (cset_19 d a ja t_26 _)) rfl rfl rfl rfl (Nat.le_of_ble_eq_true rfl) dX0_keeps_41 (fun H locs hT => ?_)
  exact f_vret (wC d a ja) hA0 C hT hf hr hlocks dX0_keeps_44
def fX0_isScored (N : Nat) (j : JS) (r : RS) (i1 : Nat) (t0 : CS) (x2 : Int32) : Option (Int32 × CS) :=
  (nz (j.1 3) (ix (irem ((t0.2.2.2 i1).2 8) (j.1 3)) 12 ((fX0_has N ((t0.2.2.2 i1).1 6 ((irem ((t0.2.2.2 i1).2 8) (j.1 3))).toNatClampNeg) x2).bind fun w_18 => (ckz w_18 (some (w_18, t0))))))
theorem hdX0_isScored : yX0_isScored.cls = RX0 ∧ yX0_isScored.cls ≠ "java/lang/invoke/MethodHandle" ∧ yX0_isScored.cls ≠ "java/lang/invoke/VarHandle" ∧ (parseMethodDescriptor yX0_isScored.desc).map (fun d => d.parameters.length) = some 2 := by decide +kernel
set_option maxHeartbeats 4000000 in
theorem mX0_isScored (l : Launch) (D : va_G) (d : Nat → ClassId) (sd : Nat) (a : Nat → Nat) (ja : Nat → Nat) (N : Nat) (j : JS) (r : RS) (i1 : Nat) (t0 : CS) (x2 : Int32) (w : Int32 × CS) (hf : fX0_isScored N j r i1 t0 x2 = some w) (hi1 : i1 < 26) (sz : Nat) : Met l yX0_isScored (ws_ yX0_isScored cX0_isScored 3 (some .boolean)) (rm_ 1 21) (GPc D d sd [.ref (a 32), .ref (sa a i1 0), .int x2] (wC d a ja t0) (fun P => JAt d ja j P ∧ RAt d (a 3) r P) sz) (GQi D w.1 (wC d a ja w.2) (wC d a ja t0) sz) 0 0 (va_A (wC d a ja t0) sz) := by
  refine Met.ofW (cc := cX0_isScored) (maxL := 3) (ret := (some .boolean)) plX0 rfl ?_
  intro p e s m args below meth c s₁ B hml hv
  obtain ⟨C, hX, hR, hT, hr, hlocks, hargs, rfl⟩ := g_enter (own := RX0) B hml rfl hv
  have hx := C.1
  have hb := C.2.1
  have hV := hX.1
  obtain ⟨A, hA0⟩ : ∃ A, A = va_A (wC d a ja t0) s.heap.size := ⟨_, rfl⟩
  rw [← hA0] at hX hR hT
  show W p l e (rm_ 1 21) s m args below meth c s.heap [] 0 0 (MQ below (GQi D w.1 (wC d a ja w.2) (wC d a ja t0) s.heap.size) args s 0 0 (va_A (wC d a ja t0) s.heap.size)) _
  rw [← hA0]
  have hJ := hR.1
  obtain ⟨rmc, rel, rcap, rf, hrl, hrel, hrc, hrg⟩ := hR.2.unpack
  refine W.eq (by rw [hargs]) (t_in (vs := [.ref (a 32), .ref (sa a i1 0), .int x2]) (n := 3) (Nat.le_of_ble_eq_true rfl) (fun ls hl => ?_))
  have hl : lv_has ls 3 [(0, .ref (a 32)), (1, .ref (sa a i1 0)), (2, .int x2)] := hl
  unfold fX0_isScored at hf
  refine lv_aload_n hx hb dX0_isScored_0 rfl (lv_at hl 1 rfl) ?_
  refine r_getN C hV hX.2.1 (hT.ats (i := i1) hi1 0 rfl) (ci := 2) rfl in_X2 6 (by decide) q240 rfl dX0_isScored_1 ?_
  refine lv_aload_n hx hb dX0_isScored_4 rfl (lv_at hl 1 rfl) ?_
  refine r_getN C hV hX.2.1 (hT.ats (i := i1) hi1 0 rfl) (ci := 2) rfl in_X2 8 (by decide) q244 rfl dX0_isScored_5 ?_
  refine lv_aload_n hx hb dX0_isScored_8 rfl (lv_at hl 0 rfl) ?_
  refine r_get C hV (hT.atp 0 rfl) (ci := 1) rfl in_X0 0 (by decide) q334 rfl dX0_isScored_9 ?_
  refine r_getN C hV hX.2.1 (hJ.1.at hT.2.2) (ci := 3) rfl in_X1 3 (by decide) q205 rfl dX0_isScored_12 ?_
  obtain ⟨hn, hf⟩ := nz_e hf
  refine g_irem hx hb dX0_isScored_15 hn ?_
  obtain ⟨hi, hf⟩ := ix_e hf
  refine r_ild C hV (hT.ats (i := i1) hi1 7 rfl) _ hi rfl dX0_isScored_16 ?_
  refine lv_iload_n hx hb dX0_isScored_17 rfl (lv_at hl 2 rfl) ?_
  obtain ⟨w_18, h_18, hf⟩ := bind_e hf
  refine s_calli (vs := [.int ((t0.2.2.2 i1).1 6 ((irem ((t0.2.2.2 i1).2 8) (j.1 3))).toNatClampNeg), .int x2]) (rest := []) C (A_new hA0) hT (fun sz => mX0_has l N ((t0.2.2.2 i1).1 6 ((irem ((t0.2.2.2 i1).2 8) (j.1 3))).toNatClampNeg) x2 _ h_18 sz) (va_cwS 2 C.2.2.2.2 (lw_S q952 q953 q120 q954) rfl rfl rfl hdX0_has ⟨Nat.le_of_ble_eq_true rfl, Nat.le_of_ble_eq_true rfl⟩) rfl hl.1 rfl (Nat.le_of_ble_eq_true rfl) dX0_isScored_18 ⟨Nat.zero_le _, Nat.zero_le _⟩ (fun H locs hT => ?_)
  obtain ⟨hz, hf⟩ := ckz_e hf
  exact f_zret (wC d a ja) hA0 C hT hf hz hr hlocks dX0_isScored_21
def fX0_isWanted (N : Nat) (j : JS) (r : RS) (i1 : Nat) (t0 : CS) (x2 : Int32) (x3 : Int32) : Option (Int32 × CS) :=
  (if ¬ (t0.1 4) = (-1 : Int32) then (lett (csW t0 0 (x2).toInt64) fun t_22 => (ix x2 6 (lett (csW t_22 1 (((t_22.2.2.2 i1).1 0 (x2).toNatClampNeg)).toInt64) fun t_35 => (ix x2 6 (lett (csW t_35 2 (((t_35.2.2.2 i1).1 1 (x2).toNatClampNeg)).toInt64) fun t_48 => (ix x2 6 (lett (csW t_48 3 (((t_48.2.2.2 i1).1 2 (x2).toNatClampNeg)).toInt64) fun t_61 => ((fX0_isScored N j r i1 t_61 x2).bind fun w_70 => ((fX0_bit N w_70.1).bind fun w_73 => (lett (csW w_70.2 4 (w_73).toInt64) fun t_77 => ((fJ14_bitCount N x3).bind fun w_84 => (lett (csW t_77 5 (w_84).toInt64) fun t_88 => ((fX2_sound N (t_88.2.2.2 i1) (x3 ||| ((1 : Int32) <<< (x2 &&& 31)))).bind fun w_101 => (lett (csS t_88 i1 w_101.2) fun t_101 => ((fX2_sound N (t_101.2.2.2 i1) x3).bind fun w_106 => (lett (csS t_101 i1 w_106.2) fun t_106 => (lett (csW t_106 6 ((w_101.1 - w_106.1)).toInt64) fun t_111 => ((fX2_since N (t_111.2.2.2 i1) x2).bind fun w_120 => (lett (csS t_111 i1 w_120.2) fun t_120 => (lett (csW t_120 7 (w_120.1).toInt64) fun t_124 => (ix x2 6 (lett (csW t_124 8 (((t_124.2.2.2 i1).1 3 (x2).toNatClampNeg)).toInt64) fun t_138 => ((fX2_sumOf N 6 ((t_138.2.2.2 i1).1 0)).bind fun w_149 => (lett (csW t_138 9 (w_149).toInt64) fun t_153 => (nz (j.1 3) (lett (csW t_153 10 ((irem ((t_153.2.2.2 i1).2 8) (j.1 3))).toInt64) fun t_173 => (nz (j.1 3) (lett (csW t_173 11 ((((t_173.2.2.2 i1).2 8) / (j.1 3))).toInt64) fun t_193 => (ix (t_193.1 4) r.1.toNatClampNeg (lett (r.2 ((t_193.1 4)).toNatClampNeg t_193.2.2.1) fun w_212 => (ckz w_212 (some (w_212, t_193))))))))))))))))))))))))))))))))) else ((fX0_isScored N j r i1 t0 x2).bind fun w_11 => (ckz w_11.1 (some (w_11.1, w_11.2)))))
theorem hdX0_isWanted : yX0_isWanted.cls = RX0 ∧ yX0_isWanted.cls ≠ "java/lang/invoke/MethodHandle" ∧ yX0_isWanted.cls ≠ "java/lang/invoke/VarHandle" ∧ (parseMethodDescriptor yX0_isWanted.desc).map (fun d => d.parameters.length) = some 3 := by decide +kernel
set_option maxHeartbeats 4000000 in
theorem mX0_isWanted (l : Launch) (D : va_G) (d : Nat → ClassId) (sd : Nat) (a : Nat → Nat) (ja : Nat → Nat) (N : Nat) (j : JS) (r : RS) (i1 : Nat) (t0 : CS) (x2 : Int32) (x3 : Int32) (w : Int32 × CS) (hf : fX0_isWanted N j r i1 t0 x2 x3 = some w) (hi1 : i1 < 26) (sz : Nat) : Met l yX0_isWanted (ws_ yX0_isWanted cX0_isWanted 4 (some .boolean)) (rm_ 261 8022) (GPc D d sd [.ref (a 32), .ref (sa a i1 0), .int x2, .int x3] (wC d a ja t0) (fun P => JAt d ja j P ∧ RAt d (a 3) r P) sz) (GQi D w.1 (wC d a ja w.2) (wC d a ja t0) sz) 0 0 (va_A (wC d a ja t0) sz) := by
  refine Met.ofW (cc := cX0_isWanted) (maxL := 4) (ret := (some .boolean)) plX0 rfl ?_
  intro p e s m args below meth c s₁ B hml hv
  obtain ⟨C, hX, hR, hT, hr, hlocks, hargs, rfl⟩ := g_enter (own := RX0) B hml rfl hv
  have hx := C.1
  have hb := C.2.1
  have hV := hX.1
  obtain ⟨A, hA0⟩ : ∃ A, A = va_A (wC d a ja t0) s.heap.size := ⟨_, rfl⟩
  rw [← hA0] at hX hR hT
  show W p l e (rm_ 261 8022) s m args below meth c s.heap [] 0 0 (MQ below (GQi D w.1 (wC d a ja w.2) (wC d a ja t0) s.heap.size) args s 0 0 (va_A (wC d a ja t0) s.heap.size)) _
  rw [← hA0]
  have hJ := hR.1
  obtain ⟨rmc, rel, rcap, rf, hrl, hrel, hrc, hrg⟩ := hR.2.unpack
  refine W.eq (by rw [hargs]) (t_in (vs := [.ref (a 32), .ref (sa a i1 0), .int x2, .int x3]) (n := 4) (Nat.le_of_ble_eq_true rfl) (fun ls hl => ?_))
  have hl : lv_has ls 4 [(0, .ref (a 32)), (1, .ref (sa a i1 0)), (2, .int x2), (3, .int x3)] := hl
  unfold fX0_isWanted at hf
  refine lv_aload_n hx hb dX0_isWanted_0 rfl (lv_at hl 0 rfl) ?_
  refine r_get C hV (hT.atp 0 rfl) (ci := 1) rfl in_X0 4 (by decide) q341 rfl dX0_isWanted_1 ?_
  refine lv_iconst (v := -1) hx hb dX0_isWanted_4 (by decide) ?_
  refine lv_icmp_ne (tgt := 15) hx hb dX0_isWanted_5 (by decide) (fun hc => ?_) (fun hc => ?_)
  · have hf := ite_t hc hf
    refine lv_aload_n hx hb dX0_isWanted_15 rfl (lv_at hl 0 rfl) ?_
    refine r_get C hV (hT.atp 0 rfl) (ci := 1) rfl in_X0 16 (by decide) q360 rfl dX0_isWanted_16 ?_
    refine lv_iconst (v := 0) hx hb dX0_isWanted_19 (by decide) ?_
    refine lv_iload_n hx hb dX0_isWanted_20 rfl (lv_at hl 2 rfl) ?_
    refine lv_i2l hx hb dX0_isWanted_21 rfl ?_
    obtain ⟨t_22, et⟩ : ∃ y, y = (csW t0 0 (x2).toInt64) := ⟨_, rfl⟩
    have hf := lett_e et hf
    refine w_lst (ws1 := (wC d a ja t_22)) C hV hT 5 0 rfl (vin_of (by decide)) (by decide) (by rw [et]; exact upd_set hT.2.1 rfl (cast_16 d a ja t0 _ _)) dX0_isWanted_22 (fun H locs hT => ?_)
    refine lv_aload_n hx hb dX0_isWanted_23 rfl (lv_at hl 0 rfl) ?_
    refine r_get C hV (hT.atp 0 rfl) (ci := 1) rfl in_X0 16 (by decide) q360 rfl dX0_isWanted_24 ?_
    refine lv_iconst (v := 1) hx hb dX0_isWanted_27 (by decide) ?_
    refine lv_aload_n hx hb dX0_isWanted_28 rfl (lv_at hl 1 rfl) ?_
    refine r_getN C hV hX.2.1 (hT.ats (i := i1) hi1 0 rfl) (ci := 2) rfl in_X2 0 (by decide) q228 rfl dX0_isWanted_29 ?_
    refine lv_iload_n hx hb dX0_isWanted_32 rfl (lv_at hl 2 rfl) ?_
    obtain ⟨hi, hf⟩ := ix_e hf
    refine r_ild C hV (hT.ats (i := i1) hi1 1 rfl) _ hi rfl dX0_isWanted_33 ?_
    refine lv_i2l hx hb dX0_isWanted_34 rfl ?_
    obtain ⟨t_35, et⟩ : ∃ y, y = (csW t_22 1 (((t_22.2.2.2 i1).1 0 (x2).toNatClampNeg)).toInt64) := ⟨_, rfl⟩
    have hf := lett_e et hf
    refine w_lst (ws1 := (wC d a ja t_35)) C hV hT 5 1 rfl (vin_of (by decide)) (by decide) (by rw [et]; exact upd_set hT.2.1 rfl (cast_16 d a ja t_22 _ _)) dX0_isWanted_35 (fun H locs hT => ?_)
    refine lv_aload_n hx hb dX0_isWanted_36 rfl (lv_at hl 0 rfl) ?_
    refine r_get C hV (hT.atp 0 rfl) (ci := 1) rfl in_X0 16 (by decide) q360 rfl dX0_isWanted_37 ?_
    refine lv_iconst (v := 2) hx hb dX0_isWanted_40 (by decide) ?_
    refine lv_aload_n hx hb dX0_isWanted_41 rfl (lv_at hl 1 rfl) ?_
    refine r_getN C hV hX.2.1 (hT.ats (i := i1) hi1 0 rfl) (ci := 2) rfl in_X2 1 (by decide) q230 rfl dX0_isWanted_42 ?_
    refine lv_iload_n hx hb dX0_isWanted_45 rfl (lv_at hl 2 rfl) ?_
    obtain ⟨hi, hf⟩ := ix_e hf
    refine r_ild C hV (hT.ats (i := i1) hi1 2 rfl) _ hi rfl dX0_isWanted_46 ?_
    refine lv_i2l hx hb dX0_isWanted_47 rfl ?_
    obtain ⟨t_48, et⟩ : ∃ y, y = (csW t_35 2 (((t_35.2.2.2 i1).1 1 (x2).toNatClampNeg)).toInt64) := ⟨_, rfl⟩
    have hf := lett_e et hf
    refine w_lst (ws1 := (wC d a ja t_48)) C hV hT 5 2 rfl (vin_of (by decide)) (by decide) (by rw [et]; exact upd_set hT.2.1 rfl (cast_16 d a ja t_35 _ _)) dX0_isWanted_48 (fun H locs hT => ?_)
    refine lv_aload_n hx hb dX0_isWanted_49 rfl (lv_at hl 0 rfl) ?_
    refine r_get C hV (hT.atp 0 rfl) (ci := 1) rfl in_X0 16 (by decide) q360 rfl dX0_isWanted_50 ?_
    refine lv_iconst (v := 3) hx hb dX0_isWanted_53 (by decide) ?_
    refine lv_aload_n hx hb dX0_isWanted_54 rfl (lv_at hl 1 rfl) ?_
    refine r_getN C hV hX.2.1 (hT.ats (i := i1) hi1 0 rfl) (ci := 2) rfl in_X2 2 (by decide) q232 rfl dX0_isWanted_55 ?_
    refine lv_iload_n hx hb dX0_isWanted_58 rfl (lv_at hl 2 rfl) ?_
    obtain ⟨hi, hf⟩ := ix_e hf
    refine r_ild C hV (hT.ats (i := i1) hi1 3 rfl) _ hi rfl dX0_isWanted_59 ?_
    refine lv_i2l hx hb dX0_isWanted_60 rfl ?_
    obtain ⟨t_61, et⟩ : ∃ y, y = (csW t_48 3 (((t_48.2.2.2 i1).1 2 (x2).toNatClampNeg)).toInt64) := ⟨_, rfl⟩
    have hf := lett_e et hf
    refine w_lst (ws1 := (wC d a ja t_61)) C hV hT 5 3 rfl (vin_of (by decide)) (by decide) (by rw [et]; exact upd_set hT.2.1 rfl (cast_16 d a ja t_48 _ _)) dX0_isWanted_61 (fun H locs hT => ?_)
    refine lv_aload_n hx hb dX0_isWanted_62 rfl (lv_at hl 0 rfl) ?_
    refine r_get C hV (hT.atp 0 rfl) (ci := 1) rfl in_X0 16 (by decide) q360 rfl dX0_isWanted_63 ?_
    refine lv_iconst (v := 4) hx hb dX0_isWanted_66 (by decide) ?_
    refine lv_aload_n hx hb dX0_isWanted_67 rfl (lv_at hl 0 rfl) ?_
    refine lv_aload_n hx hb dX0_isWanted_68 rfl (lv_at hl 1 rfl) ?_
    refine lv_iload_n hx hb dX0_isWanted_69 rfl (lv_at hl 2 rfl) ?_
    obtain ⟨w_70, h_70, hf⟩ := bind_e hf
    refine g_calli (vs := [.ref (sa a i1 0), .int x2]) (rest := [.int (4 : Int32), .ref (a 16)]) C hX hT (A_new hA0) (Cut.all (D_nd hT.2.1) ((wC_fst d a ja _).trans (wC_fst d a ja t_61).symm)) (Ro := (fun P => JAt d ja j P ∧ RAt d (a 3) r P)) ⟨hJ.step hT.2.2 (A_full hA0 hT.2.2.1), hR.2.step hT.2.2 (A_full hA0 hT.2.2.1)⟩ (fun sz => mX0_isScored l D d sd a ja N j r i1 t_61 x2 _ h_70 hi1 sz) (cwV 2 C.2.2.2.2 (lw_V q948 q950 qs33 q120 q951) rfl rfl rfl hdX0_isScored ⟨Nat.le_of_ble_eq_true rfl, Nat.le_of_ble_eq_true rfl⟩) (g_recv hV (hT.atp 0 rfl) (ci := 1) rfl) rfl hl.1 rfl (Nat.le_of_ble_eq_true rfl) dX0_isWanted_70 ⟨Nat.zero_le _, Nat.zero_le _⟩ (fun H locs hT => ?_)
    obtain ⟨w_73, h_73, hf⟩ := bind_e hf
    refine s_calli (vs := [.int w_70.1]) (rest := [.int (4 : Int32), .ref (a 16)]) C (A_new hA0) hT (fun sz => mX0_bit l N w_70.1 _ h_73 sz) (va_cwS 1 C.2.2.2.2 (lw_S q955 q956 q120 q957) rfl rfl rfl hdX0_bit ⟨Nat.le_of_ble_eq_true rfl, Nat.le_of_ble_eq_true rfl⟩) rfl hl.1 rfl (Nat.le_of_ble_eq_true rfl) dX0_isWanted_73 ⟨Nat.zero_le _, Nat.zero_le _⟩ (fun H locs hT => ?_)
    refine lv_i2l hx hb dX0_isWanted_76 rfl ?_
    obtain ⟨t_77, et⟩ : ∃ y, y = (csW w_70.2 4 (w_73).toInt64) := ⟨_, rfl⟩
    have hf := lett_e et hf
    refine w_lst (ws1 := (wC d a ja t_77)) C hV hT 5 4 rfl (vin_of (by decide)) (by decide) (by rw [et]; exact upd_set hT.2.1 rfl (cast_16 d a ja w_70.2 _ _)) dX0_isWanted_77 (fun H locs hT => ?_)
    refine lv_aload_n hx hb dX0_isWanted_78 rfl (lv_at hl 0 rfl) ?_
    refine r_get C hV (hT.atp 0 rfl) (ci := 1) rfl in_X0 16 (by decide) q360 rfl dX0_isWanted_79 ?_
    refine lv_iconst (v := 5) hx hb dX0_isWanted_82 (by decide) ?_
    refine lv_iload_n hx hb dX0_isWanted_83 rfl (lv_at hl 3 rfl) ?_
    obtain ⟨w_84, h_84, hf⟩ := bind_e hf
    refine s_calli (vs := [.int x3]) (rest := [.int (5 : Int32), .ref (a 16)]) C (A_new hA0) hT (fun sz => mJ14_bitCount l N x3 _ h_84 sz) (va_cwS 1 C.2.2.2.2 (lw_S q958 q959 q152 q960) rfl rfl rfl hdJ14_bitCount ⟨Nat.le_of_ble_eq_true rfl, Nat.le_of_ble_eq_true rfl⟩) rfl hl.1 rfl (Nat.le_of_ble_eq_true rfl) dX0_isWanted_84 ⟨Nat.zero_le _, Nat.zero_le _⟩ (fun H locs hT => ?_)
    refine lv_i2l hx hb dX0_isWanted_87 rfl ?_
    obtain ⟨t_88, et⟩ : ∃ y, y = (csW t_77 5 (w_84).toInt64) := ⟨_, rfl⟩
    have hf := lett_e et hf
    refine w_lst (ws1 := (wC d a ja t_88)) C hV hT 5 5 rfl (vin_of (by decide)) (by decide) (by rw [et]; exact upd_set hT.2.1 rfl (cast_16 d a ja t_77 _ _)) dX0_isWanted_88 (fun H locs hT => ?_)
    refine lv_aload_n hx hb dX0_isWanted_89 rfl (lv_at hl 0 rfl) ?_
    refine r_get C hV (hT.atp 0 rfl) (ci := 1) rfl in_X0 16 (by decide) q360 rfl dX0_isWanted_90 ?_
    refine lv_bipush (v := 6) hx hb dX0_isWanted_93 (by decide) ?_
    refine lv_aload_n hx hb dX0_isWanted_95 rfl (lv_at hl 1 rfl) ?_
    refine lv_iload_n hx hb dX0_isWanted_96 rfl (lv_at hl 3 rfl) ?_
    refine lv_iconst (v := 1) hx hb dX0_isWanted_97 (by decide) ?_
    refine lv_iload_n hx hb dX0_isWanted_98 rfl (lv_at hl 2 rfl) ?_
    refine lv_ishl hx hb dX0_isWanted_99 ?_
    refine lv_ior hx hb dX0_isWanted_100 ?_
    obtain ⟨w_101, h_101, hf⟩ := bind_e hf
    refine g_calli (vs := [.int (x3 ||| ((1 : Int32) <<< (x2 &&& 31)))]) (rest := [.int (6 : Int32), .ref (a 16)]) C hX hT (A_new hA0) (wC_cutS hT.2.1 hi1 _) trivial (fun sz => mX2_sound l D d sd (sa a i1) N (t_88.2.2.2 i1) (x3 ||| ((1 : Int32) <<< (x2 &&& 31))) _ h_101 sz) (cwV 1 C.2.2.2.2 (lw_V q964 q965 q966 q125 q967) rfl rfl rfl hdX2_sound ⟨Nat.le_of_ble_eq_true rfl, Nat.le_of_ble_eq_true rfl⟩) (g_recv hV (hT.ats (i := i1) hi1 0 rfl) (ci := 2) rfl) rfl hl.1 rfl (Nat.le_of_ble_eq_true rfl) dX0_isWanted_101 ⟨Nat.zero_le _, Nat.zero_le _⟩ (fun H locs hT => ?_)
    obtain ⟨t_101, et⟩ : ∃ y, y = (csS t_88 i1 w_101.2) := ⟨_, rfl⟩
    rw [← et] at hT
    have hf := lett_e et hf
    refine lv_aload_n hx hb dX0_isWanted_104 rfl (lv_at hl 1 rfl) ?_
    refine lv_iload_n hx hb dX0_isWanted_105 rfl (lv_at hl 3 rfl) ?_
    obtain ⟨w_106, h_106, hf⟩ := bind_e hf
    refine g_calli (vs := [.int x3]) (rest := [.int w_101.1, .int (6 : Int32), .ref (a 16)]) C hX hT (A_new hA0) (wC_cutS hT.2.1 hi1 _) trivial (fun sz => mX2_sound l D d sd (sa a i1) N (t_101.2.2.2 i1) x3 _ h_106 sz) (cwV 1 C.2.2.2.2 (lw_V q964 q965 q966 q125 q967) rfl rfl rfl hdX2_sound ⟨Nat.le_of_ble_eq_true rfl, Nat.le_of_ble_eq_true rfl⟩) (g_recv hV (hT.ats (i := i1) hi1 0 rfl) (ci := 2) rfl) rfl hl.1 rfl (Nat.le_of_ble_eq_true rfl) dX0_isWanted_106 ⟨Nat.zero_le _, Nat.zero_le _⟩ (fun H locs hT => ?_)
    obtain ⟨t_106, et⟩ : ∃ y, y = (csS t_101 i1 w_106.2) := ⟨_, rfl⟩
    rw [← et] at hT
    have hf := lett_e et hf
    refine lv_isub hx hb dX0_isWanted_109 ?_
    refine lv_i2l hx hb dX0_isWanted_110 rfl ?_
    obtain ⟨t_111, et⟩ : ∃ y, y = (csW t_106 6 ((w_101.1 - w_106.1)).toInt64) := ⟨_, rfl⟩
    have hf := lett_e et hf
    refine w_lst (ws1 := (wC d a ja t_111)) C hV hT 5 6 rfl (vin_of (by decide)) (by decide) (by rw [et]; exact upd_set hT.2.1 rfl (cast_16 d a ja t_106 _ _)) dX0_isWanted_111 (fun H locs hT => ?_)
    refine lv_aload_n hx hb dX0_isWanted_112 rfl (lv_at hl 0 rfl) ?_
    refine r_get C hV (hT.atp 0 rfl) (ci := 1) rfl in_X0 16 (by decide) q360 rfl dX0_isWanted_113 ?_
    refine lv_bipush (v := 7) hx hb dX0_isWanted_116 (by decide) ?_
    refine lv_aload_n hx hb dX0_isWanted_118 rfl (lv_at hl 1 rfl) ?_
    refine lv_iload_n hx hb dX0_isWanted_119 rfl (lv_at hl 2 rfl) ?_
    obtain ⟨w_120, h_120, hf⟩ := bind_e hf
    refine g_calli (vs := [.int x2]) (rest := [.int (7 : Int32), .ref (a 16)]) C hX hT (A_new hA0) (wC_cutS hT.2.1 hi1 _) trivial (fun sz => mX2_since l D d sd (sa a i1) N (t_111.2.2.2 i1) x2 _ h_120 sz) (cwV 1 C.2.2.2.2 (lw_V q894 q895 q896 q125 q897) rfl rfl rfl hdX2_since ⟨Nat.le_of_ble_eq_true rfl, Nat.le_of_ble_eq_true rfl⟩) (g_recv hV (hT.ats (i := i1) hi1 0 rfl) (ci := 2) rfl) rfl hl.1 rfl (Nat.le_of_ble_eq_true rfl) dX0_isWanted_120 ⟨Nat.zero_le _, Nat.zero_le _⟩ (fun H locs hT => ?_)
    obtain ⟨t_120, et⟩ : ∃ y, y = (csS t_111 i1 w_120.2) := ⟨_, rfl⟩
    rw [← et] at hT
    have hf := lett_e et hf
    refine lv_i2l hx hb dX0_isWanted_123 rfl ?_
    obtain ⟨t_124, et⟩ : ∃ y, y = (csW t_120 7 (w_120.1).toInt64) := ⟨_, rfl⟩
    have hf := lett_e et hf
    refine w_lst (ws1 := (wC d a ja t_124)) C hV hT 5 7 rfl (vin_of (by decide)) (by decide) (by rw [et]; exact upd_set hT.2.1 rfl (cast_16 d a ja t_120 _ _)) dX0_isWanted_124 (fun H locs hT => ?_)
    refine lv_aload_n hx hb dX0_isWanted_125 rfl (lv_at hl 0 rfl) ?_
    refine r_get C hV (hT.atp 0 rfl) (ci := 1) rfl in_X0 16 (by decide) q360 rfl dX0_isWanted_126 ?_
    refine lv_bipush (v := 8) hx hb dX0_isWanted_129 (by decide) ?_
    refine lv_aload_n hx hb dX0_isWanted_131 rfl (lv_at hl 1 rfl) ?_
    refine r_getN C hV hX.2.1 (hT.ats (i := i1) hi1 0 rfl) (ci := 2) rfl in_X2 3 (by decide) q234 rfl dX0_isWanted_132 ?_
    refine lv_iload_n hx hb dX0_isWanted_135 rfl (lv_at hl 2 rfl) ?_
    obtain ⟨hi, hf⟩ := ix_e hf
    refine r_ild C hV (hT.ats (i := i1) hi1 4 rfl) _ hi rfl dX0_isWanted_136 ?_
    refine lv_i2l hx hb dX0_isWanted_137 rfl ?_
    obtain ⟨t_138, et⟩ : ∃ y, y = (csW t_124 8 (((t_124.2.2.2 i1).1 3 (x2).toNatClampNeg)).toInt64) := ⟨_, rfl⟩
    have hf := lett_e et hf
    refine w_lst (ws1 := (wC d a ja t_138)) C hV hT 5 8 rfl (vin_of (by decide)) (by decide) (by rw [et]; exact upd_set hT.2.1 rfl (cast_16 d a ja t_124 _ _)) dX0_isWanted_138 (fun H locs hT => ?_)
    refine lv_aload_n hx hb dX0_isWanted_139 rfl (lv_at hl 0 rfl) ?_
    refine r_get C hV (hT.atp 0 rfl) (ci := 1) rfl in_X0 16 (by decide) q360 rfl dX0_isWanted_140 ?_
    refine lv_bipush (v := 9) hx hb dX0_isWanted_143 (by decide) ?_
    refine lv_aload_n hx hb dX0_isWanted_145 rfl (lv_at hl 1 rfl) ?_
    refine r_getN C hV hX.2.1 (hT.ats (i := i1) hi1 0 rfl) (ci := 2) rfl in_X2 0 (by decide) q228 rfl dX0_isWanted_146 ?_
    obtain ⟨w_149, h_149, hf⟩ := bind_e hf
    refine g_scalli (vs := [.ref (sa a i1 1)]) (rest := [.int (9 : Int32), .ref (a 16)]) C hX hT (A_new hA0) (Cut.none _) (hT.frz (wC_mem (i := i1) hi1 (List.mem_of_getElem? (i := 1) rfl))) (fun sz => mX2_sumOf l D d sd (sa a i1 1) N 6 ((t_138.2.2.2 i1).1 0) _ h_149 sz) (va_cwS 1 C.2.2.2.2 (lw_S q974 q975 q125 q976) rfl rfl rfl hdX2_sumOf ⟨Nat.le_of_ble_eq_true rfl, Nat.le_of_ble_eq_true rfl⟩) rfl hl.1 rfl (Nat.le_of_ble_eq_true rfl) dX0_isWanted_149 ⟨Nat.zero_le _, Nat.zero_le _⟩ (fun H locs hT => ?_)
    refine lv_i2l hx hb dX0_isWanted_152 rfl ?_
    obtain ⟨t_153, et⟩ : ∃ y, y = (csW t_138 9 (w_149).toInt64) := ⟨_, rfl⟩
    have hf := lett_e et hf
    refine w_lst (ws1 := (wC d a ja t_153)) C hV hT 5 9 rfl (vin_of (by decide)) (by decide) (by rw [et]; exact upd_set hT.2.1 rfl (cast_16 d a ja t_138 _ _)) dX0_isWanted_153 (fun H locs hT => ?_)
    refine lv_aload_n hx hb dX0_isWanted_154 rfl (lv_at hl 0 rfl) ?_
    refine r_get C hV (hT.atp 0 rfl) (ci := 1) rfl in_X0 16 (by decide) q360 rfl dX0_isWanted_155 ?_
    refine lv_bipush (v := 10) hx hb dX0_isWanted_158 (by decide) ?_
    refine lv_aload_n hx hb dX0_isWanted_160 rfl (lv_at hl 1 rfl) ?_
    refine r_getN C hV hX.2.1 (hT.ats (i := i1) hi1 0 rfl) (ci := 2) rfl in_X2 8 (by decide) q244 rfl dX0_isWanted_161 ?_
    refine lv_aload_n hx hb dX0_isWanted_164 rfl (lv_at hl 0 rfl) ?_
    refine r_get C hV (hT.atp 0 rfl) (ci := 1) rfl in_X0 0 (by decide) q334 rfl dX0_isWanted_165 ?_
    refine r_getN C hV hX.2.1 (hJ.1.at hT.2.2) (ci := 3) rfl in_X1 3 (by decide) q205 rfl dX0_isWanted_168 ?_
    obtain ⟨hn, hf⟩ := nz_e hf
    refine g_irem hx hb dX0_isWanted_171 hn ?_
    refine lv_i2l hx hb dX0_isWanted_172 rfl ?_
    obtain ⟨t_173, et⟩ : ∃ y, y = (csW t_153 10 ((irem ((t_153.2.2.2 i1).2 8) (j.1 3))).toInt64) := ⟨_, rfl⟩
    have hf := lett_e et hf
    refine w_lst (ws1 := (wC d a ja t_173)) C hV hT 5 10 rfl (vin_of (by decide)) (by decide) (by rw [et]; exact upd_set hT.2.1 rfl (cast_16 d a ja t_153 _ _)) dX0_isWanted_173 (fun H locs hT => ?_)
    refine lv_aload_n hx hb dX0_isWanted_174 rfl (lv_at hl 0 rfl) ?_
    refine r_get C hV (hT.atp 0 rfl) (ci := 1) rfl in_X0 16 (by decide) q360 rfl dX0_isWanted_175 ?_
    refine lv_bipush (v := 11) hx hb dX0_isWanted_178 (by decide) ?_
    refine lv_aload_n hx hb dX0_isWanted_180 rfl (lv_at hl 1 rfl) ?_
    refine r_getN C hV hX.2.1 (hT.ats (i := i1) hi1 0 rfl) (ci := 2) rfl in_X2 8 (by decide) q244 rfl dX0_isWanted_181 ?_
    refine lv_aload_n hx hb dX0_isWanted_184 rfl (lv_at hl 0 rfl) ?_
    refine r_get C hV (hT.atp 0 rfl) (ci := 1) rfl in_X0 0 (by decide) q334 rfl dX0_isWanted_185 ?_
    refine r_getN C hV hX.2.1 (hJ.1.at hT.2.2) (ci := 3) rfl in_X1 3 (by decide) q205 rfl dX0_isWanted_188 ?_
    obtain ⟨hn, hf⟩ := nz_e hf
    refine lv_idiv hx hb dX0_isWanted_191 hn ?_
    refine lv_i2l hx hb dX0_isWanted_192 rfl ?_
    obtain ⟨t_193, et⟩ : ∃ y, y = (csW t_173 11 ((((t_173.2.2.2 i1).2 8) / (j.1 3))).toInt64) := ⟨_, rfl⟩
    have hf := lett_e et hf
    refine w_lst (ws1 := (wC d a ja t_193)) C hV hT 5 11 rfl (vin_of (by decide)) (by decide) (by rw [et]; exact upd_set hT.2.1 rfl (cast_16 d a ja t_173 _ _)) dX0_isWanted_193 (fun H locs hT => ?_)
    refine lv_aload_n hx hb dX0_isWanted_194 rfl (lv_at hl 0 rfl) ?_
    refine r_get C hV (hT.atp 0 rfl) (ci := 1) rfl in_X0 3 (by decide) q338 rfl dX0_isWanted_195 ?_
    refine lv_aload_n hx hb dX0_isWanted_198 rfl (lv_at hl 0 rfl) ?_
    refine r_get C hV (hT.atp 0 rfl) (ci := 1) rfl in_X0 4 (by decide) q341 rfl dX0_isWanted_199 ?_
    obtain ⟨hi, hf⟩ := ix_e hf
    obtain ⟨rx_202, rlst, hfx, hru_202, hro_202⟩ := hrg _ hi
    refine g_callq (vs := [.int (t_193.1 4)]) (rest := []) C hX hT (A_new hA0) (Cut.none _) (Ro := LRo d (a 3) rel rmc r.1 rcap rf) ⟨hrl.step hT.2.2 (Anil (A_new hA0) hT.2.2.1), hrel.step hT.2.2 (Anil (A_new hA0) hT.2.2.1)⟩ (fun sz => mJ2_get l D d sd (a 3) rel rmc r.1 rcap rf (t_193.1 4) _ hi hrc hfx sz) (cwV 1 C.2.2.2.2 (lw_V q977 q697 q698 q124 q699) rfl rfl rfl hdJ2_get ⟨Nat.le_of_ble_eq_true rfl, Nat.le_of_ble_eq_true rfl⟩) (g_recv hV (hrl.at hT.2.2) (ci := 4) rfl) rfl hl.1 rfl (Nat.le_of_ble_eq_true rfl) dX0_isWanted_202 ⟨Nat.zero_le _, Nat.zero_le _⟩ (fun H locs hT => ?_)
    refine g_cast C hV (hro_202.at hT.2.2) (ci := 8) rfl q978 dX0_isWanted_205 ?_
    refine lv_aload_n hx hb dX0_isWanted_208 rfl (lv_at hl 0 rfl) ?_
    refine r_get C hV (hT.atp 0 rfl) (ci := 1) rfl in_X0 16 (by decide) q360 rfl dX0_isWanted_209 ?_
    refine g_calli (r := (r.2 ((t_193.1 4)).toNatClampNeg t_193.2.2.1)) (vs := [.ref (a 16)]) (rest := []) C hX hT (A_new hA0) (Cut.none _) (Ro := fun P => RuleAt d rx_202 (r.2 ((t_193.1 4)).toNatClampNeg) P ∧ P (a 16) (.inl (d 2, 12, .inr (.inl t_193.2.2.1)))) ⟨hru_202.step hT.2.2 (Anil (A_new hA0) hT.2.2.1), hT.frz (List.mem_of_getElem? (i := 5) rfl)⟩ (fun sz => mX7_lets l D d sd rx_202 (a 16) (r.2 ((t_193.1 4)).toNatClampNeg) t_193.2.2.1 sz) (cwV 1 C.2.2.2.2 (lw_V q979 q980 q981 q142 q982) rfl rfl rfl hdX7_lets ⟨Nat.le_of_ble_eq_true rfl, Nat.le_of_ble_eq_true rfl⟩) (g_recv hV (hro_202.at hT.2.2) (ci := 8) rfl) rfl hl.1 rfl (Nat.le_of_ble_eq_true rfl) dX0_isWanted_212 ⟨Nat.zero_le _, Nat.zero_le _⟩ (fun H locs hT => ?_)
    refine lv_topi (fun w_212 ex => ?_)
    have hf := lett_e ex hf
    obtain ⟨hz, hf⟩ := ckz_e hf
    exact f_zret (wC d a ja) hA0 C hT hf hz hr hlocks dX0_isWanted_215
  · have hf := ite_f (fun q => q hc) hf
    refine lv_aload_n hx hb dX0_isWanted_8 rfl (lv_at hl 0 rfl) ?_
    refine lv_aload_n hx hb dX0_isWanted_9 rfl (lv_at hl 1 rfl) ?_
    refine lv_iload_n hx hb dX0_isWanted_10 rfl (lv_at hl 2 rfl) ?_
    obtain ⟨w_11, h_11, hf⟩ := bind_e hf
    refine g_calli (vs := [.ref (sa a i1 0), .int x2]) (rest := []) C hX hT (A_new hA0) (Cut.all (D_nd hT.2.1) ((wC_fst d a ja _).trans (wC_fst d a ja t0).symm)) (Ro := (fun P => JAt d ja j P ∧ RAt d (a 3) r P)) ⟨hJ.step hT.2.2 (A_full hA0 hT.2.2.1), hR.2.step hT.2.2 (A_full hA0 hT.2.2.1)⟩ (fun sz => mX0_isScored l D d sd a ja N j r i1 t0 x2 _ h_11 hi1 sz) (cwV 2 C.2.2.2.2 (lw_V q948 q950 qs33 q120 q951) rfl rfl rfl hdX0_isScored ⟨Nat.le_of_ble_eq_true rfl, Nat.le_of_ble_eq_true rfl⟩) (g_recv hV (hT.atp 0 rfl) (ci := 1) rfl) rfl hl.1 rfl (Nat.le_of_ble_eq_true rfl) dX0_isWanted_11 ⟨Nat.zero_le _, Nat.zero_le _⟩ (fun H locs hT => ?_)
    obtain ⟨hz, hf⟩ := ckz_e hf
    exact f_zret (wC d a ja) hA0 C hT hf hz hr hlocks dX0_isWanted_14
def fX0_letsIn_B17 (N : Nat) (j : JS) (r : RS) (i1 : Nat) (K : CS → Int32 → Option (Int32 × CS)) (kb : CS → Int32 → Int32 → Option (Int32 × CS)) (t : CS) (x2 : Int32) (x3 : Int32) : Option (Int32 × CS) :=
  ((fX1_roads N j).bind fun w_22 => (if w_22 ≤ x3 then (K t x2) else (ix x3 6 (if ¬ ((j.2 1 (x3).toNatClampNeg) &&& x2) = 0 then (lett (x3 + (1 : Int32)) fun x3_58 => (kb t x2 x3_58)) else ((fX0_isWanted N j r i1 t x3 x2).bind fun w_46 => (if w_46.1 = 0 then (lett (x3 + (1 : Int32)) fun x3_58 => (kb w_46.2 x2 x3_58)) else (lett (x2 ||| ((1 : Int32) <<< (x3 &&& 31))) fun x2_57 => (lett (x3 + (1 : Int32)) fun x3_58 => (kb w_46.2 x2_57 x3_58)))))))))
def fX0_letsIn_L17 (N : Nat) (j : JS) (r : RS) (i1 : Nat) (K : CS → Int32 → Option (Int32 × CS)) : Nat → CS → Int32 → Int32 → Option (Int32 × CS)
  | 0 => fun _ _ _ => none
  | n + 1 => fun t x2 x3 => fX0_letsIn_B17 N j r i1 K (fX0_letsIn_L17 N j r i1 K n) t x2 x3
def fX0_letsIn (N : Nat) (j : JS) (r : RS) (i1 : Nat) (t0 : CS) : Option (Int32 × CS) :=
  (if (t0.1 15) = (-1 : Int32) then (fX0_letsIn_L17 N j r i1 (fun t x2 => (some (x2, t))) N t0 (0 : Int32) (0 : Int32)) else (some ((t0.1 15), t0)))
theorem hdX0_letsIn : yX0_letsIn.cls = RX0 ∧ yX0_letsIn.cls ≠ "java/lang/invoke/MethodHandle" ∧ yX0_letsIn.cls ≠ "java/lang/invoke/VarHandle" ∧ (parseMethodDescriptor yX0_letsIn.desc).map (fun d => d.parameters.length) = some 1 := by decide +kernel
set_option maxHeartbeats 4000000 in
theorem mX0_letsIn (l : Launch) (D : va_G) (d : Nat → ClassId) (sd : Nat) (a : Nat → Nat) (ja : Nat → Nat) (N : Nat) (j : JS) (r : RS) (i1 : Nat) (t0 : CS) (w : Int32 × CS) (hf : fX0_letsIn N j r i1 t0 = some w) (hi1 : i1 < 26) (sz : Nat) : Met l yX0_letsIn (ws_ yX0_letsIn cX0_letsIn 4 (some .int)) (rm_ 262 8045) (GPc D d sd [.ref (a 32), .ref (sa a i1 0)] (wC d a ja t0) (fun P => JAt d ja j P ∧ RAt d (a 3) r P) sz) (GQi D w.1 (wC d a ja w.2) (wC d a ja t0) sz) 0 0 (va_A (wC d a ja t0) sz) := by
  refine Met.ofW (cc := cX0_letsIn) (maxL := 4) (ret := (some .int)) plX0 rfl ?_
  intro p e s m args below meth c s₁ B hml hv
  obtain ⟨C, hX, hR, hT, hr, hlocks, hargs, rfl⟩ := g_enter (own := RX0) B hml rfl hv
  have hx := C.1
  have hb := C.2.1
  have hV := hX.1
  obtain ⟨A, hA0⟩ : ∃ A, A = va_A (wC d a ja t0) s.heap.size := ⟨_, rfl⟩
  rw [← hA0] at hX hR hT
  show W p l e (rm_ 262 8045) s m args below meth c s.heap [] 0 0 (MQ below (GQi D w.1 (wC d a ja w.2) (wC d a ja t0) s.heap.size) args s 0 0 (va_A (wC d a ja t0) s.heap.size)) _
  rw [← hA0]
  have hJ := hR.1
  obtain ⟨rmc, rel, rcap, rf, hrl, hrel, hrc, hrg⟩ := hR.2.unpack
  have hL17 : ∀ (K : CS → Int32 → Option (Int32 × CS)), (∀ (t : CS) (x2 : Int32) (H : Heap) (locs : List Loc) (ls : Array Slot), TH D A s.heap (wC d a ja t) H locs → lv_has ls 4 [(2, .int x2)] → K t x2 = some w → W p l e (rm_ 262 8045) s m args below meth c H locs 0 0 (MQ below (GQi D w.1 (wC d a ja w.2) (wC d a ja t0) s.heap.size) args s 0 0 A) (F0 m 64 ls [])) → ∀ (n : Nat) (t : CS) (x2 : Int32) (x3 : Int32) (H : Heap) (locs : List Loc) (ls : Array Slot), TH D A s.heap (wC d a ja t) H locs → lv_has ls 4 [(0, .ref (a 32)), (1, .ref (sa a i1 0)), (2, .int x2), (3, .int x3)] → fX0_letsIn_L17 N j r i1 K n t x2 x3 = some w → W p l e (rm_ 262 8045) s m args below meth c H locs 0 0 (MQ below (GQi D w.1 (wC d a ja w.2) (wC d a ja t0) s.heap.size) args s 0 0 A) (F0 m 17 ls []) := by
    intro K hE n
    induction n with
    | zero =>
      intro t x2 x3 H locs ls hT hl hf
      cases hf
    | succ n ih =>
      intro t x2 x3 H locs ls hT hl hf
      replace hf : fX0_letsIn_B17 N j r i1 K (fX0_letsIn_L17 N j r i1 K n) t x2 x3 = some w := hf
      unfold fX0_letsIn_B17 at hf
      refine lv_iload_n hx hb dX0_letsIn_17 rfl (lv_at hl 3 rfl) ?_
      refine lv_aload_n hx hb dX0_letsIn_18 rfl (lv_at hl 0 rfl) ?_
      refine r_get C hV (hT.atp 0 rfl) (ci := 1) rfl in_X0 0 (by decide) q334 rfl dX0_letsIn_19 ?_
      obtain ⟨w_22, h_22, hf⟩ := bind_e hf
      refine g_calli (vs := []) (rest := [.int x3]) C hX hT (A_new hA0) (Cut.none _) (hJ.step hT.2.2 (Anil (A_new hA0) hT.2.2.1)) (fun sz => mX1_roads l D d sd ja N j _ h_22 sz) (cwV 0 C.2.2.2.2 (lw_V q709 q584 q585 q121 q586) rfl rfl rfl hdX1_roads ⟨Nat.le_of_ble_eq_true rfl, Nat.le_of_ble_eq_true rfl⟩) (g_recv hV (hJ.1.at hT.2.2) (ci := 3) rfl) rfl hl.1 rfl (Nat.le_of_ble_eq_true rfl) dX0_letsIn_22 ⟨Nat.zero_le _, Nat.zero_le _⟩ (fun H locs hT => ?_)
      refine lv_icmp_ge (tgt := 64) hx hb dX0_letsIn_25 (by decide) (fun hc => ?_) (fun hc => ?_)
      · have hf := ite_t hc hf
        exact hE t x2 _ _ _ hT (lv_sub hl [2] rfl) hf
      · have hf := ite_f hc hf
        refine lv_aload_n hx hb dX0_letsIn_28 rfl (lv_at hl 0 rfl) ?_
        refine r_get C hV (hT.atp 0 rfl) (ci := 1) rfl in_X0 0 (by decide) q334 rfl dX0_letsIn_29 ?_
        refine r_getN C hV hX.2.1 (hJ.1.at hT.2.2) (ci := 3) rfl in_X1 1 (by decide) q200 rfl dX0_letsIn_32 ?_
        refine lv_iload_n hx hb dX0_letsIn_35 rfl (lv_at hl 3 rfl) ?_
        obtain ⟨hi, hf⟩ := ix_e hf
        refine r_ild C hV (hJ.2.2.1.at hT.2.2) _ hi rfl dX0_letsIn_36 ?_
        refine lv_iload_n hx hb dX0_letsIn_37 rfl (lv_at hl 2 rfl) ?_
        refine lv_iand hx hb dX0_letsIn_38 ?_
        refine lv_if_ne (tgt := 58) hx hb dX0_letsIn_39 (by decide) (fun hc => ?_) (fun hc => ?_)
        · have hf := ite_t hc hf
          obtain ⟨x3_58, ex⟩ : ∃ y : Int32, y = (x3 + (1 : Int32)) := ⟨_, rfl⟩
          have hf := lett_e ex hf
          refine lv_iinc (v := x3_58) (lv' := [(3, .int x3_58), (0, .ref (a 32)), (1, .ref (sa a i1 0)), (2, .int x2)]) hx hb dX0_letsIn_58 hl (k := 3) rfl (by rw [ex]; rfl) (by decide) rfl (fun ls hl => ?_)
          refine lv_goto (tgt := 17) hx hb dX0_letsIn_61 (by decide) ?_
          exact ih t x2 x3_58 _ _ _ hT (lv_sub hl [1, 2, 3, 0] rfl) hf
        · have hf := ite_f (fun q => q hc) hf
          refine lv_aload_n hx hb dX0_letsIn_42 rfl (lv_at hl 0 rfl) ?_
          refine lv_aload_n hx hb dX0_letsIn_43 rfl (lv_at hl 1 rfl) ?_
          refine lv_iload_n hx hb dX0_letsIn_44 rfl (lv_at hl 3 rfl) ?_
          refine lv_iload_n hx hb dX0_letsIn_45 rfl (lv_at hl 2 rfl) ?_
          obtain ⟨w_46, h_46, hf⟩ := bind_e hf
          refine g_calli (vs := [.ref (sa a i1 0), .int x3, .int x2]) (rest := []) C hX hT (A_new hA0) (Cut.all (D_nd hT.2.1) ((wC_fst d a ja _).trans (wC_fst d a ja t).symm)) (Ro := (fun P => JAt d ja j P ∧ RAt d (a 3) r P)) ⟨hJ.step hT.2.2 (A_full hA0 hT.2.2.1), hR.2.step hT.2.2 (A_full hA0 hT.2.2.1)⟩ (fun sz => mX0_isWanted l D d sd a ja N j r i1 t x3 x2 _ h_46 hi1 sz) (cwV 3 C.2.2.2.2 (lw_V q944 q946 qs32 q120 q947) rfl rfl rfl hdX0_isWanted ⟨Nat.le_of_ble_eq_true rfl, Nat.le_of_ble_eq_true rfl⟩) (g_recv hV (hT.atp 0 rfl) (ci := 1) rfl) rfl hl.1 rfl (Nat.le_of_ble_eq_true rfl) dX0_letsIn_46 ⟨Nat.zero_le _, Nat.zero_le _⟩ (fun H locs hT => ?_)
          refine lv_if_eq (tgt := 58) hx hb dX0_letsIn_49 (by decide) (fun hc => ?_) (fun hc => ?_)
          · have hf := ite_t hc hf
            obtain ⟨x3_58, ex⟩ : ∃ y : Int32, y = (x3 + (1 : Int32)) := ⟨_, rfl⟩
            have hf := lett_e ex hf
            refine lv_iinc (v := x3_58) (lv' := [(3, .int x3_58), (0, .ref (a 32)), (1, .ref (sa a i1 0)), (2, .int x2)]) hx hb dX0_letsIn_58 hl (k := 3) rfl (by rw [ex]; rfl) (by decide) rfl (fun ls hl => ?_)
            refine lv_goto (tgt := 17) hx hb dX0_letsIn_61 (by decide) ?_
            exact ih w_46.2 x2 x3_58 _ _ _ hT (lv_sub hl [1, 2, 3, 0] rfl) hf
          · have hf := ite_f hc hf
            refine lv_iload_n hx hb dX0_letsIn_52 rfl (lv_at hl 2 rfl) ?_
            refine lv_iconst (v := 1) hx hb dX0_letsIn_53 (by decide) ?_
            refine lv_iload_n hx hb dX0_letsIn_54 rfl (lv_at hl 3 rfl) ?_
            refine lv_ishl hx hb dX0_letsIn_55 ?_
            refine lv_ior hx hb dX0_letsIn_56 ?_
            refine lv_topi (fun x2_57 ex => ?_)
            have hf := lett_e ex hf
            refine lv_istore_n (lv' := [(2, .int x2_57), (0, .ref (a 32)), (1, .ref (sa a i1 0)), (3, .int x3)]) hx hb dX0_letsIn_57 rfl hl (by decide) rfl (fun ls hl => ?_)
            obtain ⟨x3_58, ex⟩ : ∃ y : Int32, y = (x3 + (1 : Int32)) := ⟨_, rfl⟩
            have hf := lett_e ex hf
            refine lv_iinc (v := x3_58) (lv' := [(3, .int x3_58), (2, .int x2_57), (0, .ref (a 32)), (1, .ref (sa a i1 0))]) hx hb dX0_letsIn_58 hl (k := 3) rfl (by rw [ex]; rfl) (by decide) rfl (fun ls hl => ?_)
            refine lv_goto (tgt := 17) hx hb dX0_letsIn_61 (by decide) ?_
            exact ih w_46.2 x2_57 x3_58 _ _ _ hT (lv_sub hl [2, 3, 1, 0] rfl) hf
  refine W.eq (by rw [hargs]) (t_in (vs := [.ref (a 32), .ref (sa a i1 0)]) (n := 4) (Nat.le_of_ble_eq_true rfl) (fun ls hl => ?_))
  have hl : lv_has ls 4 [(0, .ref (a 32)), (1, .ref (sa a i1 0))] := hl
  unfold fX0_letsIn at hf
  refine lv_aload_n hx hb dX0_letsIn_0 rfl (lv_at hl 0 rfl) ?_
  refine r_get C hV (hT.atp 0 rfl) (ci := 1) rfl in_X0 15 (by decide) q359 rfl dX0_letsIn_1 ?_
  refine lv_iconst (v := -1) hx hb dX0_letsIn_4 (by decide) ?_
  refine lv_icmp_eq (tgt := 13) hx hb dX0_letsIn_5 (by decide) (fun hc => ?_) (fun hc => ?_)
  · have hf := ite_t hc hf
    refine lv_iconst (v := 0) hx hb dX0_letsIn_13 (by decide) ?_
    refine lv_istore_n (lv' := [(2, .int (0 : Int32)), (0, .ref (a 32)), (1, .ref (sa a i1 0))]) hx hb dX0_letsIn_14 rfl hl (by decide) rfl (fun ls hl => ?_)
    refine lv_iconst (v := 0) hx hb dX0_letsIn_15 (by decide) ?_
    refine lv_istore_n (lv' := [(3, .int (0 : Int32)), (2, .int (0 : Int32)), (0, .ref (a 32)), (1, .ref (sa a i1 0))]) hx hb dX0_letsIn_16 rfl hl (by decide) rfl (fun ls hl => ?_)
    refine hL17 _ (fun t x2 H locs ls hT hl hf => ?_) N t0 (0 : Int32) (0 : Int32) _ _ _ hT (lv_sub hl [2, 3, 1, 0] rfl) hf
    refine lv_iload_n hx hb dX0_letsIn_64 rfl (lv_at hl 0 rfl) ?_
    exact f_iret (wC d a ja) hA0 C hT hf hr hlocks dX0_letsIn_65
  · have hf := ite_f hc hf
    refine lv_aload_n hx hb dX0_letsIn_8 rfl (lv_at hl 0 rfl) ?_
    refine r_get C hV (hT.atp 0 rfl) (ci := 1) rfl in_X0 15 (by decide) q359 rfl dX0_letsIn_9 ?_
    exact f_iret (wC d a ja) hA0 C hT hf hr hlocks dX0_letsIn_12
def fX0_goesOn_B2 (N : Nat) (j : JS) (r : RS) (i1 : Nat) (K : CS → Option (Int32 × CS)) (kb : CS → Int32 → Option (Int32 × CS)) (t : CS) (x2 : Int32) : Option (Int32 × CS) :=
  ((fX1_roads N j).bind fun w_7 => (if w_7 ≤ x2 then (K t) else (ix x2 6 (nz ((t.2.2.2 i1).1 1 (x2).toNatClampNeg) (if ¬ (irem ((t.2.2.2 i1).2 8) ((t.2.2.2 i1).1 1 (x2).toNatClampNeg)) = 0 then (lett (x2 + (1 : Int32)) fun x2_41 => (kb t x2_41)) else (if x2 = (t.1 14) then (lett (x2 + (1 : Int32)) fun x2_41 => (kb t x2_41)) else ((fX2_comes N (t.2.2.2 i1) x2 (1 : Int32)).bind fun w_38 => (lett (csS t i1 w_38) fun t_38 => (lett (x2 + (1 : Int32)) fun x2_41 => (kb t_38 x2_41))))))))))
def fX0_goesOn_L2 (N : Nat) (j : JS) (r : RS) (i1 : Nat) (K : CS → Option (Int32 × CS)) : Nat → CS → Int32 → Option (Int32 × CS)
  | 0 => fun _ _ => none
  | n + 1 => fun t x2 => fX0_goesOn_B2 N j r i1 K (fX0_goesOn_L2 N j r i1 K n) t x2
def fX0_goesOn_J132 (N : Nat) (j : JS) (r : RS) (i1 : Nat) (K : CS → Int32 → Int32 → Option (Int32 × CS)) (kb : CS → Int32 → Int32 → Int32 → Option (Int32 × CS)) (t : CS) (x2 : Int32) (x4 : Int32) (s0 : Int32) (s1 : Int32) : Option (Int32 × CS) :=
  (lett (s1 ||| s0) fun x3_133 => ((fX0_has N x2 x4).bind fun w_137 => (if w_137 = 0 then (lett (x4 + (1 : Int32)) fun x4_154 => (kb t x2 x3_133 x4_154)) else (ix x4 6 (lett (csS t i1 (ssA (t.2.2.2 i1) 5 (x4).toNatClampNeg ((t.2.2.2 i1).2 8))) fun t_153 => (lett (x4 + (1 : Int32)) fun x4_154 => (kb t_153 x2 x3_133 x4_154)))))))
def fX0_goesOn_J112 (N : Nat) (j : JS) (r : RS) (i1 : Nat) (K : CS → Int32 → Int32 → Option (Int32 × CS)) (kb : CS → Int32 → Int32 → Int32 → Option (Int32 × CS)) (t : CS) (x2 : Int32) (x3 : Int32) (x4 : Int32) (s0 : Int32) (s1 : Int32) : Option (Int32 × CS) :=
  (ix s1 6 (lett (csA t 17 (s1).toNatClampNeg s0) fun t_112 => (ix x4 6 (if (t_112.2.1 17 (x4).toNatClampNeg) ≤ 0 then (fX0_goesOn_J132 N j r i1 K kb t_112 x2 x4 (0 : Int32) x3) else (fX0_goesOn_J132 N j r i1 K kb t_112 x2 x4 ((1 : Int32) <<< (x4 &&& 31)) x3)))))
def fX0_goesOn_J105 (N : Nat) (j : JS) (r : RS) (i1 : Nat) (K : CS → Int32 → Int32 → Option (Int32 × CS)) (kb : CS → Int32 → Int32 → Int32 → Option (Int32 × CS)) (t : CS) (x2 : Int32) (x3 : Int32) (x4 : Int32) (s0 : Int32) (s1 : Int32) (s3 : Int32) : Option (Int32 × CS) :=
  ((fX2_goes N (t.2.2.2 i1) s1 s0).bind fun w_105 => (lett (csS t i1 w_105.2) fun t_105 => (fX0_goesOn_J112 N j r i1 K kb t_105 x2 x3 x4 w_105.1 s3)))
def fX0_goesOn_B58 (N : Nat) (j : JS) (r : RS) (i1 : Nat) (K : CS → Int32 → Int32 → Option (Int32 × CS)) (kb : CS → Int32 → Int32 → Int32 → Option (Int32 × CS)) (t : CS) (x2 : Int32) (x3 : Int32) (x4 : Int32) : Option (Int32 × CS) :=
  (if (6 : Int32) ≤ x4 then (K t x2 x3) else ((fX0_has N x2 x4).bind fun w_74 => (if w_74 = 0 then (fX0_goesOn_J112 N j r i1 K kb t x2 x3 x4 (0 : Int32) x4) else (if ¬ (t.1 13) = (-1 : Int32) then (fX0_goesOn_J105 N j r i1 K kb t x2 x3 x4 (t.1 13) x4 x4) else (fX0_goesOn_J105 N j r i1 K kb t x2 x3 x4 (j.1 4) x4 x4)))))
def fX0_goesOn_L58 (N : Nat) (j : JS) (r : RS) (i1 : Nat) (K : CS → Int32 → Int32 → Option (Int32 × CS)) : Nat → CS → Int32 → Int32 → Int32 → Option (Int32 × CS)
  | 0 => fun _ _ _ _ => none
  | n + 1 => fun t x2 x3 x4 => fX0_goesOn_B58 N j r i1 K (fX0_goesOn_L58 N j r i1 K n) t x2 x3 x4
def fX0_goesOn (N : Nat) (j : JS) (r : RS) (i1 : Nat) (t0 : CS) : Option (Int32 × CS) :=
  (fX0_goesOn_L2 N j r i1 (fun t => ((fX0_letsIn N j r i1 t ).bind fun w_49 => (fX0_goesOn_L58 N j r i1 (fun t x2 x3 => ((fX2_sound N (t.2.2.2 i1) x3).bind fun w_173 => (lett (csS t i1 w_173.2) fun t_173 => (lett (csS t_173 i1 (ssI (t_173.2.2.2 i1) 7 (jmax (-9999 : Int32) (jmin (9999 : Int32) (((t.2.2.2 i1).2 7) + w_173.1))))) fun t_183 => ((fX2_waits N j (t_183.2.2.2 i1) ).bind fun w_191 => (lett (csS t_183 i1 w_191) fun t_191 => (some (x2, t_191)))))))) N w_49.2 w_49.1 (0 : Int32) (0 : Int32)))) N t0 (0 : Int32))
theorem hdX0_goesOn : yX0_goesOn.cls = RX0 ∧ yX0_goesOn.cls ≠ "java/lang/invoke/MethodHandle" ∧ yX0_goesOn.cls ≠ "java/lang/invoke/VarHandle" ∧ (parseMethodDescriptor yX0_goesOn.desc).map (fun d => d.parameters.length) = some 1 := by decide +kernel
set_option maxHeartbeats 4000000 in
theorem mX0_goesOn (l : Launch) (D : va_G) (d : Nat → ClassId) (sd : Nat) (a : Nat → Nat) (ja : Nat → Nat) (N : Nat) (j : JS) (r : RS) (i1 : Nat) (t0 : CS) (w : Int32 × CS) (hf : fX0_goesOn N j r i1 t0 = some w) (hi1 : i1 < 26) (sz : Nat) : Met l yX0_goesOn (ws_ yX0_goesOn cX0_goesOn 5 (some .int)) (rm_ 263 8068) (GPc D d sd [.ref (a 32), .ref (sa a i1 0)] (wC d a ja t0) (fun P => JAt d ja j P ∧ RAt d (a 3) r P) sz) (GQi D w.1 (wC d a ja w.2) (wC d a ja t0) sz) 0 0 (va_A (wC d a ja t0) sz) := by
  refine Met.ofW (cc := cX0_goesOn) (maxL := 5) (ret := (some .int)) plX0 rfl ?_
  intro p e s m args below meth c s₁ B hml hv
  obtain ⟨C, hX, hR, hT, hr, hlocks, hargs, rfl⟩ := g_enter (own := RX0) B hml rfl hv
  have hx := C.1
  have hb := C.2.1
  have hV := hX.1
  obtain ⟨A, hA0⟩ : ∃ A, A = va_A (wC d a ja t0) s.heap.size := ⟨_, rfl⟩
  rw [← hA0] at hX hR hT
  show W p l e (rm_ 263 8068) s m args below meth c s.heap [] 0 0 (MQ below (GQi D w.1 (wC d a ja w.2) (wC d a ja t0) s.heap.size) args s 0 0 (va_A (wC d a ja t0) s.heap.size)) _
  rw [← hA0]
  have hJ := hR.1
  obtain ⟨rmc, rel, rcap, rf, hrl, hrel, hrc, hrg⟩ := hR.2.unpack
  have hL2 : ∀ (K : CS → Option (Int32 × CS)), (∀ (t : CS) (H : Heap) (locs : List Loc) (ls : Array Slot), TH D A s.heap (wC d a ja t) H locs → lv_has ls 5 [(0, .ref (a 32)), (1, .ref (sa a i1 0))] → K t = some w → W p l e (rm_ 263 8068) s m args below meth c H locs 0 0 (MQ below (GQi D w.1 (wC d a ja w.2) (wC d a ja t0) s.heap.size) args s 0 0 A) (F0 m 47 ls [])) → ∀ (n : Nat) (t : CS) (x2 : Int32) (H : Heap) (locs : List Loc) (ls : Array Slot), TH D A s.heap (wC d a ja t) H locs → lv_has ls 5 [(0, .ref (a 32)), (1, .ref (sa a i1 0)), (2, .int x2)] → fX0_goesOn_L2 N j r i1 K n t x2 = some w → W p l e (rm_ 263 8068) s m args below meth c H locs 0 0 (MQ below (GQi D w.1 (wC d a ja w.2) (wC d a ja t0) s.heap.size) args s 0 0 A) (F0 m 2 ls []) := by
    intro K hE n
    induction n with
    | zero =>
      intro t x2 H locs ls hT hl hf
      cases hf
    | succ n ih =>
      intro t x2 H locs ls hT hl hf
      replace hf : fX0_goesOn_B2 N j r i1 K (fX0_goesOn_L2 N j r i1 K n) t x2 = some w := hf
      unfold fX0_goesOn_B2 at hf
      refine lv_iload_n hx hb dX0_goesOn_2 rfl (lv_at hl 2 rfl) ?_
      refine lv_aload_n hx hb dX0_goesOn_3 rfl (lv_at hl 0 rfl) ?_
      refine r_get C hV (hT.atp 0 rfl) (ci := 1) rfl in_X0 0 (by decide) q334 rfl dX0_goesOn_4 ?_
      obtain ⟨w_7, h_7, hf⟩ := bind_e hf
      refine g_calli (vs := []) (rest := [.int x2]) C hX hT (A_new hA0) (Cut.none _) (hJ.step hT.2.2 (Anil (A_new hA0) hT.2.2.1)) (fun sz => mX1_roads l D d sd ja N j _ h_7 sz) (cwV 0 C.2.2.2.2 (lw_V q709 q584 q585 q121 q586) rfl rfl rfl hdX1_roads ⟨Nat.le_of_ble_eq_true rfl, Nat.le_of_ble_eq_true rfl⟩) (g_recv hV (hJ.1.at hT.2.2) (ci := 3) rfl) rfl hl.1 rfl (Nat.le_of_ble_eq_true rfl) dX0_goesOn_7 ⟨Nat.zero_le _, Nat.zero_le _⟩ (fun H locs hT => ?_)
      refine lv_icmp_ge (tgt := 47) hx hb dX0_goesOn_10 (by decide) (fun hc => ?_) (fun hc => ?_)
      · have hf := ite_t hc hf
        exact hE t _ _ _ hT (lv_sub hl [0, 1] rfl) hf
      · have hf := ite_f hc hf
        refine lv_aload_n hx hb dX0_goesOn_13 rfl (lv_at hl 1 rfl) ?_
        refine r_getN C hV hX.2.1 (hT.ats (i := i1) hi1 0 rfl) (ci := 2) rfl in_X2 8 (by decide) q244 rfl dX0_goesOn_14 ?_
        refine lv_aload_n hx hb dX0_goesOn_17 rfl (lv_at hl 1 rfl) ?_
        refine r_getN C hV hX.2.1 (hT.ats (i := i1) hi1 0 rfl) (ci := 2) rfl in_X2 1 (by decide) q230 rfl dX0_goesOn_18 ?_
        refine lv_iload_n hx hb dX0_goesOn_21 rfl (lv_at hl 2 rfl) ?_
        obtain ⟨hi, hf⟩ := ix_e hf
        refine r_ild C hV (hT.ats (i := i1) hi1 2 rfl) _ hi rfl dX0_goesOn_22 ?_
        obtain ⟨hn, hf⟩ := nz_e hf
        refine g_irem hx hb dX0_goesOn_23 hn ?_
        refine lv_if_ne (tgt := 41) hx hb dX0_goesOn_24 (by decide) (fun hc => ?_) (fun hc => ?_)
        · have hf := ite_t hc hf
          obtain ⟨x2_41, ex⟩ : ∃ y : Int32, y = (x2 + (1 : Int32)) := ⟨_, rfl⟩
          have hf := lett_e ex hf
          refine lv_iinc (v := x2_41) (lv' := [(2, .int x2_41), (0, .ref (a 32)), (1, .ref (sa a i1 0))]) hx hb dX0_goesOn_41 hl (k := 2) rfl (by rw [ex]; rfl) (by decide) rfl (fun ls hl => ?_)
          refine lv_goto (tgt := 2) hx hb dX0_goesOn_44 (by decide) ?_
          exact ih t x2_41 _ _ _ hT (lv_sub hl [1, 2, 0] rfl) hf
        · have hf := ite_f (fun q => q hc) hf
          refine lv_iload_n hx hb dX0_goesOn_27 rfl (lv_at hl 2 rfl) ?_
          refine lv_aload_n hx hb dX0_goesOn_28 rfl (lv_at hl 0 rfl) ?_
          refine r_get C hV (hT.atp 0 rfl) (ci := 1) rfl in_X0 14 (by decide) q358 rfl dX0_goesOn_29 ?_
          refine lv_icmp_eq (tgt := 41) hx hb dX0_goesOn_32 (by decide) (fun hc => ?_) (fun hc => ?_)
          · have hf := ite_t hc hf
            obtain ⟨x2_41, ex⟩ : ∃ y : Int32, y = (x2 + (1 : Int32)) := ⟨_, rfl⟩
            have hf := lett_e ex hf
            refine lv_iinc (v := x2_41) (lv' := [(2, .int x2_41), (0, .ref (a 32)), (1, .ref (sa a i1 0))]) hx hb dX0_goesOn_41 hl (k := 2) rfl (by rw [ex]; rfl) (by decide) rfl (fun ls hl => ?_)
            refine lv_goto (tgt := 2) hx hb dX0_goesOn_44 (by decide) ?_
            exact ih t x2_41 _ _ _ hT (lv_sub hl [1, 2, 0] rfl) hf
          · have hf := ite_f hc hf
            refine lv_aload_n hx hb dX0_goesOn_35 rfl (lv_at hl 1 rfl) ?_
            refine lv_iload_n hx hb dX0_goesOn_36 rfl (lv_at hl 2 rfl) ?_
            refine lv_iconst (v := 1) hx hb dX0_goesOn_37 (by decide) ?_
            obtain ⟨w_38, h_38, hf⟩ := bind_e hf
            refine g_callv (vs := [.int x2, .int (1 : Int32)]) (rest := []) C hX hT (A_new hA0) (wC_cutS hT.2.1 hi1 _) trivial (fun sz => mX2_comes l D d sd (sa a i1) N (t.2.2.2 i1) x2 (1 : Int32) _ h_38 sz) (cwV 2 C.2.2.2.2 (lw_V q936 q937 q938 q125 q939) rfl rfl rfl hdX2_comes ⟨Nat.le_of_ble_eq_true rfl, Nat.le_of_ble_eq_true rfl⟩) (g_recv hV (hT.ats (i := i1) hi1 0 rfl) (ci := 2) rfl) rfl hl.1 rfl (Nat.le_of_ble_eq_true rfl) dX0_goesOn_38 ⟨Nat.zero_le _, Nat.zero_le _⟩ (fun H locs hT => ?_)
            obtain ⟨t_38, et⟩ : ∃ y, y = (csS t i1 w_38) := ⟨_, rfl⟩
            rw [← et] at hT
            have hf := lett_e et hf
            obtain ⟨x2_41, ex⟩ : ∃ y : Int32, y = (x2 + (1 : Int32)) := ⟨_, rfl⟩
            have hf := lett_e ex hf
            refine lv_iinc (v := x2_41) (lv' := [(2, .int x2_41), (0, .ref (a 32)), (1, .ref (sa a i1 0))]) hx hb dX0_goesOn_41 hl (k := 2) rfl (by rw [ex]; rfl) (by decide) rfl (fun ls hl => ?_)
            refine lv_goto (tgt := 2) hx hb dX0_goesOn_44 (by decide) ?_
            exact ih t_38 x2_41 _ _ _ hT (lv_sub hl [1, 2, 0] rfl) hf
  have hL58 : ∀ (K : CS → Int32 → Int32 → Option (Int32 × CS)), (∀ (t : CS) (x2 : Int32) (x3 : Int32) (H : Heap) (locs : List Loc) (ls : Array Slot), TH D A s.heap (wC d a ja t) H locs → lv_has ls 5 [(0, .ref (a 32)), (1, .ref (sa a i1 0)), (2, .int x2), (3, .int x3)] → K t x2 x3 = some w → W p l e (rm_ 263 8068) s m args below meth c H locs 0 0 (MQ below (GQi D w.1 (wC d a ja w.2) (wC d a ja t0) s.heap.size) args s 0 0 A) (F0 m 160 ls [])) → ∀ (n : Nat) (t : CS) (x2 : Int32) (x3 : Int32) (x4 : Int32) (H : Heap) (locs : List Loc) (ls : Array Slot), TH D A s.heap (wC d a ja t) H locs → lv_has ls 5 [(0, .ref (a 32)), (1, .ref (sa a i1 0)), (2, .int x2), (3, .int x3), (4, .int x4)] → fX0_goesOn_L58 N j r i1 K n t x2 x3 x4 = some w → W p l e (rm_ 263 8068) s m args below meth c H locs 0 0 (MQ below (GQi D w.1 (wC d a ja w.2) (wC d a ja t0) s.heap.size) args s 0 0 A) (F0 m 58 ls []) := by
    intro K hE n
    induction n with
    | zero =>
      intro t x2 x3 x4 H locs ls hT hl hf
      cases hf
    | succ n ih =>
      have hJ132 : ∀ (t : CS) (x2 : Int32) (x4 : Int32) (s0 : Int32) (s1 : Int32) (H : Heap) (locs : List Loc) (ls : Array Slot), TH D A s.heap (wC d a ja t) H locs → lv_has ls 5 [(0, .ref (a 32)), (1, .ref (sa a i1 0)), (2, .int x2), (4, .int x4)] → fX0_goesOn_J132 N j r i1 K (fX0_goesOn_L58 N j r i1 K n) t x2 x4 s0 s1 = some w → W p l e (rm_ 263 8068) s m args below meth c H locs 0 0 (MQ below (GQi D w.1 (wC d a ja w.2) (wC d a ja t0) s.heap.size) args s 0 0 A) (F0 m 132 ls [.int s0, .int s1]) := by
        intro t x2 x4 s0 s1 H locs ls hT hl hf
        unfold fX0_goesOn_J132 at hf
        refine lv_ior hx hb dX0_goesOn_132 ?_
        refine lv_topi (fun x3_133 ex => ?_)
        have hf := lett_e ex hf
        refine lv_istore_n (lv' := [(3, .int x3_133), (0, .ref (a 32)), (1, .ref (sa a i1 0)), (2, .int x2), (4, .int x4)]) hx hb dX0_goesOn_133 rfl hl (by decide) rfl (fun ls hl => ?_)
        refine lv_iload_n hx hb dX0_goesOn_134 rfl (lv_at hl 3 rfl) ?_
        refine lv_iload hx hb dX0_goesOn_135 (lv_at hl 4 rfl) ?_
        obtain ⟨w_137, h_137, hf⟩ := bind_e hf
        refine s_calli (vs := [.int x2, .int x4]) (rest := []) C (A_new hA0) hT (fun sz => mX0_has l N x2 x4 _ h_137 sz) (va_cwS 2 C.2.2.2.2 (lw_S q952 q953 q120 q954) rfl rfl rfl hdX0_has ⟨Nat.le_of_ble_eq_true rfl, Nat.le_of_ble_eq_true rfl⟩) rfl hl.1 rfl (Nat.le_of_ble_eq_true rfl) dX0_goesOn_137 ⟨Nat.zero_le _, Nat.zero_le _⟩ (fun H locs hT => ?_)
        refine lv_if_eq (tgt := 154) hx hb dX0_goesOn_140 (by decide) (fun hc => ?_) (fun hc => ?_)
        · have hf := ite_t hc hf
          obtain ⟨x4_154, ex⟩ : ∃ y : Int32, y = (x4 + (1 : Int32)) := ⟨_, rfl⟩
          have hf := lett_e ex hf
          refine lv_iinc (v := x4_154) (lv' := [(4, .int x4_154), (3, .int x3_133), (0, .ref (a 32)), (1, .ref (sa a i1 0)), (2, .int x2)]) hx hb dX0_goesOn_154 hl (k := 4) rfl (by rw [ex]; rfl) (by decide) rfl (fun ls hl => ?_)
          refine lv_goto (tgt := 58) hx hb dX0_goesOn_157 (by decide) ?_
          exact ih t x2 x3_133 x4_154 _ _ _ hT (lv_sub hl [2, 3, 4, 1, 0] rfl) hf
        · have hf := ite_f hc hf
          refine lv_aload_n hx hb dX0_goesOn_143 rfl (lv_at hl 2 rfl) ?_
          refine r_getN C hV hX.2.1 (hT.ats (i := i1) hi1 0 rfl) (ci := 2) rfl in_X2 5 (by decide) q238 rfl dX0_goesOn_144 ?_
          refine lv_iload hx hb dX0_goesOn_147 (lv_at hl 4 rfl) ?_
          refine lv_aload_n hx hb dX0_goesOn_149 rfl (lv_at hl 2 rfl) ?_
          refine r_getN C hV hX.2.1 (hT.ats (i := i1) hi1 0 rfl) (ci := 2) rfl in_X2 8 (by decide) q244 rfl dX0_goesOn_150 ?_
          obtain ⟨hi, hf⟩ := ix_e hf
          obtain ⟨p0, hp0⟩ := wC_pos (d := d) (a := a) (ja := ja) (c := t) (i := i1) hi1 6 rfl
          obtain ⟨t_153, et⟩ : ∃ y, y = (csS t i1 (ssA (t.2.2.2 i1) 5 (x4).toNatClampNeg ((t.2.2.2 i1).2 8))) := ⟨_, rfl⟩
          have hf := lett_e et hf
          refine w_ist (ws1 := (wC d a ja t_153)) C hV hT p0 _ hp0 hi rfl (by rw [et]; exact wC_updS hT.2.1 hi1 _ rfl (sast_5 d (sa a i1) (t.2.2.2 i1) _ _)) dX0_goesOn_153 (fun H locs hT => ?_)
          obtain ⟨x4_154, ex⟩ : ∃ y : Int32, y = (x4 + (1 : Int32)) := ⟨_, rfl⟩
          have hf := lett_e ex hf
          refine lv_iinc (v := x4_154) (lv' := [(4, .int x4_154), (3, .int x3_133), (0, .ref (a 32)), (1, .ref (sa a i1 0)), (2, .int x2)]) hx hb dX0_goesOn_154 hl (k := 4) rfl (by rw [ex]; rfl) (by decide) rfl (fun ls hl => ?_)
          refine lv_goto (tgt := 58) hx hb dX0_goesOn_157 (by decide) ?_
          exact ih t_153 x2 x3_133 x4_154 _ _ _ hT (lv_sub hl [2, 3, 4, 1, 0] rfl) hf
      have hJ112 : ∀ (t : CS) (x2 : Int32) (x3 : Int32) (x4 : Int32) (s0 : Int32) (s1 : Int32) (H : Heap) (locs : List Loc) (ls : Array Slot), TH D A s.heap (wC d a ja t) H locs → lv_has ls 5 [(0, .ref (a 32)), (1, .ref (sa a i1 0)), (2, .int x2), (3, .int x3), (4, .int x4)] → fX0_goesOn_J112 N j r i1 K (fX0_goesOn_L58 N j r i1 K n) t x2 x3 x4 s0 s1 = some w → W p l e (rm_ 263 8068) s m args below meth c H locs 0 0 (MQ below (GQi D w.1 (wC d a ja w.2) (wC d a ja t0) s.heap.size) args s 0 0 A) (F0 m 112 ls [.int s0, .int s1, .ref (a 17)]) := by
        intro t x2 x3 x4 s0 s1 H locs ls hT hl hf
        unfold fX0_goesOn_J112 at hf
        obtain ⟨hi, hf⟩ := ix_e hf
        obtain ⟨t_112, et⟩ : ∃ y, y = (csA t 17 (s1).toNatClampNeg s0) := ⟨_, rfl⟩
        have hf := lett_e et hf
        refine w_ist (ws1 := (wC d a ja t_112)) C hV hT 6 _ rfl hi rfl (by rw [et]; exact upd_set hT.2.1 rfl (cast_17 d a ja t _ _)) dX0_goesOn_112 (fun H locs hT => ?_)
        refine lv_iload_n hx hb dX0_goesOn_113 rfl (lv_at hl 3 rfl) ?_
        refine lv_aload_n hx hb dX0_goesOn_114 rfl (lv_at hl 0 rfl) ?_
        refine r_get C hV (hT.atp 0 rfl) (ci := 1) rfl in_X0 17 (by decide) q361 rfl dX0_goesOn_115 ?_
        refine lv_iload hx hb dX0_goesOn_118 (lv_at hl 4 rfl) ?_
        obtain ⟨hi, hf⟩ := ix_e hf
        refine r_ild C hV (hT.atp 6 rfl) _ hi rfl dX0_goesOn_120 ?_
        refine lv_if_le (tgt := 131) hx hb dX0_goesOn_121 (by decide) (fun hc => ?_) (fun hc => ?_)
        · have hf := ite_t hc hf
          refine lv_iconst (v := 0) hx hb dX0_goesOn_131 (by decide) ?_
          exact hJ132 t_112 x2 x4 (0 : Int32) x3 _ _ _ hT (lv_sub hl [0, 1, 2, 4] rfl) hf
        · have hf := ite_f hc hf
          refine lv_iconst (v := 1) hx hb dX0_goesOn_124 (by decide) ?_
          refine lv_iload hx hb dX0_goesOn_125 (lv_at hl 4 rfl) ?_
          refine lv_ishl hx hb dX0_goesOn_127 ?_
          refine lv_goto (tgt := 132) hx hb dX0_goesOn_128 (by decide) ?_
          exact hJ132 t_112 x2 x4 ((1 : Int32) <<< (x4 &&& 31)) x3 _ _ _ hT (lv_sub hl [0, 1, 2, 4] rfl) hf
      have hJ105 : ∀ (t : CS) (x2 : Int32) (x3 : Int32) (x4 : Int32) (s0 : Int32) (s1 : Int32) (s3 : Int32) (H : Heap) (locs : List Loc) (ls : Array Slot), TH D A s.heap (wC d a ja t) H locs → lv_has ls 5 [(0, .ref (a 32)), (1, .ref (sa a i1 0)), (2, .int x2), (3, .int x3), (4, .int x4)] → fX0_goesOn_J105 N j r i1 K (fX0_goesOn_L58 N j r i1 K n) t x2 x3 x4 s0 s1 s3 = some w → W p l e (rm_ 263 8068) s m args below meth c H locs 0 0 (MQ below (GQi D w.1 (wC d a ja w.2) (wC d a ja t0) s.heap.size) args s 0 0 A) (F0 m 105 ls [.int s0, .int s1, .ref (sa a i1 0), .int s3, .ref (a 17)]) := by
        intro t x2 x3 x4 s0 s1 s3 H locs ls hT hl hf
        unfold fX0_goesOn_J105 at hf
        obtain ⟨w_105, h_105, hf⟩ := bind_e hf
        refine g_calli (vs := [.int s1, .int s0]) (rest := [.int s3, .ref (a 17)]) C hX hT (A_new hA0) (wC_cutS hT.2.1 hi1 _) trivial (fun sz => mX2_goes l D d sd (sa a i1) N (t.2.2.2 i1) s1 s0 _ h_105 sz) (cwV 2 C.2.2.2.2 (lw_V q1018 q1019 q1020 q125 q1021) rfl rfl rfl hdX2_goes ⟨Nat.le_of_ble_eq_true rfl, Nat.le_of_ble_eq_true rfl⟩) (g_recv hV (hT.ats (i := i1) hi1 0 rfl) (ci := 2) rfl) rfl hl.1 rfl (Nat.le_of_ble_eq_true rfl) dX0_goesOn_105 ⟨Nat.zero_le _, Nat.zero_le _⟩ (fun H locs hT => ?_)
        obtain ⟨t_105, et⟩ : ∃ y, y = (csS t i1 w_105.2) := ⟨_, rfl⟩
        rw [← et] at hT
        have hf := lett_e et hf
        refine lv_goto (tgt := 112) hx hb dX0_goesOn_108 (by decide) ?_
        exact hJ112 t_105 x2 x3 x4 w_105.1 s3 _ _ _ hT hl hf
      intro t x2 x3 x4 H locs ls hT hl hf
      replace hf : fX0_goesOn_B58 N j r i1 K (fX0_goesOn_L58 N j r i1 K n) t x2 x3 x4 = some w := hf
      unfold fX0_goesOn_B58 at hf
      refine lv_iload hx hb dX0_goesOn_58 (lv_at hl 4 rfl) ?_
      refine lv_bipush (v := 6) hx hb dX0_goesOn_60 (by decide) ?_
      refine lv_icmp_ge (tgt := 160) hx hb dX0_goesOn_62 (by decide) (fun hc => ?_) (fun hc => ?_)
      · have hf := ite_t hc hf
        exact hE t x2 x3 _ _ _ hT (lv_sub hl [0, 1, 2, 3] rfl) hf
      · have hf := ite_f hc hf
        refine lv_aload_n hx hb dX0_goesOn_65 rfl (lv_at hl 0 rfl) ?_
        refine r_get C hV (hT.atp 0 rfl) (ci := 1) rfl in_X0 17 (by decide) q361 rfl dX0_goesOn_66 ?_
        refine lv_iload hx hb dX0_goesOn_69 (lv_at hl 4 rfl) ?_
        refine lv_iload_n hx hb dX0_goesOn_71 rfl (lv_at hl 2 rfl) ?_
        refine lv_iload hx hb dX0_goesOn_72 (lv_at hl 4 rfl) ?_
        obtain ⟨w_74, h_74, hf⟩ := bind_e hf
        refine s_calli (vs := [.int x2, .int x4]) (rest := [.int x4, .ref (a 17)]) C (A_new hA0) hT (fun sz => mX0_has l N x2 x4 _ h_74 sz) (va_cwS 2 C.2.2.2.2 (lw_S q952 q953 q120 q954) rfl rfl rfl hdX0_has ⟨Nat.le_of_ble_eq_true rfl, Nat.le_of_ble_eq_true rfl⟩) rfl hl.1 rfl (Nat.le_of_ble_eq_true rfl) dX0_goesOn_74 ⟨Nat.zero_le _, Nat.zero_le _⟩ (fun H locs hT => ?_)
        refine lv_if_eq (tgt := 111) hx hb dX0_goesOn_77 (by decide) (fun hc => ?_) (fun hc => ?_)
        · have hf := ite_t hc hf
          refine lv_iconst (v := 0) hx hb dX0_goesOn_111 (by decide) ?_
          exact hJ112 t x2 x3 x4 (0 : Int32) x4 _ _ _ hT hl hf
        · have hf := ite_f hc hf
          refine lv_aload_n hx hb dX0_goesOn_80 rfl (lv_at hl 1 rfl) ?_
          refine lv_iload hx hb dX0_goesOn_81 (lv_at hl 4 rfl) ?_
          refine lv_aload_n hx hb dX0_goesOn_83 rfl (lv_at hl 0 rfl) ?_
          refine r_get C hV (hT.atp 0 rfl) (ci := 1) rfl in_X0 13 (by decide) q357 rfl dX0_goesOn_84 ?_
          refine lv_iconst (v := -1) hx hb dX0_goesOn_87 (by decide) ?_
          refine lv_icmp_ne (tgt := 101) hx hb dX0_goesOn_88 (by decide) (fun hc => ?_) (fun hc => ?_)
          · have hf := ite_t hc hf
            refine lv_aload_n hx hb dX0_goesOn_101 rfl (lv_at hl 0 rfl) ?_
            refine r_get C hV (hT.atp 0 rfl) (ci := 1) rfl in_X0 13 (by decide) q357 rfl dX0_goesOn_102 ?_
            exact hJ105 t x2 x3 x4 (t.1 13) x4 x4 _ _ _ hT hl hf
          · have hf := ite_f (fun q => q hc) hf
            refine lv_aload_n hx hb dX0_goesOn_91 rfl (lv_at hl 0 rfl) ?_
            refine r_get C hV (hT.atp 0 rfl) (ci := 1) rfl in_X0 0 (by decide) q334 rfl dX0_goesOn_92 ?_
            refine r_getN C hV hX.2.1 (hJ.1.at hT.2.2) (ci := 3) rfl in_X1 4 (by decide) q208 rfl dX0_goesOn_95 ?_
            refine lv_goto (tgt := 105) hx hb dX0_goesOn_98 (by decide) ?_
            exact hJ105 t x2 x3 x4 (j.1 4) x4 x4 _ _ _ hT hl hf
  refine W.eq (by rw [hargs]) (t_in (vs := [.ref (a 32), .ref (sa a i1 0)]) (n := 5) (Nat.le_of_ble_eq_true rfl) (fun ls hl => ?_))
  have hl : lv_has ls 5 [(0, .ref (a 32)), (1, .ref (sa a i1 0))] := hl
  unfold fX0_goesOn at hf
  refine lv_iconst (v := 0) hx hb dX0_goesOn_0 (by decide) ?_
  refine lv_istore_n (lv' := [(2, .int (0 : Int32)), (0, .ref (a 32)), (1, .ref (sa a i1 0))]) hx hb dX0_goesOn_1 rfl hl (by decide) rfl (fun ls hl => ?_)
  refine hL2 _ (fun t H locs ls hT hl hf => ?_) N t0 (0 : Int32) _ _ _ hT (lv_sub hl [1, 2, 0] rfl) hf
  refine lv_aload_n hx hb dX0_goesOn_47 rfl (lv_at hl 0 rfl) ?_
  refine lv_aload_n hx hb dX0_goesOn_48 rfl (lv_at hl 1 rfl) ?_
  obtain ⟨w_49, h_49, hf⟩ := bind_e hf
  refine g_calli (vs := [.ref (sa a i1 0)]) (rest := []) C hX hT (A_new hA0) (Cut.all (D_nd hT.2.1) ((wC_fst d a ja _).trans (wC_fst d a ja t).symm)) (Ro := (fun P => JAt d ja j P ∧ RAt d (a 3) r P)) ⟨hJ.step hT.2.2 (A_full hA0 hT.2.2.1), hR.2.step hT.2.2 (A_full hA0 hT.2.2.1)⟩ (fun sz => mX0_letsIn l D d sd a ja N j r i1 t  _ h_49 hi1 sz) (cwV 1 C.2.2.2.2 (lw_V q940 q942 qs31 q120 q943) rfl rfl rfl hdX0_letsIn ⟨Nat.le_of_ble_eq_true rfl, Nat.le_of_ble_eq_true rfl⟩) (g_recv hV (hT.atp 0 rfl) (ci := 1) rfl) rfl hl.1 rfl (Nat.le_of_ble_eq_true rfl) dX0_goesOn_49 ⟨Nat.zero_le _, Nat.zero_le _⟩ (fun H locs hT => ?_)
  refine lv_istore_n (lv' := [(2, .int w_49.1), (0, .ref (a 32)), (1, .ref (sa a i1 0))]) hx hb dX0_goesOn_52 rfl hl (by decide) rfl (fun ls hl => ?_)
  refine lv_iconst (v := 0) hx hb dX0_goesOn_53 (by decide) ?_
  refine lv_istore_n (lv' := [(3, .int (0 : Int32)), (2, .int w_49.1), (0, .ref (a 32)), (1, .ref (sa a i1 0))]) hx hb dX0_goesOn_54 rfl hl (by decide) rfl (fun ls hl => ?_)
  refine lv_iconst (v := 0) hx hb dX0_goesOn_55 (by decide) ?_
  refine lv_istore (lv' := [(4, .int (0 : Int32)), (3, .int (0 : Int32)), (2, .int w_49.1), (0, .ref (a 32)), (1, .ref (sa a i1 0))]) hx hb dX0_goesOn_56 hl (by decide) rfl (fun ls hl => ?_)
  refine hL58 _ (fun t x2 x3 H locs ls hT hl hf => ?_) N w_49.2 w_49.1 (0 : Int32) (0 : Int32) _ _ _ hT (lv_sub hl [3, 4, 2, 1, 0] rfl) hf
  refine lv_aload_n hx hb dX0_goesOn_160 rfl (lv_at hl 1 rfl) ?_
  refine lv_sipush (v := -9999) hx hb dX0_goesOn_161 (by decide) ?_
  refine lv_sipush (v := 9999) hx hb dX0_goesOn_164 (by decide) ?_
  refine lv_aload_n hx hb dX0_goesOn_167 rfl (lv_at hl 1 rfl) ?_
  refine r_getN C hV hX.2.1 (hT.ats (i := i1) hi1 0 rfl) (ci := 2) rfl in_X2 7 (by decide) q242 rfl dX0_goesOn_168 ?_
  refine lv_aload_n hx hb dX0_goesOn_171 rfl (lv_at hl 1 rfl) ?_
  refine lv_iload_n hx hb dX0_goesOn_172 rfl (lv_at hl 3 rfl) ?_
  obtain ⟨w_173, h_173, hf⟩ := bind_e hf
  refine g_calli (vs := [.int x3]) (rest := [.int ((t.2.2.2 i1).2 7), .int (9999 : Int32), .int (-9999 : Int32), .ref (sa a i1 0)]) C hX hT (A_new hA0) (wC_cutS hT.2.1 hi1 _) trivial (fun sz => mX2_sound l D d sd (sa a i1) N (t.2.2.2 i1) x3 _ h_173 sz) (cwV 1 C.2.2.2.2 (lw_V q964 q965 q966 q125 q967) rfl rfl rfl hdX2_sound ⟨Nat.le_of_ble_eq_true rfl, Nat.le_of_ble_eq_true rfl⟩) (g_recv hV (hT.ats (i := i1) hi1 0 rfl) (ci := 2) rfl) rfl hl.1 rfl (Nat.le_of_ble_eq_true rfl) dX0_goesOn_173 ⟨Nat.zero_le _, Nat.zero_le _⟩ (fun H locs hT => ?_)
  obtain ⟨t_173, et⟩ : ∃ y, y = (csS t i1 w_173.2) := ⟨_, rfl⟩
  rw [← et] at hT
  have hf := lett_e et hf
  refine lv_iadd hx hb dX0_goesOn_176 ?_
  refine g_min C hl.1 q931 q675 q138 q676 (Nat.le_of_ble_eq_true rfl) (Nat.le_of_ble_eq_true rfl) ⟨Nat.zero_le _, Nat.zero_le _⟩ dX0_goesOn_177 ?_
  refine g_max C hl.1 q1022 q639 q138 q640 (Nat.le_of_ble_eq_true rfl) (Nat.le_of_ble_eq_true rfl) ⟨Nat.zero_le _, Nat.zero_le _⟩ dX0_goesOn_180 ?_
  obtain ⟨p0, hp0⟩ := wC_pos (d := d) (a := a) (ja := ja) (c := t_173) (i := i1) hi1 0 rfl
  obtain ⟨t_183, et⟩ : ∃ y, y = (csS t_173 i1 (ssI (t_173.2.2.2 i1) 7 (jmax (-9999 : Int32) (jmin (9999 : Int32) (((t.2.2.2 i1).2 7) + w_173.1))))) := ⟨_, rfl⟩
  have hf := lett_e et hf
  refine w_putN C hV hX.2.1 hT (ws1 := (wC d a ja t_183)) p0 hp0 rfl in_X2 tyX2_ok nmX2 7 (by decide) q242 (by rw [et]; exact wC_updS hT.2.1 hi1 _ rfl (sset_7 d (sa a i1) (t_173.2.2.2 i1) _)) rfl rfl rfl rfl (Nat.le_of_ble_eq_true rfl) dX0_goesOn_183 (fun H locs hT => ?_)
  refine lv_aload_n hx hb dX0_goesOn_186 rfl (lv_at hl 1 rfl) ?_
  refine lv_aload_n hx hb dX0_goesOn_187 rfl (lv_at hl 0 rfl) ?_
  refine r_get C hV (hT.atp 0 rfl) (ci := 1) rfl in_X0 0 (by decide) q334 rfl dX0_goesOn_188 ?_
  obtain ⟨w_191, h_191, hf⟩ := bind_e hf
  refine g_callv (vs := [.ref (ja 0)]) (rest := []) C hX hT (A_new hA0) (wC_cutS hT.2.1 hi1 _) (hJ.step hT.2.2 (A_st hA0 hT hi1)) (fun sz => mX2_waits l D d sd (sa a i1) ja N j (t_183.2.2.2 i1)  _ h_191 sz) (cwV 1 C.2.2.2.2 (lw_V q1023 q1024 q1025 q125 q1026) rfl rfl rfl hdX2_waits ⟨Nat.le_of_ble_eq_true rfl, Nat.le_of_ble_eq_true rfl⟩) (g_recv hV (hT.ats (i := i1) hi1 0 rfl) (ci := 2) rfl) rfl hl.1 rfl (Nat.le_of_ble_eq_true rfl) dX0_goesOn_191 ⟨Nat.zero_le _, Nat.zero_le _⟩ (fun H locs hT => ?_)
  obtain ⟨t_191, et⟩ : ∃ y, y = (csS t_183 i1 w_191) := ⟨_, rfl⟩
  rw [← et] at hT
  have hf := lett_e et hf
  refine lv_iload_n hx hb dX0_goesOn_194 rfl (lv_at hl 2 rfl) ?_
  exact f_iret (wC d a ja) hA0 C hT hf hr hlocks dX0_goesOn_195
def fX0_beat (N : Nat) (j : JS) (r : RS) (t0 : CS) : Option (Int32 × CS) :=
  ((fX0_isJunction N j r  t0 ).bind fun w_1 => (if w_1.1 = 0 then (some ((-1 : Int32), w_1.2)) else (if ¬ ((w_1.2.2.2.2 0).2 8) = (999 : Int32) then ((fX0_keeps N j r  w_1.2 ).bind fun w_23 => ((fX0_goesOn N j r 0 w_23 ).bind fun w_31 => (some (w_31.1, w_31.2)))) else (some ((-1 : Int32), w_1.2)))))
theorem hdX0_beat : yX0_beat.cls = RX0 ∧ yX0_beat.cls ≠ "java/lang/invoke/MethodHandle" ∧ yX0_beat.cls ≠ "java/lang/invoke/VarHandle" ∧ (parseMethodDescriptor yX0_beat.desc).map (fun d => d.parameters.length) = some 0 := by decide +kernel
set_option maxHeartbeats 4000000 in
theorem mX0_beat (l : Launch) (D : va_G) (d : Nat → ClassId) (sd : Nat) (a : Nat → Nat) (ja : Nat → Nat) (N : Nat) (j : JS) (r : RS) (t0 : CS) (w : Int32 × CS) (hf : fX0_beat N j r t0 = some w) (sz : Nat) : Met l yX0_beat (ws_ yX0_beat cX0_beat 1 (some .int)) (rm_ 264 8092) (GPc D d sd [.ref (a 32)] (wC d a ja t0) (fun P => JAt d ja j P ∧ RAt d (a 3) r P) sz) (GQi D w.1 (wC d a ja w.2) (wC d a ja t0) sz) 0 0 (va_A (wC d a ja t0) sz) := by
  refine Met.ofW (cc := cX0_beat) (maxL := 1) (ret := (some .int)) plX0 rfl ?_
  intro p e s m args below meth c s₁ B hml hv
  obtain ⟨C, hX, hR, hT, hr, hlocks, hargs, rfl⟩ := g_enter (own := RX0) B hml rfl hv
  have hx := C.1
  have hb := C.2.1
  have hV := hX.1
  obtain ⟨A, hA0⟩ : ∃ A, A = va_A (wC d a ja t0) s.heap.size := ⟨_, rfl⟩
  rw [← hA0] at hX hR hT
  show W p l e (rm_ 264 8092) s m args below meth c s.heap [] 0 0 (MQ below (GQi D w.1 (wC d a ja w.2) (wC d a ja t0) s.heap.size) args s 0 0 (va_A (wC d a ja t0) s.heap.size)) _
  rw [← hA0]
  have hJ := hR.1
  obtain ⟨rmc, rel, rcap, rf, hrl, hrel, hrc, hrg⟩ := hR.2.unpack
  refine W.eq (by rw [hargs]) (t_in (vs := [.ref (a 32)]) (n := 1) (Nat.le_of_ble_eq_true rfl) (fun ls hl => ?_))
  have hl : lv_has ls 1 [(0, .ref (a 32))] := hl
  unfold fX0_beat at hf
  refine lv_aload_n hx hb dX0_beat_0 rfl (lv_at hl 0 rfl) ?_
  obtain ⟨w_1, h_1, hf⟩ := bind_e hf
  refine g_calli (vs := []) (rest := []) C hX hT (A_new hA0) (Cut.all (D_nd hT.2.1) ((wC_fst d a ja _).trans (wC_fst d a ja t0).symm)) (Ro := (fun P => JAt d ja j P ∧ RAt d (a 3) r P)) ⟨hJ.step hT.2.2 (A_full hA0 hT.2.2.1), hR.2.step hT.2.2 (A_full hA0 hT.2.2.1)⟩ (fun sz => mX0_isJunction l D d sd a ja N j r  t0  _ h_1 sz) (cwV 0 C.2.2.2.2 (lw_V q923 q925 qs28 q120 q926) rfl rfl rfl hdX0_isJunction ⟨Nat.le_of_ble_eq_true rfl, Nat.le_of_ble_eq_true rfl⟩) (g_recv hV (hT.atp 0 rfl) (ci := 1) rfl) rfl hl.1 rfl (Nat.le_of_ble_eq_true rfl) dX0_beat_1 ⟨Nat.zero_le _, Nat.zero_le _⟩ (fun H locs hT => ?_)
  refine lv_if_eq (tgt := 20) hx hb dX0_beat_4 (by decide) (fun hc => ?_) (fun hc => ?_)
  · have hf := ite_t hc hf
    refine lv_iconst (v := -1) hx hb dX0_beat_20 (by decide) ?_
    exact f_iret (wC d a ja) hA0 C hT hf hr hlocks dX0_beat_21
  · have hf := ite_f hc hf
    refine lv_aload_n hx hb dX0_beat_7 rfl (lv_at hl 0 rfl) ?_
    refine r_get C hV (hT.atp 0 rfl) (ci := 1) rfl in_X0 1 (by decide) q336 rfl dX0_beat_8 ?_
    refine r_getN C hV hX.2.1 (hT.ats (i := 0) (by decide) 0 rfl) (ci := 2) rfl in_X2 8 (by decide) q244 rfl dX0_beat_11 ?_
    refine lv_sipush (v := 999) hx hb dX0_beat_14 (by decide) ?_
    refine lv_icmp_ne (tgt := 22) hx hb dX0_beat_17 (by decide) (fun hc => ?_) (fun hc => ?_)
    · have hf := ite_t hc hf
      refine lv_aload_n hx hb dX0_beat_22 rfl (lv_at hl 0 rfl) ?_
      obtain ⟨w_23, h_23, hf⟩ := bind_e hf
      refine g_callv (vs := []) (rest := []) C hX hT (A_new hA0) (Cut.all (D_nd hT.2.1) ((wC_fst d a ja _).trans (wC_fst d a ja w_1.2).symm)) (Ro := (fun P => JAt d ja j P ∧ RAt d (a 3) r P)) ⟨hJ.step hT.2.2 (A_full hA0 hT.2.2.1), hR.2.step hT.2.2 (A_full hA0 hT.2.2.1)⟩ (fun sz => mX0_keeps l D d sd a ja N j r  w_1.2  _ h_23 sz) (cwV 0 C.2.2.2.2 (lw_V q927 q929 qs29 q120 q930) rfl rfl rfl hdX0_keeps ⟨Nat.le_of_ble_eq_true rfl, Nat.le_of_ble_eq_true rfl⟩) (g_recv hV (hT.atp 0 rfl) (ci := 1) rfl) rfl hl.1 rfl (Nat.le_of_ble_eq_true rfl) dX0_beat_23 ⟨Nat.zero_le _, Nat.zero_le _⟩ (fun H locs hT => ?_)
      refine lv_aload_n hx hb dX0_beat_26 rfl (lv_at hl 0 rfl) ?_
      refine lv_aload_n hx hb dX0_beat_27 rfl (lv_at hl 0 rfl) ?_
      refine r_get C hV (hT.atp 0 rfl) (ci := 1) rfl in_X0 1 (by decide) q336 rfl dX0_beat_28 ?_
      obtain ⟨w_31, h_31, hf⟩ := bind_e hf
      refine g_calli (vs := [.ref (sa a 0 0)]) (rest := []) C hX hT (A_new hA0) (Cut.all (D_nd hT.2.1) ((wC_fst d a ja _).trans (wC_fst d a ja w_23).symm)) (Ro := (fun P => JAt d ja j P ∧ RAt d (a 3) r P)) ⟨hJ.step hT.2.2 (A_full hA0 hT.2.2.1), hR.2.step hT.2.2 (A_full hA0 hT.2.2.1)⟩ (fun sz => mX0_goesOn l D d sd a ja N j r 0 w_23  _ h_31 (by decide) sz) (cwV 1 C.2.2.2.2 (lw_V q932 q934 qs30 q120 q935) rfl rfl rfl hdX0_goesOn ⟨Nat.le_of_ble_eq_true rfl, Nat.le_of_ble_eq_true rfl⟩) (g_recv hV (hT.atp 0 rfl) (ci := 1) rfl) rfl hl.1 rfl (Nat.le_of_ble_eq_true rfl) dX0_beat_31 ⟨Nat.zero_le _, Nat.zero_le _⟩ (fun H locs hT => ?_)
      exact f_iret (wC d a ja) hA0 C hT hf hr hlocks dX0_beat_34
    · have hf := ite_f (fun q => q hc) hf
      refine lv_iconst (v := -1) hx hb dX0_beat_20 (by decide) ?_
      exact f_iret (wC d a ja) hA0 C hT hf hr hlocks dX0_beat_21
def fX0_come (N : Nat) (j : JS) (r : RS) (t0 : CS) (x1 : Int32) (x2 : Int32) : Option (Int32 × CS) :=
  ((fX0_isRoad N j r  t0 x1).bind fun w_2 => (if w_2.1 = 0 then (some ((-1 : Int32), w_2.2)) else ((fX0_in N (x2).toInt64 (1 : Int64) (20 : Int64)).bind fun w_14 => (if ¬ w_14 = 0 then ((fX0_keeps N j r  w_2.2 ).bind fun w_23 => ((fX2_comes N (w_23.2.2.2 0) x1 x2).bind fun w_32 => (lett (csS w_23 0 w_32) fun t_32 => (ix x1 6 (some (((t_32.2.2.2 0).1 0 (x1).toNatClampNeg), t_32)))))) else (some ((-1 : Int32), w_2.2))))))
theorem hdX0_come : yX0_come.cls = RX0 ∧ yX0_come.cls ≠ "java/lang/invoke/MethodHandle" ∧ yX0_come.cls ≠ "java/lang/invoke/VarHandle" ∧ (parseMethodDescriptor yX0_come.desc).map (fun d => d.parameters.length) = some 2 := by decide +kernel
set_option maxHeartbeats 4000000 in
theorem mX0_come (l : Launch) (D : va_G) (d : Nat → ClassId) (sd : Nat) (a : Nat → Nat) (ja : Nat → Nat) (N : Nat) (j : JS) (r : RS) (t0 : CS) (x1 : Int32) (x2 : Int32) (w : Int32 × CS) (hf : fX0_come N j r t0 x1 x2 = some w) (sz : Nat) : Met l yX0_come (ws_ yX0_come cX0_come 3 (some .int)) (rm_ 3 61) (GPc D d sd [.ref (a 32), .int x1, .int x2] (wC d a ja t0) (fun P => JAt d ja j P ∧ RAt d (a 3) r P) sz) (GQi D w.1 (wC d a ja w.2) (wC d a ja t0) sz) 0 0 (va_A (wC d a ja t0) sz) := by
  refine Met.ofW (cc := cX0_come) (maxL := 3) (ret := (some .int)) plX0 rfl ?_
  intro p e s m args below meth c s₁ B hml hv
  obtain ⟨C, hX, hR, hT, hr, hlocks, hargs, rfl⟩ := g_enter (own := RX0) B hml rfl hv
  have hx := C.1
  have hb := C.2.1
  have hV := hX.1
  obtain ⟨A, hA0⟩ : ∃ A, A = va_A (wC d a ja t0) s.heap.size := ⟨_, rfl⟩
  rw [← hA0] at hX hR hT
  show W p l e (rm_ 3 61) s m args below meth c s.heap [] 0 0 (MQ below (GQi D w.1 (wC d a ja w.2) (wC d a ja t0) s.heap.size) args s 0 0 (va_A (wC d a ja t0) s.heap.size)) _
  rw [← hA0]
  have hJ := hR.1
  obtain ⟨rmc, rel, rcap, rf, hrl, hrel, hrc, hrg⟩ := hR.2.unpack
  refine W.eq (by rw [hargs]) (t_in (vs := [.ref (a 32), .int x1, .int x2]) (n := 3) (Nat.le_of_ble_eq_true rfl) (fun ls hl => ?_))
  have hl : lv_has ls 3 [(0, .ref (a 32)), (1, .int x1), (2, .int x2)] := hl
  unfold fX0_come at hf
  refine lv_aload_n hx hb dX0_come_0 rfl (lv_at hl 0 rfl) ?_
  refine lv_iload_n hx hb dX0_come_1 rfl (lv_at hl 1 rfl) ?_
  obtain ⟨w_2, h_2, hf⟩ := bind_e hf
  refine g_calli (vs := [.int x1]) (rest := []) C hX hT (A_new hA0) (Cut.all (D_nd hT.2.1) ((wC_fst d a ja _).trans (wC_fst d a ja t0).symm)) (Ro := (fun P => JAt d ja j P ∧ RAt d (a 3) r P)) ⟨hJ.step hT.2.2 (A_full hA0 hT.2.2.1), hR.2.step hT.2.2 (A_full hA0 hT.2.2.1)⟩ (fun sz => mX0_isRoad l D d sd a ja N j r  t0 x1 _ h_2 sz) (cwV 1 C.2.2.2.2 (lw_V q890 q892 qs26 q120 q893) rfl rfl rfl hdX0_isRoad ⟨Nat.le_of_ble_eq_true rfl, Nat.le_of_ble_eq_true rfl⟩) (g_recv hV (hT.atp 0 rfl) (ci := 1) rfl) rfl hl.1 rfl (Nat.le_of_ble_eq_true rfl) dX0_come_2 ⟨Nat.zero_le _, Nat.zero_le _⟩ (fun H locs hT => ?_)
  refine lv_if_eq (tgt := 20) hx hb dX0_come_5 (by decide) (fun hc => ?_) (fun hc => ?_)
  · have hf := ite_t hc hf
    refine lv_iconst (v := -1) hx hb dX0_come_20 (by decide) ?_
    exact f_iret (wC d a ja) hA0 C hT hf hr hlocks dX0_come_21
  · have hf := ite_f hc hf
    refine lv_iload_n hx hb dX0_come_8 rfl (lv_at hl 2 rfl) ?_
    refine lv_i2l hx hb dX0_come_9 rfl ?_
    refine lv_lconst (v := 1) hx hb dX0_come_10 (by decide) ?_
    refine g_ldc2 (v := 20) C q1032 dX0_come_11 ?_
    obtain ⟨w_14, h_14, hf⟩ := bind_e hf
    refine s_calli (vs := [.long (x2).toInt64, .long (1 : Int64), .long (20 : Int64)]) (rest := []) C (A_new hA0) hT (fun sz => mX0_in l N (x2).toInt64 (1 : Int64) (20 : Int64) _ h_14 sz) (va_cwS 3 C.2.2.2.2 (lw_S q885 q518 q120 q519) rfl rfl rfl hdX0_in ⟨Nat.le_of_ble_eq_true rfl, Nat.le_of_ble_eq_true rfl⟩) rfl hl.1 rfl (Nat.le_of_ble_eq_true rfl) dX0_come_14 ⟨Nat.zero_le _, Nat.zero_le _⟩ (fun H locs hT => ?_)
    refine lv_if_ne (tgt := 22) hx hb dX0_come_17 (by decide) (fun hc => ?_) (fun hc => ?_)
    · have hf := ite_t hc hf
      refine lv_aload_n hx hb dX0_come_22 rfl (lv_at hl 0 rfl) ?_
      obtain ⟨w_23, h_23, hf⟩ := bind_e hf
      refine g_callv (vs := []) (rest := []) C hX hT (A_new hA0) (Cut.all (D_nd hT.2.1) ((wC_fst d a ja _).trans (wC_fst d a ja w_2.2).symm)) (Ro := (fun P => JAt d ja j P ∧ RAt d (a 3) r P)) ⟨hJ.step hT.2.2 (A_full hA0 hT.2.2.1), hR.2.step hT.2.2 (A_full hA0 hT.2.2.1)⟩ (fun sz => mX0_keeps l D d sd a ja N j r  w_2.2  _ h_23 sz) (cwV 0 C.2.2.2.2 (lw_V q927 q929 qs29 q120 q930) rfl rfl rfl hdX0_keeps ⟨Nat.le_of_ble_eq_true rfl, Nat.le_of_ble_eq_true rfl⟩) (g_recv hV (hT.atp 0 rfl) (ci := 1) rfl) rfl hl.1 rfl (Nat.le_of_ble_eq_true rfl) dX0_come_23 ⟨Nat.zero_le _, Nat.zero_le _⟩ (fun H locs hT => ?_)
      refine lv_aload_n hx hb dX0_come_26 rfl (lv_at hl 0 rfl) ?_
      refine r_get C hV (hT.atp 0 rfl) (ci := 1) rfl in_X0 1 (by decide) q336 rfl dX0_come_27 ?_
      refine lv_iload_n hx hb dX0_come_30 rfl (lv_at hl 1 rfl) ?_
      refine lv_iload_n hx hb dX0_come_31 rfl (lv_at hl 2 rfl) ?_
      obtain ⟨w_32, h_32, hf⟩ := bind_e hf
      refine g_callv (vs := [.int x1, .int x2]) (rest := []) C hX hT (A_new hA0) (wC_cutS hT.2.1 (by decide) _) trivial (fun sz => mX2_comes l D d sd (sa a 0) N (w_23.2.2.2 0) x1 x2 _ h_32 sz) (cwV 2 C.2.2.2.2 (lw_V q936 q937 q938 q125 q939) rfl rfl rfl hdX2_comes ⟨Nat.le_of_ble_eq_true rfl, Nat.le_of_ble_eq_true rfl⟩) (g_recv hV (hT.ats (i := 0) (by decide) 0 rfl) (ci := 2) rfl) rfl hl.1 rfl (Nat.le_of_ble_eq_true rfl) dX0_come_32 ⟨Nat.zero_le _, Nat.zero_le _⟩ (fun H locs hT => ?_)
      obtain ⟨t_32, et⟩ : ∃ y, y = (csS w_23 0 w_32) := ⟨_, rfl⟩
      rw [← et] at hT
      have hf := lett_e et hf
      refine lv_aload_n hx hb dX0_come_35 rfl (lv_at hl 0 rfl) ?_
      refine r_get C hV (hT.atp 0 rfl) (ci := 1) rfl in_X0 1 (by decide) q336 rfl dX0_come_36 ?_
      refine r_getN C hV hX.2.1 (hT.ats (i := 0) (by decide) 0 rfl) (ci := 2) rfl in_X2 0 (by decide) q228 rfl dX0_come_39 ?_
      refine lv_iload_n hx hb dX0_come_42 rfl (lv_at hl 1 rfl) ?_
      obtain ⟨hi, hf⟩ := ix_e hf
      refine r_ild C hV (hT.ats (i := 0) (by decide) 1 rfl) _ hi rfl dX0_come_43 ?_
      exact f_iret (wC d a ja) hA0 C hT hf hr hlocks dX0_come_44
    · have hf := ite_f (fun q => q hc) hf
      refine lv_iconst (v := -1) hx hb dX0_come_20 (by decide) ?_
      exact f_iret (wC d a ja) hA0 C hT hf hr hlocks dX0_come_21
def fX0_wave (N : Nat) (j : JS) (r : RS) (t0 : CS) (x1 : Int32) : Option (Int32 × CS) :=
  ((fX0_isRoad N j r  t0 x1).bind fun w_2 => (if w_2.1 = 0 then (some ((-1 : Int32), w_2.2)) else (ix x1 6 (if ¬ ((w_2.2.2.2.2 0).1 0 (x1).toNatClampNeg) = 0 then ((fX0_keeps N j r  w_2.2 ).bind fun w_23 => ((fX2_goes N (w_23.2.2.2 0) x1 (j.1 4)).bind fun w_38 => (lett (csS w_23 0 w_38.2) fun t_38 => (some (w_38.1, t_38))))) else (some ((-1 : Int32), w_2.2))))))
theorem hdX0_wave : yX0_wave.cls = RX0 ∧ yX0_wave.cls ≠ "java/lang/invoke/MethodHandle" ∧ yX0_wave.cls ≠ "java/lang/invoke/VarHandle" ∧ (parseMethodDescriptor yX0_wave.desc).map (fun d => d.parameters.length) = some 1 := by decide +kernel
set_option maxHeartbeats 4000000 in
theorem mX0_wave (l : Launch) (D : va_G) (d : Nat → ClassId) (sd : Nat) (a : Nat → Nat) (ja : Nat → Nat) (N : Nat) (j : JS) (r : RS) (t0 : CS) (x1 : Int32) (w : Int32 × CS) (hf : fX0_wave N j r t0 x1 = some w) (sz : Nat) : Met l yX0_wave (ws_ yX0_wave cX0_wave 2 (some .int)) (rm_ 3 61) (GPc D d sd [.ref (a 32), .int x1] (wC d a ja t0) (fun P => JAt d ja j P ∧ RAt d (a 3) r P) sz) (GQi D w.1 (wC d a ja w.2) (wC d a ja t0) sz) 0 0 (va_A (wC d a ja t0) sz) := by
  refine Met.ofW (cc := cX0_wave) (maxL := 2) (ret := (some .int)) plX0 rfl ?_
  intro p e s m args below meth c s₁ B hml hv
  obtain ⟨C, hX, hR, hT, hr, hlocks, hargs, rfl⟩ := g_enter (own := RX0) B hml rfl hv
  have hx := C.1
  have hb := C.2.1
  have hV := hX.1
  obtain ⟨A, hA0⟩ : ∃ A, A = va_A (wC d a ja t0) s.heap.size := ⟨_, rfl⟩
  rw [← hA0] at hX hR hT
  show W p l e (rm_ 3 61) s m args below meth c s.heap [] 0 0 (MQ below (GQi D w.1 (wC d a ja w.2) (wC d a ja t0) s.heap.size) args s 0 0 (va_A (wC d a ja t0) s.heap.size)) _
  rw [← hA0]
  have hJ := hR.1
  obtain ⟨rmc, rel, rcap, rf, hrl, hrel, hrc, hrg⟩ := hR.2.unpack
  refine W.eq (by rw [hargs]) (t_in (vs := [.ref (a 32), .int x1]) (n := 2) (Nat.le_of_ble_eq_true rfl) (fun ls hl => ?_))
  have hl : lv_has ls 2 [(0, .ref (a 32)), (1, .int x1)] := hl
  unfold fX0_wave at hf
  refine lv_aload_n hx hb dX0_wave_0 rfl (lv_at hl 0 rfl) ?_
  refine lv_iload_n hx hb dX0_wave_1 rfl (lv_at hl 1 rfl) ?_
  obtain ⟨w_2, h_2, hf⟩ := bind_e hf
  refine g_calli (vs := [.int x1]) (rest := []) C hX hT (A_new hA0) (Cut.all (D_nd hT.2.1) ((wC_fst d a ja _).trans (wC_fst d a ja t0).symm)) (Ro := (fun P => JAt d ja j P ∧ RAt d (a 3) r P)) ⟨hJ.step hT.2.2 (A_full hA0 hT.2.2.1), hR.2.step hT.2.2 (A_full hA0 hT.2.2.1)⟩ (fun sz => mX0_isRoad l D d sd a ja N j r  t0 x1 _ h_2 sz) (cwV 1 C.2.2.2.2 (lw_V q890 q892 qs26 q120 q893) rfl rfl rfl hdX0_isRoad ⟨Nat.le_of_ble_eq_true rfl, Nat.le_of_ble_eq_true rfl⟩) (g_recv hV (hT.atp 0 rfl) (ci := 1) rfl) rfl hl.1 rfl (Nat.le_of_ble_eq_true rfl) dX0_wave_2 ⟨Nat.zero_le _, Nat.zero_le _⟩ (fun H locs hT => ?_)
  refine lv_if_eq (tgt := 20) hx hb dX0_wave_5 (by decide) (fun hc => ?_) (fun hc => ?_)
  · have hf := ite_t hc hf
    refine lv_iconst (v := -1) hx hb dX0_wave_20 (by decide) ?_
    exact f_iret (wC d a ja) hA0 C hT hf hr hlocks dX0_wave_21
  · have hf := ite_f hc hf
    refine lv_aload_n hx hb dX0_wave_8 rfl (lv_at hl 0 rfl) ?_
    refine r_get C hV (hT.atp 0 rfl) (ci := 1) rfl in_X0 1 (by decide) q336 rfl dX0_wave_9 ?_
    refine r_getN C hV hX.2.1 (hT.ats (i := 0) (by decide) 0 rfl) (ci := 2) rfl in_X2 0 (by decide) q228 rfl dX0_wave_12 ?_
    refine lv_iload_n hx hb dX0_wave_15 rfl (lv_at hl 1 rfl) ?_
    obtain ⟨hi, hf⟩ := ix_e hf
    refine r_ild C hV (hT.ats (i := 0) (by decide) 1 rfl) _ hi rfl dX0_wave_16 ?_
    refine lv_if_ne (tgt := 22) hx hb dX0_wave_17 (by decide) (fun hc => ?_) (fun hc => ?_)
    · have hf := ite_t hc hf
      refine lv_aload_n hx hb dX0_wave_22 rfl (lv_at hl 0 rfl) ?_
      obtain ⟨w_23, h_23, hf⟩ := bind_e hf
      refine g_callv (vs := []) (rest := []) C hX hT (A_new hA0) (Cut.all (D_nd hT.2.1) ((wC_fst d a ja _).trans (wC_fst d a ja w_2.2).symm)) (Ro := (fun P => JAt d ja j P ∧ RAt d (a 3) r P)) ⟨hJ.step hT.2.2 (A_full hA0 hT.2.2.1), hR.2.step hT.2.2 (A_full hA0 hT.2.2.1)⟩ (fun sz => mX0_keeps l D d sd a ja N j r  w_2.2  _ h_23 sz) (cwV 0 C.2.2.2.2 (lw_V q927 q929 qs29 q120 q930) rfl rfl rfl hdX0_keeps ⟨Nat.le_of_ble_eq_true rfl, Nat.le_of_ble_eq_true rfl⟩) (g_recv hV (hT.atp 0 rfl) (ci := 1) rfl) rfl hl.1 rfl (Nat.le_of_ble_eq_true rfl) dX0_wave_23 ⟨Nat.zero_le _, Nat.zero_le _⟩ (fun H locs hT => ?_)
      refine lv_aload_n hx hb dX0_wave_26 rfl (lv_at hl 0 rfl) ?_
      refine r_get C hV (hT.atp 0 rfl) (ci := 1) rfl in_X0 1 (by decide) q336 rfl dX0_wave_27 ?_
      refine lv_iload_n hx hb dX0_wave_30 rfl (lv_at hl 1 rfl) ?_
      refine lv_aload_n hx hb dX0_wave_31 rfl (lv_at hl 0 rfl) ?_
      refine r_get C hV (hT.atp 0 rfl) (ci := 1) rfl in_X0 0 (by decide) q334 rfl dX0_wave_32 ?_
      refine r_getN C hV hX.2.1 (hJ.1.at hT.2.2) (ci := 3) rfl in_X1 4 (by decide) q208 rfl dX0_wave_35 ?_
      obtain ⟨w_38, h_38, hf⟩ := bind_e hf
      refine g_calli (vs := [.int x1, .int (j.1 4)]) (rest := []) C hX hT (A_new hA0) (wC_cutS hT.2.1 (by decide) _) trivial (fun sz => mX2_goes l D d sd (sa a 0) N (w_23.2.2.2 0) x1 (j.1 4) _ h_38 sz) (cwV 2 C.2.2.2.2 (lw_V q1018 q1019 q1020 q125 q1021) rfl rfl rfl hdX2_goes ⟨Nat.le_of_ble_eq_true rfl, Nat.le_of_ble_eq_true rfl⟩) (g_recv hV (hT.ats (i := 0) (by decide) 0 rfl) (ci := 2) rfl) rfl hl.1 rfl (Nat.le_of_ble_eq_true rfl) dX0_wave_38 ⟨Nat.zero_le _, Nat.zero_le _⟩ (fun H locs hT => ?_)
      obtain ⟨t_38, et⟩ : ∃ y, y = (csS w_23 0 w_38.2) := ⟨_, rfl⟩
      rw [← et] at hT
      have hf := lett_e et hf
      exact f_iret (wC d a ja) hA0 C hT hf hr hlocks dX0_wave_41
    · have hf := ite_f (fun q => q hc) hf
      refine lv_iconst (v := -1) hx hb dX0_wave_20 (by decide) ?_
      exact f_iret (wC d a ja) hA0 C hT hf hr hlocks dX0_wave_21
def fX0_score (N : Nat) (j : JS) (r : RS) (t0 : CS) (x1 : Int32) (x2 : Int32) : Option (Int32 × CS) :=
  ((fX0_isBeat N j r  t0 x1).bind fun w_2 => (if w_2.1 = 0 then (some ((-1 : Int32), w_2.2)) else ((fX0_isRoad N j r  w_2.2 x2).bind fun w_10 => (if ¬ w_10.1 = 0 then ((fX0_keeps N j r  w_10.2 ).bind fun w_19 => (ix x1 12 (ix x1 12 (lett (csS w_19 0 (ssA (w_19.2.2.2 0) 6 (x1).toNatClampNeg (((w_19.2.2.2 0).1 6 (x1).toNatClampNeg) ^^^ ((1 : Int32) <<< (x2 &&& 31))))) fun t_36 => (ix x1 12 ((fX0_has N ((t_36.2.2.2 0).1 6 (x1).toNatClampNeg) x2).bind fun w_47 => ((fX0_bit N w_47).bind fun w_50 => (some (w_50, t_36))))))))) else (some ((-1 : Int32), w_10.2))))))
theorem hdX0_score : yX0_score.cls = RX0 ∧ yX0_score.cls ≠ "java/lang/invoke/MethodHandle" ∧ yX0_score.cls ≠ "java/lang/invoke/VarHandle" ∧ (parseMethodDescriptor yX0_score.desc).map (fun d => d.parameters.length) = some 2 := by decide +kernel
set_option maxHeartbeats 4000000 in
theorem mX0_score (l : Launch) (D : va_G) (d : Nat → ClassId) (sd : Nat) (a : Nat → Nat) (ja : Nat → Nat) (N : Nat) (j : JS) (r : RS) (t0 : CS) (x1 : Int32) (x2 : Int32) (w : Int32 × CS) (hf : fX0_score N j r t0 x1 x2 = some w) (sz : Nat) : Met l yX0_score (ws_ yX0_score cX0_score 3 (some .int)) (rm_ 3 61) (GPc D d sd [.ref (a 32), .int x1, .int x2] (wC d a ja t0) (fun P => JAt d ja j P ∧ RAt d (a 3) r P) sz) (GQi D w.1 (wC d a ja w.2) (wC d a ja t0) sz) 0 0 (va_A (wC d a ja t0) sz) := by
  refine Met.ofW (cc := cX0_score) (maxL := 3) (ret := (some .int)) plX0 rfl ?_
  intro p e s m args below meth c s₁ B hml hv
  obtain ⟨C, hX, hR, hT, hr, hlocks, hargs, rfl⟩ := g_enter (own := RX0) B hml rfl hv
  have hx := C.1
  have hb := C.2.1
  have hV := hX.1
  obtain ⟨A, hA0⟩ : ∃ A, A = va_A (wC d a ja t0) s.heap.size := ⟨_, rfl⟩
  rw [← hA0] at hX hR hT
  show W p l e (rm_ 3 61) s m args below meth c s.heap [] 0 0 (MQ below (GQi D w.1 (wC d a ja w.2) (wC d a ja t0) s.heap.size) args s 0 0 (va_A (wC d a ja t0) s.heap.size)) _
  rw [← hA0]
  have hJ := hR.1
  obtain ⟨rmc, rel, rcap, rf, hrl, hrel, hrc, hrg⟩ := hR.2.unpack
  refine W.eq (by rw [hargs]) (t_in (vs := [.ref (a 32), .int x1, .int x2]) (n := 3) (Nat.le_of_ble_eq_true rfl) (fun ls hl => ?_))
  have hl : lv_has ls 3 [(0, .ref (a 32)), (1, .int x1), (2, .int x2)] := hl
  unfold fX0_score at hf
  refine lv_aload_n hx hb dX0_score_0 rfl (lv_at hl 0 rfl) ?_
  refine lv_iload_n hx hb dX0_score_1 rfl (lv_at hl 1 rfl) ?_
  obtain ⟨w_2, h_2, hf⟩ := bind_e hf
  refine g_calli (vs := [.int x1]) (rest := []) C hX hT (A_new hA0) (Cut.all (D_nd hT.2.1) ((wC_fst d a ja _).trans (wC_fst d a ja t0).symm)) (Ro := (fun P => JAt d ja j P ∧ RAt d (a 3) r P)) ⟨hJ.step hT.2.2 (A_full hA0 hT.2.2.1), hR.2.step hT.2.2 (A_full hA0 hT.2.2.1)⟩ (fun sz => mX0_isBeat l D d sd a ja N j r  t0 x1 _ h_2 sz) (cwV 1 C.2.2.2.2 (lw_V q903 q905 qs27 q120 q906) rfl rfl rfl hdX0_isBeat ⟨Nat.le_of_ble_eq_true rfl, Nat.le_of_ble_eq_true rfl⟩) (g_recv hV (hT.atp 0 rfl) (ci := 1) rfl) rfl hl.1 rfl (Nat.le_of_ble_eq_true rfl) dX0_score_2 ⟨Nat.zero_le _, Nat.zero_le _⟩ (fun H locs hT => ?_)
  refine lv_if_eq (tgt := 16) hx hb dX0_score_5 (by decide) (fun hc => ?_) (fun hc => ?_)
  · have hf := ite_t hc hf
    refine lv_iconst (v := -1) hx hb dX0_score_16 (by decide) ?_
    exact f_iret (wC d a ja) hA0 C hT hf hr hlocks dX0_score_17
  · have hf := ite_f hc hf
    refine lv_aload_n hx hb dX0_score_8 rfl (lv_at hl 0 rfl) ?_
    refine lv_iload_n hx hb dX0_score_9 rfl (lv_at hl 2 rfl) ?_
    obtain ⟨w_10, h_10, hf⟩ := bind_e hf
    refine g_calli (vs := [.int x2]) (rest := []) C hX hT (A_new hA0) (Cut.all (D_nd hT.2.1) ((wC_fst d a ja _).trans (wC_fst d a ja w_2.2).symm)) (Ro := (fun P => JAt d ja j P ∧ RAt d (a 3) r P)) ⟨hJ.step hT.2.2 (A_full hA0 hT.2.2.1), hR.2.step hT.2.2 (A_full hA0 hT.2.2.1)⟩ (fun sz => mX0_isRoad l D d sd a ja N j r  w_2.2 x2 _ h_10 sz) (cwV 1 C.2.2.2.2 (lw_V q890 q892 qs26 q120 q893) rfl rfl rfl hdX0_isRoad ⟨Nat.le_of_ble_eq_true rfl, Nat.le_of_ble_eq_true rfl⟩) (g_recv hV (hT.atp 0 rfl) (ci := 1) rfl) rfl hl.1 rfl (Nat.le_of_ble_eq_true rfl) dX0_score_10 ⟨Nat.zero_le _, Nat.zero_le _⟩ (fun H locs hT => ?_)
    refine lv_if_ne (tgt := 18) hx hb dX0_score_13 (by decide) (fun hc => ?_) (fun hc => ?_)
    · have hf := ite_t hc hf
      refine lv_aload_n hx hb dX0_score_18 rfl (lv_at hl 0 rfl) ?_
      obtain ⟨w_19, h_19, hf⟩ := bind_e hf
      refine g_callv (vs := []) (rest := []) C hX hT (A_new hA0) (Cut.all (D_nd hT.2.1) ((wC_fst d a ja _).trans (wC_fst d a ja w_10.2).symm)) (Ro := (fun P => JAt d ja j P ∧ RAt d (a 3) r P)) ⟨hJ.step hT.2.2 (A_full hA0 hT.2.2.1), hR.2.step hT.2.2 (A_full hA0 hT.2.2.1)⟩ (fun sz => mX0_keeps l D d sd a ja N j r  w_10.2  _ h_19 sz) (cwV 0 C.2.2.2.2 (lw_V q927 q929 qs29 q120 q930) rfl rfl rfl hdX0_keeps ⟨Nat.le_of_ble_eq_true rfl, Nat.le_of_ble_eq_true rfl⟩) (g_recv hV (hT.atp 0 rfl) (ci := 1) rfl) rfl hl.1 rfl (Nat.le_of_ble_eq_true rfl) dX0_score_19 ⟨Nat.zero_le _, Nat.zero_le _⟩ (fun H locs hT => ?_)
      refine lv_aload_n hx hb dX0_score_22 rfl (lv_at hl 0 rfl) ?_
      refine r_get C hV (hT.atp 0 rfl) (ci := 1) rfl in_X0 1 (by decide) q336 rfl dX0_score_23 ?_
      refine r_getN C hV hX.2.1 (hT.ats (i := 0) (by decide) 0 rfl) (ci := 2) rfl in_X2 6 (by decide) q240 rfl dX0_score_26 ?_
      refine lv_iload_n hx hb dX0_score_29 rfl (lv_at hl 1 rfl) ?_
      refine lv_dup2_11 hx hb dX0_score_30 rfl rfl ?_
      obtain ⟨hi, hf⟩ := ix_e hf
      refine r_ild C hV (hT.ats (i := 0) (by decide) 7 rfl) _ hi rfl dX0_score_31 ?_
      refine lv_iconst (v := 1) hx hb dX0_score_32 (by decide) ?_
      refine lv_iload_n hx hb dX0_score_33 rfl (lv_at hl 2 rfl) ?_
      refine lv_ishl hx hb dX0_score_34 ?_
      refine lv_ixor hx hb dX0_score_35 ?_
      obtain ⟨hi, hf⟩ := ix_e hf
      obtain ⟨p0, hp0⟩ := wC_pos (d := d) (a := a) (ja := ja) (c := w_19) (i := 0) (by decide) 7 rfl
      obtain ⟨t_36, et⟩ : ∃ y, y = (csS w_19 0 (ssA (w_19.2.2.2 0) 6 (x1).toNatClampNeg (((w_19.2.2.2 0).1 6 (x1).toNatClampNeg) ^^^ ((1 : Int32) <<< (x2 &&& 31))))) := ⟨_, rfl⟩
      have hf := lett_e et hf
      refine w_ist (ws1 := (wC d a ja t_36)) C hV hT p0 _ hp0 hi rfl (by rw [et]; exact wC_updS hT.2.1 (by decide) _ rfl (sast_6 d (sa a 0) (w_19.2.2.2 0) _ _)) dX0_score_36 (fun H locs hT => ?_)
      refine lv_aload_n hx hb dX0_score_37 rfl (lv_at hl 0 rfl) ?_
      refine r_get C hV (hT.atp 0 rfl) (ci := 1) rfl in_X0 1 (by decide) q336 rfl dX0_score_38 ?_
      refine r_getN C hV hX.2.1 (hT.ats (i := 0) (by decide) 0 rfl) (ci := 2) rfl in_X2 6 (by decide) q240 rfl dX0_score_41 ?_
      refine lv_iload_n hx hb dX0_score_44 rfl (lv_at hl 1 rfl) ?_
      obtain ⟨hi, hf⟩ := ix_e hf
      refine r_ild C hV (hT.ats (i := 0) (by decide) 7 rfl) _ hi rfl dX0_score_45 ?_
      refine lv_iload_n hx hb dX0_score_46 rfl (lv_at hl 2 rfl) ?_
      obtain ⟨w_47, h_47, hf⟩ := bind_e hf
      refine s_calli (vs := [.int ((t_36.2.2.2 0).1 6 (x1).toNatClampNeg), .int x2]) (rest := []) C (A_new hA0) hT (fun sz => mX0_has l N ((t_36.2.2.2 0).1 6 (x1).toNatClampNeg) x2 _ h_47 sz) (va_cwS 2 C.2.2.2.2 (lw_S q952 q953 q120 q954) rfl rfl rfl hdX0_has ⟨Nat.le_of_ble_eq_true rfl, Nat.le_of_ble_eq_true rfl⟩) rfl hl.1 rfl (Nat.le_of_ble_eq_true rfl) dX0_score_47 ⟨Nat.zero_le _, Nat.zero_le _⟩ (fun H locs hT => ?_)
      obtain ⟨w_50, h_50, hf⟩ := bind_e hf
      refine s_calli (vs := [.int w_47]) (rest := []) C (A_new hA0) hT (fun sz => mX0_bit l N w_47 _ h_50 sz) (va_cwS 1 C.2.2.2.2 (lw_S q955 q956 q120 q957) rfl rfl rfl hdX0_bit ⟨Nat.le_of_ble_eq_true rfl, Nat.le_of_ble_eq_true rfl⟩) rfl hl.1 rfl (Nat.le_of_ble_eq_true rfl) dX0_score_50 ⟨Nat.zero_le _, Nat.zero_le _⟩ (fun H locs hT => ?_)
      exact f_iret (wC d a ja) hA0 C hT hf hr hlocks dX0_score_53
    · have hf := ite_f (fun q => q hc) hf
      refine lv_iconst (v := -1) hx hb dX0_score_16 (by decide) ?_
      exact f_iret (wC d a ja) hA0 C hT hf hr hlocks dX0_score_17
def fX0_tune (N : Nat) (j : JS) (r : RS) (t0 : CS) (x1 : Int32) (x2 : Int32) : Option (Int32 × CS) :=
  ((fX0_isRoad N j r  t0 x1).bind fun w_2 => (if w_2.1 = 0 then (some ((-1 : Int32), w_2.2)) else ((fX0_in N (x2).toInt64 (0 : Int64) (11 : Int64)).bind fun w_14 => (if w_14 = 0 then (some ((-1 : Int32), w_2.2)) else (ix x1 6 (if ¬ ((w_2.2.2.2.2 0).1 2 (x1).toNatClampNeg) = x2 then ((fX0_keeps N j r  w_2.2 ).bind fun w_36 => (ix x1 6 (lett ((w_36.2.2.2 0).1 2 (x1).toNatClampNeg) fun x3_48 => (ix x1 6 (lett (csS w_36 0 (ssA (w_36.2.2.2 0) 2 (x1).toNatClampNeg x2)) fun t_58 => (some (x3_48, t_58))))))) else (some ((-1 : Int32), w_2.2))))))))
theorem hdX0_tune : yX0_tune.cls = RX0 ∧ yX0_tune.cls ≠ "java/lang/invoke/MethodHandle" ∧ yX0_tune.cls ≠ "java/lang/invoke/VarHandle" ∧ (parseMethodDescriptor yX0_tune.desc).map (fun d => d.parameters.length) = some 2 := by decide +kernel
set_option maxHeartbeats 4000000 in
theorem mX0_tune (l : Launch) (D : va_G) (d : Nat → ClassId) (sd : Nat) (a : Nat → Nat) (ja : Nat → Nat) (N : Nat) (j : JS) (r : RS) (t0 : CS) (x1 : Int32) (x2 : Int32) (w : Int32 × CS) (hf : fX0_tune N j r t0 x1 x2 = some w) (sz : Nat) : Met l yX0_tune (ws_ yX0_tune cX0_tune 4 (some .int)) (rm_ 3 61) (GPc D d sd [.ref (a 32), .int x1, .int x2] (wC d a ja t0) (fun P => JAt d ja j P ∧ RAt d (a 3) r P) sz) (GQi D w.1 (wC d a ja w.2) (wC d a ja t0) sz) 0 0 (va_A (wC d a ja t0) sz) := by
  refine Met.ofW (cc := cX0_tune) (maxL := 4) (ret := (some .int)) plX0 rfl ?_
  intro p e s m args below meth c s₁ B hml hv
  obtain ⟨C, hX, hR, hT, hr, hlocks, hargs, rfl⟩ := g_enter (own := RX0) B hml rfl hv
  have hx := C.1
  have hb := C.2.1
  have hV := hX.1
  obtain ⟨A, hA0⟩ : ∃ A, A = va_A (wC d a ja t0) s.heap.size := ⟨_, rfl⟩
  rw [← hA0] at hX hR hT
  show W p l e (rm_ 3 61) s m args below meth c s.heap [] 0 0 (MQ below (GQi D w.1 (wC d a ja w.2) (wC d a ja t0) s.heap.size) args s 0 0 (va_A (wC d a ja t0) s.heap.size)) _
  rw [← hA0]
  have hJ := hR.1
  obtain ⟨rmc, rel, rcap, rf, hrl, hrel, hrc, hrg⟩ := hR.2.unpack
  refine W.eq (by rw [hargs]) (t_in (vs := [.ref (a 32), .int x1, .int x2]) (n := 4) (Nat.le_of_ble_eq_true rfl) (fun ls hl => ?_))
  have hl : lv_has ls 4 [(0, .ref (a 32)), (1, .int x1), (2, .int x2)] := hl
  unfold fX0_tune at hf
  refine lv_aload_n hx hb dX0_tune_0 rfl (lv_at hl 0 rfl) ?_
  refine lv_iload_n hx hb dX0_tune_1 rfl (lv_at hl 1 rfl) ?_
  obtain ⟨w_2, h_2, hf⟩ := bind_e hf
  refine g_calli (vs := [.int x1]) (rest := []) C hX hT (A_new hA0) (Cut.all (D_nd hT.2.1) ((wC_fst d a ja _).trans (wC_fst d a ja t0).symm)) (Ro := (fun P => JAt d ja j P ∧ RAt d (a 3) r P)) ⟨hJ.step hT.2.2 (A_full hA0 hT.2.2.1), hR.2.step hT.2.2 (A_full hA0 hT.2.2.1)⟩ (fun sz => mX0_isRoad l D d sd a ja N j r  t0 x1 _ h_2 sz) (cwV 1 C.2.2.2.2 (lw_V q890 q892 qs26 q120 q893) rfl rfl rfl hdX0_isRoad ⟨Nat.le_of_ble_eq_true rfl, Nat.le_of_ble_eq_true rfl⟩) (g_recv hV (hT.atp 0 rfl) (ci := 1) rfl) rfl hl.1 rfl (Nat.le_of_ble_eq_true rfl) dX0_tune_2 ⟨Nat.zero_le _, Nat.zero_le _⟩ (fun H locs hT => ?_)
  refine lv_if_eq (tgt := 33) hx hb dX0_tune_5 (by decide) (fun hc => ?_) (fun hc => ?_)
  · have hf := ite_t hc hf
    refine lv_iconst (v := -1) hx hb dX0_tune_33 (by decide) ?_
    exact f_iret (wC d a ja) hA0 C hT hf hr hlocks dX0_tune_34
  · have hf := ite_f hc hf
    refine lv_iload_n hx hb dX0_tune_8 rfl (lv_at hl 2 rfl) ?_
    refine lv_i2l hx hb dX0_tune_9 rfl ?_
    refine lv_lconst (v := 0) hx hb dX0_tune_10 (by decide) ?_
    refine g_ldc2 (v := 11) C q1045 dX0_tune_11 ?_
    obtain ⟨w_14, h_14, hf⟩ := bind_e hf
    refine s_calli (vs := [.long (x2).toInt64, .long (0 : Int64), .long (11 : Int64)]) (rest := []) C (A_new hA0) hT (fun sz => mX0_in l N (x2).toInt64 (0 : Int64) (11 : Int64) _ h_14 sz) (va_cwS 3 C.2.2.2.2 (lw_S q885 q518 q120 q519) rfl rfl rfl hdX0_in ⟨Nat.le_of_ble_eq_true rfl, Nat.le_of_ble_eq_true rfl⟩) rfl hl.1 rfl (Nat.le_of_ble_eq_true rfl) dX0_tune_14 ⟨Nat.zero_le _, Nat.zero_le _⟩ (fun H locs hT => ?_)
    refine lv_if_eq (tgt := 33) hx hb dX0_tune_17 (by decide) (fun hc => ?_) (fun hc => ?_)
    · have hf := ite_t hc hf
      refine lv_iconst (v := -1) hx hb dX0_tune_33 (by decide) ?_
      exact f_iret (wC d a ja) hA0 C hT hf hr hlocks dX0_tune_34
    · have hf := ite_f hc hf
      refine lv_aload_n hx hb dX0_tune_20 rfl (lv_at hl 0 rfl) ?_
      refine r_get C hV (hT.atp 0 rfl) (ci := 1) rfl in_X0 1 (by decide) q336 rfl dX0_tune_21 ?_
      refine r_getN C hV hX.2.1 (hT.ats (i := 0) (by decide) 0 rfl) (ci := 2) rfl in_X2 2 (by decide) q232 rfl dX0_tune_24 ?_
      refine lv_iload_n hx hb dX0_tune_27 rfl (lv_at hl 1 rfl) ?_
      obtain ⟨hi, hf⟩ := ix_e hf
      refine r_ild C hV (hT.ats (i := 0) (by decide) 3 rfl) _ hi rfl dX0_tune_28 ?_
      refine lv_iload_n hx hb dX0_tune_29 rfl (lv_at hl 2 rfl) ?_
      refine lv_icmp_ne (tgt := 35) hx hb dX0_tune_30 (by decide) (fun hc => ?_) (fun hc => ?_)
      · have hf := ite_t hc hf
        refine lv_aload_n hx hb dX0_tune_35 rfl (lv_at hl 0 rfl) ?_
        obtain ⟨w_36, h_36, hf⟩ := bind_e hf
        refine g_callv (vs := []) (rest := []) C hX hT (A_new hA0) (Cut.all (D_nd hT.2.1) ((wC_fst d a ja _).trans (wC_fst d a ja w_2.2).symm)) (Ro := (fun P => JAt d ja j P ∧ RAt d (a 3) r P)) ⟨hJ.step hT.2.2 (A_full hA0 hT.2.2.1), hR.2.step hT.2.2 (A_full hA0 hT.2.2.1)⟩ (fun sz => mX0_keeps l D d sd a ja N j r  w_2.2  _ h_36 sz) (cwV 0 C.2.2.2.2 (lw_V q927 q929 qs29 q120 q930) rfl rfl rfl hdX0_keeps ⟨Nat.le_of_ble_eq_true rfl, Nat.le_of_ble_eq_true rfl⟩) (g_recv hV (hT.atp 0 rfl) (ci := 1) rfl) rfl hl.1 rfl (Nat.le_of_ble_eq_true rfl) dX0_tune_36 ⟨Nat.zero_le _, Nat.zero_le _⟩ (fun H locs hT => ?_)
        refine lv_aload_n hx hb dX0_tune_39 rfl (lv_at hl 0 rfl) ?_
        refine r_get C hV (hT.atp 0 rfl) (ci := 1) rfl in_X0 1 (by decide) q336 rfl dX0_tune_40 ?_
        refine r_getN C hV hX.2.1 (hT.ats (i := 0) (by decide) 0 rfl) (ci := 2) rfl in_X2 2 (by decide) q232 rfl dX0_tune_43 ?_
        refine lv_iload_n hx hb dX0_tune_46 rfl (lv_at hl 1 rfl) ?_
        obtain ⟨hi, hf⟩ := ix_e hf
        refine r_ild C hV (hT.ats (i := 0) (by decide) 3 rfl) _ hi rfl dX0_tune_47 ?_
        refine lv_topi (fun x3_48 ex => ?_)
        have hf := lett_e ex hf
        refine lv_istore_n (lv' := [(3, .int x3_48), (0, .ref (a 32)), (1, .int x1), (2, .int x2)]) hx hb dX0_tune_48 rfl hl (by decide) rfl (fun ls hl => ?_)
        refine lv_aload_n hx hb dX0_tune_49 rfl (lv_at hl 1 rfl) ?_
        refine r_get C hV (hT.atp 0 rfl) (ci := 1) rfl in_X0 1 (by decide) q336 rfl dX0_tune_50 ?_
        refine r_getN C hV hX.2.1 (hT.ats (i := 0) (by decide) 0 rfl) (ci := 2) rfl in_X2 2 (by decide) q232 rfl dX0_tune_53 ?_
        refine lv_iload_n hx hb dX0_tune_56 rfl (lv_at hl 2 rfl) ?_
        refine lv_iload_n hx hb dX0_tune_57 rfl (lv_at hl 3 rfl) ?_
        obtain ⟨hi, hf⟩ := ix_e hf
        obtain ⟨p0, hp0⟩ := wC_pos (d := d) (a := a) (ja := ja) (c := w_36) (i := 0) (by decide) 3 rfl
        obtain ⟨t_58, et⟩ : ∃ y, y = (csS w_36 0 (ssA (w_36.2.2.2 0) 2 (x1).toNatClampNeg x2)) := ⟨_, rfl⟩
        have hf := lett_e et hf
        refine w_ist (ws1 := (wC d a ja t_58)) C hV hT p0 _ hp0 hi rfl (by rw [et]; exact wC_updS hT.2.1 (by decide) _ rfl (sast_2 d (sa a 0) (w_36.2.2.2 0) _ _)) dX0_tune_58 (fun H locs hT => ?_)
        refine lv_iload_n hx hb dX0_tune_59 rfl (lv_at hl 0 rfl) ?_
        exact f_iret (wC d a ja) hA0 C hT hf hr hlocks dX0_tune_60
      · have hf := ite_f (fun q => q hc) hf
        refine lv_iconst (v := -1) hx hb dX0_tune_33 (by decide) ?_
        exact f_iret (wC d a ja) hA0 C hT hf hr hlocks dX0_tune_34
def fX0_goesTill_B2 (N : Nat) (j : JS) (r : RS) (K : CS → Option (CS)) (kb : CS → Int32 → Int32 → Option (CS)) (t : CS) (x1 : Int32) (x2 : Int32) : Option (CS) :=
  (if x1 ≤ x2 then (K t) else ((fX0_goesOn N j r 1 t ).bind fun w_12 => (lett (x2 + (1 : Int32)) fun x2_16 => (kb w_12.2 x1 x2_16))))
def fX0_goesTill_L2 (N : Nat) (j : JS) (r : RS) (K : CS → Option (CS)) : Nat → CS → Int32 → Int32 → Option (CS)
  | 0 => fun _ _ _ => none
  | n + 1 => fun t x1 x2 => fX0_goesTill_B2 N j r K (fX0_goesTill_L2 N j r K n) t x1 x2
def fX0_goesTill (N : Nat) (j : JS) (r : RS) (t0 : CS) (x1 : Int32) : Option (CS) :=
  (fX0_goesTill_L2 N j r (fun t => (some t)) N t0 x1 (0 : Int32))
theorem hdX0_goesTill : yX0_goesTill.cls = RX0 ∧ yX0_goesTill.cls ≠ "java/lang/invoke/MethodHandle" ∧ yX0_goesTill.cls ≠ "java/lang/invoke/VarHandle" ∧ (parseMethodDescriptor yX0_goesTill.desc).map (fun d => d.parameters.length) = some 1 := by decide +kernel
set_option maxHeartbeats 4000000 in
theorem mX0_goesTill (l : Launch) (D : va_G) (d : Nat → ClassId) (sd : Nat) (a : Nat → Nat) (ja : Nat → Nat) (N : Nat) (j : JS) (r : RS) (t0 : CS) (x1 : Int32) (w : CS) (hf : fX0_goesTill N j r t0 x1 = some w) (sz : Nat) : Met l yX0_goesTill (ws_ yX0_goesTill cX0_goesTill 3 none) (rm_ 264 8092) (GPc D d sd [.ref (a 32), .int x1] (wC d a ja t0) (fun P => JAt d ja j P ∧ RAt d (a 3) r P) sz) (GQv D (wC d a ja w) (wC d a ja t0) sz) 0 0 (va_A (wC d a ja t0) sz) := by
  refine Met.ofW (cc := cX0_goesTill) (maxL := 3) (ret := none) plX0 rfl ?_
  intro p e s m args below meth c s₁ B hml hv
  obtain ⟨C, hX, hR, hT, hr, hlocks, hargs, rfl⟩ := g_enter (own := RX0) B hml rfl hv
  have hx := C.1
  have hb := C.2.1
  have hV := hX.1
  obtain ⟨A, hA0⟩ : ∃ A, A = va_A (wC d a ja t0) s.heap.size := ⟨_, rfl⟩
  rw [← hA0] at hX hR hT
  show W p l e (rm_ 264 8092) s m args below meth c s.heap [] 0 0 (MQ below (GQv D (wC d a ja w) (wC d a ja t0) s.heap.size) args s 0 0 (va_A (wC d a ja t0) s.heap.size)) _
  rw [← hA0]
  have hJ := hR.1
  obtain ⟨rmc, rel, rcap, rf, hrl, hrel, hrc, hrg⟩ := hR.2.unpack
  have hL2 : ∀ (K : CS → Option (CS)), (∀ (t : CS) (H : Heap) (locs : List Loc) (ls : Array Slot), TH D A s.heap (wC d a ja t) H locs → lv_has ls 3 [] → K t = some w → W p l e (rm_ 264 8092) s m args below meth c H locs 0 0 (MQ below (GQv D (wC d a ja w) (wC d a ja t0) s.heap.size) args s 0 0 A) (F0 m 22 ls [])) → ∀ (n : Nat) (t : CS) (x1 : Int32) (x2 : Int32) (H : Heap) (locs : List Loc) (ls : Array Slot), TH D A s.heap (wC d a ja t) H locs → lv_has ls 3 [(0, .ref (a 32)), (1, .int x1), (2, .int x2)] → fX0_goesTill_L2 N j r K n t x1 x2 = some w → W p l e (rm_ 264 8092) s m args below meth c H locs 0 0 (MQ below (GQv D (wC d a ja w) (wC d a ja t0) s.heap.size) args s 0 0 A) (F0 m 2 ls []) := by
    intro K hE n
    induction n with
    | zero =>
      intro t x1 x2 H locs ls hT hl hf
      cases hf
    | succ n ih =>
      intro t x1 x2 H locs ls hT hl hf
      replace hf : fX0_goesTill_B2 N j r K (fX0_goesTill_L2 N j r K n) t x1 x2 = some w := hf
      unfold fX0_goesTill_B2 at hf
      refine lv_iload_n hx hb dX0_goesTill_2 rfl (lv_at hl 2 rfl) ?_
      refine lv_iload_n hx hb dX0_goesTill_3 rfl (lv_at hl 1 rfl) ?_
      refine lv_icmp_ge (tgt := 22) hx hb dX0_goesTill_4 (by decide) (fun hc => ?_) (fun hc => ?_)
      · have hf := ite_t hc hf
        exact hE t _ _ _ hT (lv_sub hl [] rfl) hf
      · have hf := ite_f hc hf
        refine lv_aload_n hx hb dX0_goesTill_7 rfl (lv_at hl 0 rfl) ?_
        refine lv_aload_n hx hb dX0_goesTill_8 rfl (lv_at hl 0 rfl) ?_
        refine r_get C hV (hT.atp 0 rfl) (ci := 1) rfl in_X0 2 (by decide) q337 rfl dX0_goesTill_9 ?_
        obtain ⟨w_12, h_12, hf⟩ := bind_e hf
        refine g_calli (vs := [.ref (sa a 1 0)]) (rest := []) C hX hT (A_new hA0) (Cut.all (D_nd hT.2.1) ((wC_fst d a ja _).trans (wC_fst d a ja t).symm)) (Ro := (fun P => JAt d ja j P ∧ RAt d (a 3) r P)) ⟨hJ.step hT.2.2 (A_full hA0 hT.2.2.1), hR.2.step hT.2.2 (A_full hA0 hT.2.2.1)⟩ (fun sz => mX0_goesOn l D d sd a ja N j r 1 t  _ h_12 (by decide) sz) (cwV 1 C.2.2.2.2 (lw_V q932 q934 qs30 q120 q935) rfl rfl rfl hdX0_goesOn ⟨Nat.le_of_ble_eq_true rfl, Nat.le_of_ble_eq_true rfl⟩) (g_recv hV (hT.atp 0 rfl) (ci := 1) rfl) rfl hl.1 rfl (Nat.le_of_ble_eq_true rfl) dX0_goesTill_12 ⟨Nat.zero_le _, Nat.zero_le _⟩ (fun H locs hT => ?_)
        refine lv_pop hx hb dX0_goesTill_15 rfl ?_
        obtain ⟨x2_16, ex⟩ : ∃ y : Int32, y = (x2 + (1 : Int32)) := ⟨_, rfl⟩
        have hf := lett_e ex hf
        refine lv_iinc (v := x2_16) (lv' := [(2, .int x2_16), (0, .ref (a 32)), (1, .int x1)]) hx hb dX0_goesTill_16 hl (k := 2) rfl (by rw [ex]; rfl) (by decide) rfl (fun ls hl => ?_)
        refine lv_goto (tgt := 2) hx hb dX0_goesTill_19 (by decide) ?_
        exact ih w_12.2 x1 x2_16 _ _ _ hT (lv_sub hl [1, 2, 0] rfl) hf
  refine W.eq (by rw [hargs]) (t_in (vs := [.ref (a 32), .int x1]) (n := 3) (Nat.le_of_ble_eq_true rfl) (fun ls hl => ?_))
  have hl : lv_has ls 3 [(0, .ref (a 32)), (1, .int x1)] := hl
  unfold fX0_goesTill at hf
  refine lv_iconst (v := 0) hx hb dX0_goesTill_0 (by decide) ?_
  refine lv_istore_n (lv' := [(2, .int (0 : Int32)), (0, .ref (a 32)), (1, .int x1)]) hx hb dX0_goesTill_1 rfl hl (by decide) rfl (fun ls hl => ?_)
  refine hL2 _ (fun t H locs ls hT hl hf => ?_) N t0 x1 (0 : Int32) _ _ _ hT (lv_sub hl [1, 2, 0] rfl) hf
  exact f_vret (wC d a ja) hA0 C hT hf hr hlocks dX0_goesTill_22
def fX0_ahead_J32 (N : Nat) (j : JS) (r : RS) (t : CS) (x1 : Int32) (x2 : Int32) (x3 : Int32) : Option (Int32 × CS) :=
  ((fX0_in N (x2).toInt64 (0 : Int64) (100 : Int64)).bind fun w_38 => (if ¬ w_38 = 0 then ((fX2_copyFrom N (t.2.2.2 0) (t.2.2.2 1) ).bind fun w_56 => (lett (csS t 1 w_56) fun t_56 => ((fX0_goesTill N j r  t_56 x2).bind fun w_61 => (if ¬ x3 = 0 then (if ¬ x3 = (1 : Int32) then (some (((w_61.2.2.2 1).2 7), w_61)) else (ix x1 6 (some (((w_61.2.2.2 1).1 3 (x1).toNatClampNeg), w_61)))) else (ix x1 6 (some (((w_61.2.2.2 1).1 0 (x1).toNatClampNeg), w_61))))))) else (some ((-10000 : Int32), t))))
def fX0_ahead (N : Nat) (j : JS) (r : RS) (t0 : CS) (x1 : Int32) (x2 : Int32) (x3 : Int32) : Option (Int32 × CS) :=
  ((fX0_isJunction N j r  t0 ).bind fun w_1 => (if w_1.1 = 0 then (some ((-10000 : Int32), w_1.2)) else ((fX0_in N (x3).toInt64 (0 : Int64) (2 : Int64)).bind fun w_13 => (if w_13 = 0 then (some ((-10000 : Int32), w_1.2)) else (if (2 : Int32) ≤ x3 then (fX0_ahead_J32 N j r w_1.2 x1 x2 x3) else ((fX0_isRoad N j r  w_1.2 x1).bind fun w_26 => (if w_26.1 = 0 then (some ((-10000 : Int32), w_26.2)) else (fX0_ahead_J32 N j r w_26.2 x1 x2 x3))))))))
theorem hdX0_ahead : yX0_ahead.cls = RX0 ∧ yX0_ahead.cls ≠ "java/lang/invoke/MethodHandle" ∧ yX0_ahead.cls ≠ "java/lang/invoke/VarHandle" ∧ (parseMethodDescriptor yX0_ahead.desc).map (fun d => d.parameters.length) = some 3 := by decide +kernel
set_option maxHeartbeats 4000000 in
theorem mX0_ahead (l : Launch) (D : va_G) (d : Nat → ClassId) (sd : Nat) (a : Nat → Nat) (ja : Nat → Nat) (N : Nat) (j : JS) (r : RS) (t0 : CS) (x1 : Int32) (x2 : Int32) (x3 : Int32) (w : Int32 × CS) (hf : fX0_ahead N j r t0 x1 x2 x3 = some w) (sz : Nat) : Met l yX0_ahead (ws_ yX0_ahead cX0_ahead 4 (some .int)) (rm_ 265 8114) (GPc D d sd [.ref (a 32), .int x1, .int x2, .int x3] (wC d a ja t0) (fun P => JAt d ja j P ∧ RAt d (a 3) r P) sz) (GQi D w.1 (wC d a ja w.2) (wC d a ja t0) sz) 0 0 (va_A (wC d a ja t0) sz) := by
  refine Met.ofW (cc := cX0_ahead) (maxL := 4) (ret := (some .int)) plX0 rfl ?_
  intro p e s m args below meth c s₁ B hml hv
  obtain ⟨C, hX, hR, hT, hr, hlocks, hargs, rfl⟩ := g_enter (own := RX0) B hml rfl hv
  have hx := C.1
  have hb := C.2.1
  have hV := hX.1
  obtain ⟨A, hA0⟩ : ∃ A, A = va_A (wC d a ja t0) s.heap.size := ⟨_, rfl⟩
  rw [← hA0] at hX hR hT
  show W p l e (rm_ 265 8114) s m args below meth c s.heap [] 0 0 (MQ below (GQi D w.1 (wC d a ja w.2) (wC d a ja t0) s.heap.size) args s 0 0 (va_A (wC d a ja t0) s.heap.size)) _
  rw [← hA0]
  have hJ := hR.1
  obtain ⟨rmc, rel, rcap, rf, hrl, hrel, hrc, hrg⟩ := hR.2.unpack
  have hJ32 : ∀ (t : CS) (x1 : Int32) (x2 : Int32) (x3 : Int32) (H : Heap) (locs : List Loc) (ls : Array Slot), TH D A s.heap (wC d a ja t) H locs → lv_has ls 4 [(0, .ref (a 32)), (1, .int x1), (2, .int x2), (3, .int x3)] → fX0_ahead_J32 N j r t x1 x2 x3 = some w → W p l e (rm_ 265 8114) s m args below meth c H locs 0 0 (MQ below (GQi D w.1 (wC d a ja w.2) (wC d a ja t0) s.heap.size) args s 0 0 A) (F0 m 32 ls []) := by
    intro t x1 x2 x3 H locs ls hT hl hf
    unfold fX0_ahead_J32 at hf
    refine lv_iload_n hx hb dX0_ahead_32 rfl (lv_at hl 2 rfl) ?_
    refine lv_i2l hx hb dX0_ahead_33 rfl ?_
    refine lv_lconst (v := 0) hx hb dX0_ahead_34 (by decide) ?_
    refine g_ldc2 (v := 100) C q1051 dX0_ahead_35 ?_
    obtain ⟨w_38, h_38, hf⟩ := bind_e hf
    refine s_calli (vs := [.long (x2).toInt64, .long (0 : Int64), .long (100 : Int64)]) (rest := []) C (A_new hA0) hT (fun sz => mX0_in l N (x2).toInt64 (0 : Int64) (100 : Int64) _ h_38 sz) (va_cwS 3 C.2.2.2.2 (lw_S q885 q518 q120 q519) rfl rfl rfl hdX0_in ⟨Nat.le_of_ble_eq_true rfl, Nat.le_of_ble_eq_true rfl⟩) rfl hl.1 rfl (Nat.le_of_ble_eq_true rfl) dX0_ahead_38 ⟨Nat.zero_le _, Nat.zero_le _⟩ (fun H locs hT => ?_)
    refine lv_if_ne (tgt := 48) hx hb dX0_ahead_41 (by decide) (fun hc => ?_) (fun hc => ?_)
    · have hf := ite_t hc hf
      refine lv_aload_n hx hb dX0_ahead_48 rfl (lv_at hl 0 rfl) ?_
      refine r_get C hV (hT.atp 0 rfl) (ci := 1) rfl in_X0 2 (by decide) q337 rfl dX0_ahead_49 ?_
      refine lv_aload_n hx hb dX0_ahead_52 rfl (lv_at hl 0 rfl) ?_
      refine r_get C hV (hT.atp 0 rfl) (ci := 1) rfl in_X0 1 (by decide) q336 rfl dX0_ahead_53 ?_
      obtain ⟨w_56, h_56, hf⟩ := bind_e hf
      refine g_callv (vs := [.ref (sa a 0 0)]) (rest := []) C hX hT (A_new hA0) (wC_cutS hT.2.1 (by decide) _) (wC_frz hT (by decide) (by decide) ((by decide)) (t.2.2.2 1)) (fun sz => mX2_copyFrom l D d sd (sa a 1) (sa a 0) N (t.2.2.2 0) (t.2.2.2 1)  _ h_56 sz) (cwV 1 C.2.2.2.2 (lw_V q915 q916 q917 q125 q918) rfl rfl rfl hdX2_copyFrom ⟨Nat.le_of_ble_eq_true rfl, Nat.le_of_ble_eq_true rfl⟩) (g_recv hV (hT.ats (i := 1) (by decide) 0 rfl) (ci := 2) rfl) rfl hl.1 rfl (Nat.le_of_ble_eq_true rfl) dX0_ahead_56 ⟨Nat.zero_le _, Nat.zero_le _⟩ (fun H locs hT => ?_)
      obtain ⟨t_56, et⟩ : ∃ y, y = (csS t 1 w_56) := ⟨_, rfl⟩
      rw [← et] at hT
      have hf := lett_e et hf
      refine lv_aload_n hx hb dX0_ahead_59 rfl (lv_at hl 0 rfl) ?_
      refine lv_iload_n hx hb dX0_ahead_60 rfl (lv_at hl 2 rfl) ?_
      obtain ⟨w_61, h_61, hf⟩ := bind_e hf
      refine g_callv (vs := [.int x2]) (rest := []) C hX hT (A_new hA0) (Cut.all (D_nd hT.2.1) ((wC_fst d a ja _).trans (wC_fst d a ja t_56).symm)) (Ro := (fun P => JAt d ja j P ∧ RAt d (a 3) r P)) ⟨hJ.step hT.2.2 (A_full hA0 hT.2.2.1), hR.2.step hT.2.2 (A_full hA0 hT.2.2.1)⟩ (fun sz => mX0_goesTill l D d sd a ja N j r  t_56 x2 _ h_61 sz) (cwV 1 C.2.2.2.2 (lw_V q1052 q1054 qs34 q120 q1055) rfl rfl rfl hdX0_goesTill ⟨Nat.le_of_ble_eq_true rfl, Nat.le_of_ble_eq_true rfl⟩) (g_recv hV (hT.atp 0 rfl) (ci := 1) rfl) rfl hl.1 rfl (Nat.le_of_ble_eq_true rfl) dX0_ahead_61 ⟨Nat.zero_le _, Nat.zero_le _⟩ (fun H locs hT => ?_)
      refine lv_iload_n hx hb dX0_ahead_64 rfl (lv_at hl 3 rfl) ?_
      refine lv_if_ne (tgt := 80) hx hb dX0_ahead_65 (by decide) (fun hc => ?_) (fun hc => ?_)
      · have hf := ite_t hc hf
        refine lv_iload_n hx hb dX0_ahead_80 rfl (lv_at hl 3 rfl) ?_
        refine lv_iconst (v := 1) hx hb dX0_ahead_81 (by decide) ?_
        refine lv_icmp_ne (tgt := 97) hx hb dX0_ahead_82 (by decide) (fun hc => ?_) (fun hc => ?_)
        · have hf := ite_t hc hf
          refine lv_aload_n hx hb dX0_ahead_97 rfl (lv_at hl 0 rfl) ?_
          refine r_get C hV (hT.atp 0 rfl) (ci := 1) rfl in_X0 2 (by decide) q337 rfl dX0_ahead_98 ?_
          refine r_getN C hV hX.2.1 (hT.ats (i := 1) (by decide) 0 rfl) (ci := 2) rfl in_X2 7 (by decide) q242 rfl dX0_ahead_101 ?_
          exact f_iret (wC d a ja) hA0 C hT hf hr hlocks dX0_ahead_104
        · have hf := ite_f (fun q => q hc) hf
          refine lv_aload_n hx hb dX0_ahead_85 rfl (lv_at hl 0 rfl) ?_
          refine r_get C hV (hT.atp 0 rfl) (ci := 1) rfl in_X0 2 (by decide) q337 rfl dX0_ahead_86 ?_
          refine r_getN C hV hX.2.1 (hT.ats (i := 1) (by decide) 0 rfl) (ci := 2) rfl in_X2 3 (by decide) q234 rfl dX0_ahead_89 ?_
          refine lv_iload_n hx hb dX0_ahead_92 rfl (lv_at hl 1 rfl) ?_
          obtain ⟨hi, hf⟩ := ix_e hf
          refine r_ild C hV (hT.ats (i := 1) (by decide) 4 rfl) _ hi rfl dX0_ahead_93 ?_
          refine lv_goto (tgt := 104) hx hb dX0_ahead_94 (by decide) ?_
          exact f_iret (wC d a ja) hA0 C hT hf hr hlocks dX0_ahead_104
      · have hf := ite_f (fun q => q hc) hf
        refine lv_aload_n hx hb dX0_ahead_68 rfl (lv_at hl 0 rfl) ?_
        refine r_get C hV (hT.atp 0 rfl) (ci := 1) rfl in_X0 2 (by decide) q337 rfl dX0_ahead_69 ?_
        refine r_getN C hV hX.2.1 (hT.ats (i := 1) (by decide) 0 rfl) (ci := 2) rfl in_X2 0 (by decide) q228 rfl dX0_ahead_72 ?_
        refine lv_iload_n hx hb dX0_ahead_75 rfl (lv_at hl 1 rfl) ?_
        obtain ⟨hi, hf⟩ := ix_e hf
        refine r_ild C hV (hT.ats (i := 1) (by decide) 1 rfl) _ hi rfl dX0_ahead_76 ?_
        refine lv_goto (tgt := 104) hx hb dX0_ahead_77 (by decide) ?_
        exact f_iret (wC d a ja) hA0 C hT hf hr hlocks dX0_ahead_104
    · have hf := ite_f (fun q => q hc) hf
      refine lv_sipush (v := -10000) hx hb dX0_ahead_44 (by decide) ?_
      exact f_iret (wC d a ja) hA0 C hT hf hr hlocks dX0_ahead_47
  refine W.eq (by rw [hargs]) (t_in (vs := [.ref (a 32), .int x1, .int x2, .int x3]) (n := 4) (Nat.le_of_ble_eq_true rfl) (fun ls hl => ?_))
  have hl : lv_has ls 4 [(0, .ref (a 32)), (1, .int x1), (2, .int x2), (3, .int x3)] := hl
  unfold fX0_ahead at hf
  refine lv_aload_n hx hb dX0_ahead_0 rfl (lv_at hl 0 rfl) ?_
  obtain ⟨w_1, h_1, hf⟩ := bind_e hf
  refine g_calli (vs := []) (rest := []) C hX hT (A_new hA0) (Cut.all (D_nd hT.2.1) ((wC_fst d a ja _).trans (wC_fst d a ja t0).symm)) (Ro := (fun P => JAt d ja j P ∧ RAt d (a 3) r P)) ⟨hJ.step hT.2.2 (A_full hA0 hT.2.2.1), hR.2.step hT.2.2 (A_full hA0 hT.2.2.1)⟩ (fun sz => mX0_isJunction l D d sd a ja N j r  t0  _ h_1 sz) (cwV 0 C.2.2.2.2 (lw_V q923 q925 qs28 q120 q926) rfl rfl rfl hdX0_isJunction ⟨Nat.le_of_ble_eq_true rfl, Nat.le_of_ble_eq_true rfl⟩) (g_recv hV (hT.atp 0 rfl) (ci := 1) rfl) rfl hl.1 rfl (Nat.le_of_ble_eq_true rfl) dX0_ahead_1 ⟨Nat.zero_le _, Nat.zero_le _⟩ (fun H locs hT => ?_)
  refine lv_if_eq (tgt := 44) hx hb dX0_ahead_4 (by decide) (fun hc => ?_) (fun hc => ?_)
  · have hf := ite_t hc hf
    refine lv_sipush (v := -10000) hx hb dX0_ahead_44 (by decide) ?_
    exact f_iret (wC d a ja) hA0 C hT hf hr hlocks dX0_ahead_47
  · have hf := ite_f hc hf
    refine lv_iload_n hx hb dX0_ahead_7 rfl (lv_at hl 3 rfl) ?_
    refine lv_i2l hx hb dX0_ahead_8 rfl ?_
    refine lv_lconst (v := 0) hx hb dX0_ahead_9 (by decide) ?_
    refine g_ldc2 (v := 2) C q1050 dX0_ahead_10 ?_
    obtain ⟨w_13, h_13, hf⟩ := bind_e hf
    refine s_calli (vs := [.long (x3).toInt64, .long (0 : Int64), .long (2 : Int64)]) (rest := []) C (A_new hA0) hT (fun sz => mX0_in l N (x3).toInt64 (0 : Int64) (2 : Int64) _ h_13 sz) (va_cwS 3 C.2.2.2.2 (lw_S q885 q518 q120 q519) rfl rfl rfl hdX0_in ⟨Nat.le_of_ble_eq_true rfl, Nat.le_of_ble_eq_true rfl⟩) rfl hl.1 rfl (Nat.le_of_ble_eq_true rfl) dX0_ahead_13 ⟨Nat.zero_le _, Nat.zero_le _⟩ (fun H locs hT => ?_)
    refine lv_if_eq (tgt := 44) hx hb dX0_ahead_16 (by decide) (fun hc => ?_) (fun hc => ?_)
    · have hf := ite_t hc hf
      refine lv_sipush (v := -10000) hx hb dX0_ahead_44 (by decide) ?_
      exact f_iret (wC d a ja) hA0 C hT hf hr hlocks dX0_ahead_47
    · have hf := ite_f hc hf
      refine lv_iload_n hx hb dX0_ahead_19 rfl (lv_at hl 3 rfl) ?_
      refine lv_iconst (v := 2) hx hb dX0_ahead_20 (by decide) ?_
      refine lv_icmp_ge (tgt := 32) hx hb dX0_ahead_21 (by decide) (fun hc => ?_) (fun hc => ?_)
      · have hf := ite_t hc hf
        exact hJ32 w_1.2 x1 x2 x3 _ _ _ hT hl hf
      · have hf := ite_f hc hf
        refine lv_aload_n hx hb dX0_ahead_24 rfl (lv_at hl 0 rfl) ?_
        refine lv_iload_n hx hb dX0_ahead_25 rfl (lv_at hl 1 rfl) ?_
        obtain ⟨w_26, h_26, hf⟩ := bind_e hf
        refine g_calli (vs := [.int x1]) (rest := []) C hX hT (A_new hA0) (Cut.all (D_nd hT.2.1) ((wC_fst d a ja _).trans (wC_fst d a ja w_1.2).symm)) (Ro := (fun P => JAt d ja j P ∧ RAt d (a 3) r P)) ⟨hJ.step hT.2.2 (A_full hA0 hT.2.2.1), hR.2.step hT.2.2 (A_full hA0 hT.2.2.1)⟩ (fun sz => mX0_isRoad l D d sd a ja N j r  w_1.2 x1 _ h_26 sz) (cwV 1 C.2.2.2.2 (lw_V q890 q892 qs26 q120 q893) rfl rfl rfl hdX0_isRoad ⟨Nat.le_of_ble_eq_true rfl, Nat.le_of_ble_eq_true rfl⟩) (g_recv hV (hT.atp 0 rfl) (ci := 1) rfl) rfl hl.1 rfl (Nat.le_of_ble_eq_true rfl) dX0_ahead_26 ⟨Nat.zero_le _, Nat.zero_le _⟩ (fun H locs hT => ?_)
        refine lv_if_eq (tgt := 44) hx hb dX0_ahead_29 (by decide) (fun hc => ?_) (fun hc => ?_)
        · have hf := ite_t hc hf
          refine lv_sipush (v := -10000) hx hb dX0_ahead_44 (by decide) ?_
          exact f_iret (wC d a ja) hA0 C hT hf hr hlocks dX0_ahead_47
        · have hf := ite_f hc hf
          exact hJ32 w_26.2 x1 x2 x3 _ _ _ hT hl hf
def fX0_clear_B23 (N : Nat) (j : JS) (r : RS) (K : CS → Option (Int32 × CS)) (kb : CS → Int32 → Int32 → Option (Int32 × CS)) (t : CS) (x1 : Int32) (x2 : Int32) : Option (Int32 × CS) :=
  (if (200 : Int32) ≤ x2 then (K t) else ((fX0_goesOn N j r 1 t ).bind fun w_35 => (ix x1 6 (if ¬ ((w_35.2.2.2.2 1).1 0 (x1).toNatClampNeg) = 0 then (lett (x2 + (1 : Int32)) fun x2_61 => (kb w_35.2 x1 x2_61)) else (some ((((w_35.2.2.2.2 1).2 8) - (1 : Int32)), w_35.2))))))
def fX0_clear_L23 (N : Nat) (j : JS) (r : RS) (K : CS → Option (Int32 × CS)) : Nat → CS → Int32 → Int32 → Option (Int32 × CS)
  | 0 => fun _ _ _ => none
  | n + 1 => fun t x1 x2 => fX0_clear_B23 N j r K (fX0_clear_L23 N j r K n) t x1 x2
def fX0_clear (N : Nat) (j : JS) (r : RS) (t0 : CS) (x1 : Int32) : Option (Int32 × CS) :=
  ((fX0_isRoad N j r  t0 x1).bind fun w_2 => (if ¬ w_2.1 = 0 then ((fX2_copyFrom N (w_2.2.2.2.2 0) (w_2.2.2.2.2 1) ).bind fun w_18 => (lett (csS w_2.2 1 w_18) fun t_18 => (fX0_clear_L23 N j r (fun t => (some ((-2 : Int32), t))) N t_18 x1 (0 : Int32)))) else (some ((-1 : Int32), w_2.2))))
theorem hdX0_clear : yX0_clear.cls = RX0 ∧ yX0_clear.cls ≠ "java/lang/invoke/MethodHandle" ∧ yX0_clear.cls ≠ "java/lang/invoke/VarHandle" ∧ (parseMethodDescriptor yX0_clear.desc).map (fun d => d.parameters.length) = some 1 := by decide +kernel
set_option maxHeartbeats 4000000 in
theorem mX0_clear (l : Launch) (D : va_G) (d : Nat → ClassId) (sd : Nat) (a : Nat → Nat) (ja : Nat → Nat) (N : Nat) (j : JS) (r : RS) (t0 : CS) (x1 : Int32) (w : Int32 × CS) (hf : fX0_clear N j r t0 x1 = some w) (sz : Nat) : Met l yX0_clear (ws_ yX0_clear cX0_clear 3 (some .int)) (rm_ 264 8092) (GPc D d sd [.ref (a 32), .int x1] (wC d a ja t0) (fun P => JAt d ja j P ∧ RAt d (a 3) r P) sz) (GQi D w.1 (wC d a ja w.2) (wC d a ja t0) sz) 0 0 (va_A (wC d a ja t0) sz) := by
  refine Met.ofW (cc := cX0_clear) (maxL := 3) (ret := (some .int)) plX0 rfl ?_
  intro p e s m args below meth c s₁ B hml hv
  obtain ⟨C, hX, hR, hT, hr, hlocks, hargs, rfl⟩ := g_enter (own := RX0) B hml rfl hv
  have hx := C.1
  have hb := C.2.1
  have hV := hX.1
  obtain ⟨A, hA0⟩ : ∃ A, A = va_A (wC d a ja t0) s.heap.size := ⟨_, rfl⟩
  rw [← hA0] at hX hR hT
  show W p l e (rm_ 264 8092) s m args below meth c s.heap [] 0 0 (MQ below (GQi D w.1 (wC d a ja w.2) (wC d a ja t0) s.heap.size) args s 0 0 (va_A (wC d a ja t0) s.heap.size)) _
  rw [← hA0]
  have hJ := hR.1
  obtain ⟨rmc, rel, rcap, rf, hrl, hrel, hrc, hrg⟩ := hR.2.unpack
  have hL23 : ∀ (K : CS → Option (Int32 × CS)), (∀ (t : CS) (H : Heap) (locs : List Loc) (ls : Array Slot), TH D A s.heap (wC d a ja t) H locs → lv_has ls 3 [] → K t = some w → W p l e (rm_ 264 8092) s m args below meth c H locs 0 0 (MQ below (GQi D w.1 (wC d a ja w.2) (wC d a ja t0) s.heap.size) args s 0 0 A) (F0 m 67 ls [])) → ∀ (n : Nat) (t : CS) (x1 : Int32) (x2 : Int32) (H : Heap) (locs : List Loc) (ls : Array Slot), TH D A s.heap (wC d a ja t) H locs → lv_has ls 3 [(0, .ref (a 32)), (1, .int x1), (2, .int x2)] → fX0_clear_L23 N j r K n t x1 x2 = some w → W p l e (rm_ 264 8092) s m args below meth c H locs 0 0 (MQ below (GQi D w.1 (wC d a ja w.2) (wC d a ja t0) s.heap.size) args s 0 0 A) (F0 m 23 ls []) := by
    intro K hE n
    induction n with
    | zero =>
      intro t x1 x2 H locs ls hT hl hf
      cases hf
    | succ n ih =>
      intro t x1 x2 H locs ls hT hl hf
      replace hf : fX0_clear_B23 N j r K (fX0_clear_L23 N j r K n) t x1 x2 = some w := hf
      unfold fX0_clear_B23 at hf
      refine lv_iload_n hx hb dX0_clear_23 rfl (lv_at hl 2 rfl) ?_
      refine lv_sipush (v := 200) hx hb dX0_clear_24 (by decide) ?_
      refine lv_icmp_ge (tgt := 67) hx hb dX0_clear_27 (by decide) (fun hc => ?_) (fun hc => ?_)
      · have hf := ite_t hc hf
        exact hE t _ _ _ hT (lv_sub hl [] rfl) hf
      · have hf := ite_f hc hf
        refine lv_aload_n hx hb dX0_clear_30 rfl (lv_at hl 0 rfl) ?_
        refine lv_aload_n hx hb dX0_clear_31 rfl (lv_at hl 0 rfl) ?_
        refine r_get C hV (hT.atp 0 rfl) (ci := 1) rfl in_X0 2 (by decide) q337 rfl dX0_clear_32 ?_
        obtain ⟨w_35, h_35, hf⟩ := bind_e hf
        refine g_calli (vs := [.ref (sa a 1 0)]) (rest := []) C hX hT (A_new hA0) (Cut.all (D_nd hT.2.1) ((wC_fst d a ja _).trans (wC_fst d a ja t).symm)) (Ro := (fun P => JAt d ja j P ∧ RAt d (a 3) r P)) ⟨hJ.step hT.2.2 (A_full hA0 hT.2.2.1), hR.2.step hT.2.2 (A_full hA0 hT.2.2.1)⟩ (fun sz => mX0_goesOn l D d sd a ja N j r 1 t  _ h_35 (by decide) sz) (cwV 1 C.2.2.2.2 (lw_V q932 q934 qs30 q120 q935) rfl rfl rfl hdX0_goesOn ⟨Nat.le_of_ble_eq_true rfl, Nat.le_of_ble_eq_true rfl⟩) (g_recv hV (hT.atp 0 rfl) (ci := 1) rfl) rfl hl.1 rfl (Nat.le_of_ble_eq_true rfl) dX0_clear_35 ⟨Nat.zero_le _, Nat.zero_le _⟩ (fun H locs hT => ?_)
        refine lv_pop hx hb dX0_clear_38 rfl ?_
        refine lv_aload_n hx hb dX0_clear_39 rfl (lv_at hl 0 rfl) ?_
        refine r_get C hV (hT.atp 0 rfl) (ci := 1) rfl in_X0 2 (by decide) q337 rfl dX0_clear_40 ?_
        refine r_getN C hV hX.2.1 (hT.ats (i := 1) (by decide) 0 rfl) (ci := 2) rfl in_X2 0 (by decide) q228 rfl dX0_clear_43 ?_
        refine lv_iload_n hx hb dX0_clear_46 rfl (lv_at hl 1 rfl) ?_
        obtain ⟨hi, hf⟩ := ix_e hf
        refine r_ild C hV (hT.ats (i := 1) (by decide) 1 rfl) _ hi rfl dX0_clear_47 ?_
        refine lv_if_ne (tgt := 61) hx hb dX0_clear_48 (by decide) (fun hc => ?_) (fun hc => ?_)
        · have hf := ite_t hc hf
          obtain ⟨x2_61, ex⟩ : ∃ y : Int32, y = (x2 + (1 : Int32)) := ⟨_, rfl⟩
          have hf := lett_e ex hf
          refine lv_iinc (v := x2_61) (lv' := [(2, .int x2_61), (0, .ref (a 32)), (1, .int x1)]) hx hb dX0_clear_61 hl (k := 2) rfl (by rw [ex]; rfl) (by decide) rfl (fun ls hl => ?_)
          refine lv_goto (tgt := 23) hx hb dX0_clear_64 (by decide) ?_
          exact ih w_35.2 x1 x2_61 _ _ _ hT (lv_sub hl [1, 2, 0] rfl) hf
        · have hf := ite_f (fun q => q hc) hf
          refine lv_aload_n hx hb dX0_clear_51 rfl (lv_at hl 0 rfl) ?_
          refine r_get C hV (hT.atp 0 rfl) (ci := 1) rfl in_X0 2 (by decide) q337 rfl dX0_clear_52 ?_
          refine r_getN C hV hX.2.1 (hT.ats (i := 1) (by decide) 0 rfl) (ci := 2) rfl in_X2 8 (by decide) q244 rfl dX0_clear_55 ?_
          refine lv_iconst (v := 1) hx hb dX0_clear_58 (by decide) ?_
          refine lv_isub hx hb dX0_clear_59 ?_
          exact f_iret (wC d a ja) hA0 C hT hf hr hlocks dX0_clear_60
  refine W.eq (by rw [hargs]) (t_in (vs := [.ref (a 32), .int x1]) (n := 3) (Nat.le_of_ble_eq_true rfl) (fun ls hl => ?_))
  have hl : lv_has ls 3 [(0, .ref (a 32)), (1, .int x1)] := hl
  unfold fX0_clear at hf
  refine lv_aload_n hx hb dX0_clear_0 rfl (lv_at hl 0 rfl) ?_
  refine lv_iload_n hx hb dX0_clear_1 rfl (lv_at hl 1 rfl) ?_
  obtain ⟨w_2, h_2, hf⟩ := bind_e hf
  refine g_calli (vs := [.int x1]) (rest := []) C hX hT (A_new hA0) (Cut.all (D_nd hT.2.1) ((wC_fst d a ja _).trans (wC_fst d a ja t0).symm)) (Ro := (fun P => JAt d ja j P ∧ RAt d (a 3) r P)) ⟨hJ.step hT.2.2 (A_full hA0 hT.2.2.1), hR.2.step hT.2.2 (A_full hA0 hT.2.2.1)⟩ (fun sz => mX0_isRoad l D d sd a ja N j r  t0 x1 _ h_2 sz) (cwV 1 C.2.2.2.2 (lw_V q890 q892 qs26 q120 q893) rfl rfl rfl hdX0_isRoad ⟨Nat.le_of_ble_eq_true rfl, Nat.le_of_ble_eq_true rfl⟩) (g_recv hV (hT.atp 0 rfl) (ci := 1) rfl) rfl hl.1 rfl (Nat.le_of_ble_eq_true rfl) dX0_clear_2 ⟨Nat.zero_le _, Nat.zero_le _⟩ (fun H locs hT => ?_)
  refine lv_if_ne (tgt := 10) hx hb dX0_clear_5 (by decide) (fun hc => ?_) (fun hc => ?_)
  · have hf := ite_t hc hf
    refine lv_aload_n hx hb dX0_clear_10 rfl (lv_at hl 0 rfl) ?_
    refine r_get C hV (hT.atp 0 rfl) (ci := 1) rfl in_X0 2 (by decide) q337 rfl dX0_clear_11 ?_
    refine lv_aload_n hx hb dX0_clear_14 rfl (lv_at hl 0 rfl) ?_
    refine r_get C hV (hT.atp 0 rfl) (ci := 1) rfl in_X0 1 (by decide) q336 rfl dX0_clear_15 ?_
    obtain ⟨w_18, h_18, hf⟩ := bind_e hf
    refine g_callv (vs := [.ref (sa a 0 0)]) (rest := []) C hX hT (A_new hA0) (wC_cutS hT.2.1 (by decide) _) (wC_frz hT (by decide) (by decide) ((by decide)) (w_2.2.2.2.2 1)) (fun sz => mX2_copyFrom l D d sd (sa a 1) (sa a 0) N (w_2.2.2.2.2 0) (w_2.2.2.2.2 1)  _ h_18 sz) (cwV 1 C.2.2.2.2 (lw_V q915 q916 q917 q125 q918) rfl rfl rfl hdX2_copyFrom ⟨Nat.le_of_ble_eq_true rfl, Nat.le_of_ble_eq_true rfl⟩) (g_recv hV (hT.ats (i := 1) (by decide) 0 rfl) (ci := 2) rfl) rfl hl.1 rfl (Nat.le_of_ble_eq_true rfl) dX0_clear_18 ⟨Nat.zero_le _, Nat.zero_le _⟩ (fun H locs hT => ?_)
    obtain ⟨t_18, et⟩ : ∃ y, y = (csS w_2.2 1 w_18) := ⟨_, rfl⟩
    rw [← et] at hT
    have hf := lett_e et hf
    refine lv_iconst (v := 0) hx hb dX0_clear_21 (by decide) ?_
    refine lv_istore_n (lv' := [(2, .int (0 : Int32)), (0, .ref (a 32)), (1, .int x1)]) hx hb dX0_clear_22 rfl hl (by decide) rfl (fun ls hl => ?_)
    refine hL23 _ (fun t H locs ls hT hl hf => ?_) N t_18 x1 (0 : Int32) _ _ _ hT (lv_sub hl [1, 2, 0] rfl) hf
    refine lv_bipush (v := -2) hx hb dX0_clear_67 (by decide) ?_
    exact f_iret (wC d a ja) hA0 C hT hf hr hlocks dX0_clear_69
  · have hf := ite_f (fun q => q hc) hf
    refine lv_iconst (v := -1) hx hb dX0_clear_8 (by decide) ?_
    exact f_iret (wC d a ja) hA0 C hT hf hr hlocks dX0_clear_9
def fX0_cadenza_B23 (N : Nat) (j : JS) (r : RS) (K : CS → Option (Int32 × CS)) (kb : CS → Int32 → Int32 → Option (Int32 × CS)) (t : CS) (x1 : Int32) (x2 : Int32) : Option (Int32 × CS) :=
  (if (200 : Int32) ≤ x2 then (K t) else ((fX0_goesOn N j r 1 t ).bind fun w_35 => (ix x1 6 (if (w_35.2.2.1 17 (x1).toNatClampNeg) ≤ 0 then (lett (x2 + (1 : Int32)) fun x2_74 => (kb w_35.2 x1 x2_74)) else ((fX2_sumOf N 6 (w_35.2.2.1 17)).bind fun w_52 => (ix x1 6 (if ¬ w_52 = (w_35.2.2.1 17 (x1).toNatClampNeg) then (lett (x2 + (1 : Int32)) fun x2_74 => (kb w_35.2 x1 x2_74)) else (some ((((w_35.2.2.2.2 1).2 8) - (1 : Int32)), w_35.2)))))))))
def fX0_cadenza_L23 (N : Nat) (j : JS) (r : RS) (K : CS → Option (Int32 × CS)) : Nat → CS → Int32 → Int32 → Option (Int32 × CS)
  | 0 => fun _ _ _ => none
  | n + 1 => fun t x1 x2 => fX0_cadenza_B23 N j r K (fX0_cadenza_L23 N j r K n) t x1 x2
def fX0_cadenza (N : Nat) (j : JS) (r : RS) (t0 : CS) (x1 : Int32) : Option (Int32 × CS) :=
  ((fX0_isRoad N j r  t0 x1).bind fun w_2 => (if ¬ w_2.1 = 0 then ((fX2_copyFrom N (w_2.2.2.2.2 0) (w_2.2.2.2.2 1) ).bind fun w_18 => (lett (csS w_2.2 1 w_18) fun t_18 => (fX0_cadenza_L23 N j r (fun t => (some ((-2 : Int32), t))) N t_18 x1 (0 : Int32)))) else (some ((-1 : Int32), w_2.2))))
theorem hdX0_cadenza : yX0_cadenza.cls = RX0 ∧ yX0_cadenza.cls ≠ "java/lang/invoke/MethodHandle" ∧ yX0_cadenza.cls ≠ "java/lang/invoke/VarHandle" ∧ (parseMethodDescriptor yX0_cadenza.desc).map (fun d => d.parameters.length) = some 1 := by decide +kernel
set_option maxHeartbeats 4000000 in
theorem mX0_cadenza (l : Launch) (D : va_G) (d : Nat → ClassId) (sd : Nat) (a : Nat → Nat) (ja : Nat → Nat) (N : Nat) (j : JS) (r : RS) (t0 : CS) (x1 : Int32) (w : Int32 × CS) (hf : fX0_cadenza N j r t0 x1 = some w) (sz : Nat) : Met l yX0_cadenza (ws_ yX0_cadenza cX0_cadenza 3 (some .int)) (rm_ 264 8092) (GPc D d sd [.ref (a 32), .int x1] (wC d a ja t0) (fun P => JAt d ja j P ∧ RAt d (a 3) r P) sz) (GQi D w.1 (wC d a ja w.2) (wC d a ja t0) sz) 0 0 (va_A (wC d a ja t0) sz) := by
  refine Met.ofW (cc := cX0_cadenza) (maxL := 3) (ret := (some .int)) plX0 rfl ?_
  intro p e s m args below meth c s₁ B hml hv
  obtain ⟨C, hX, hR, hT, hr, hlocks, hargs, rfl⟩ := g_enter (own := RX0) B hml rfl hv
  have hx := C.1
  have hb := C.2.1
  have hV := hX.1
  obtain ⟨A, hA0⟩ : ∃ A, A = va_A (wC d a ja t0) s.heap.size := ⟨_, rfl⟩
  rw [← hA0] at hX hR hT
  show W p l e (rm_ 264 8092) s m args below meth c s.heap [] 0 0 (MQ below (GQi D w.1 (wC d a ja w.2) (wC d a ja t0) s.heap.size) args s 0 0 (va_A (wC d a ja t0) s.heap.size)) _
  rw [← hA0]
  have hJ := hR.1
  obtain ⟨rmc, rel, rcap, rf, hrl, hrel, hrc, hrg⟩ := hR.2.unpack
  have hL23 : ∀ (K : CS → Option (Int32 × CS)), (∀ (t : CS) (H : Heap) (locs : List Loc) (ls : Array Slot), TH D A s.heap (wC d a ja t) H locs → lv_has ls 3 [] → K t = some w → W p l e (rm_ 264 8092) s m args below meth c H locs 0 0 (MQ below (GQi D w.1 (wC d a ja w.2) (wC d a ja t0) s.heap.size) args s 0 0 A) (F0 m 80 ls [])) → ∀ (n : Nat) (t : CS) (x1 : Int32) (x2 : Int32) (H : Heap) (locs : List Loc) (ls : Array Slot), TH D A s.heap (wC d a ja t) H locs → lv_has ls 3 [(0, .ref (a 32)), (1, .int x1), (2, .int x2)] → fX0_cadenza_L23 N j r K n t x1 x2 = some w → W p l e (rm_ 264 8092) s m args below meth c H locs 0 0 (MQ below (GQi D w.1 (wC d a ja w.2) (wC d a ja t0) s.heap.size) args s 0 0 A) (F0 m 23 ls []) := by
    intro K hE n
    induction n with
    | zero =>
      intro t x1 x2 H locs ls hT hl hf
      cases hf
    | succ n ih =>
      intro t x1 x2 H locs ls hT hl hf
      replace hf : fX0_cadenza_B23 N j r K (fX0_cadenza_L23 N j r K n) t x1 x2 = some w := hf
      unfold fX0_cadenza_B23 at hf
      refine lv_iload_n hx hb dX0_cadenza_23 rfl (lv_at hl 2 rfl) ?_
      refine lv_sipush (v := 200) hx hb dX0_cadenza_24 (by decide) ?_
      refine lv_icmp_ge (tgt := 80) hx hb dX0_cadenza_27 (by decide) (fun hc => ?_) (fun hc => ?_)
      · have hf := ite_t hc hf
        exact hE t _ _ _ hT (lv_sub hl [] rfl) hf
      · have hf := ite_f hc hf
        refine lv_aload_n hx hb dX0_cadenza_30 rfl (lv_at hl 0 rfl) ?_
        refine lv_aload_n hx hb dX0_cadenza_31 rfl (lv_at hl 0 rfl) ?_
        refine r_get C hV (hT.atp 0 rfl) (ci := 1) rfl in_X0 2 (by decide) q337 rfl dX0_cadenza_32 ?_
        obtain ⟨w_35, h_35, hf⟩ := bind_e hf
        refine g_calli (vs := [.ref (sa a 1 0)]) (rest := []) C hX hT (A_new hA0) (Cut.all (D_nd hT.2.1) ((wC_fst d a ja _).trans (wC_fst d a ja t).symm)) (Ro := (fun P => JAt d ja j P ∧ RAt d (a 3) r P)) ⟨hJ.step hT.2.2 (A_full hA0 hT.2.2.1), hR.2.step hT.2.2 (A_full hA0 hT.2.2.1)⟩ (fun sz => mX0_goesOn l D d sd a ja N j r 1 t  _ h_35 (by decide) sz) (cwV 1 C.2.2.2.2 (lw_V q932 q934 qs30 q120 q935) rfl rfl rfl hdX0_goesOn ⟨Nat.le_of_ble_eq_true rfl, Nat.le_of_ble_eq_true rfl⟩) (g_recv hV (hT.atp 0 rfl) (ci := 1) rfl) rfl hl.1 rfl (Nat.le_of_ble_eq_true rfl) dX0_cadenza_35 ⟨Nat.zero_le _, Nat.zero_le _⟩ (fun H locs hT => ?_)
        refine lv_pop hx hb dX0_cadenza_38 rfl ?_
        refine lv_aload_n hx hb dX0_cadenza_39 rfl (lv_at hl 0 rfl) ?_
        refine r_get C hV (hT.atp 0 rfl) (ci := 1) rfl in_X0 17 (by decide) q361 rfl dX0_cadenza_40 ?_
        refine lv_iload_n hx hb dX0_cadenza_43 rfl (lv_at hl 1 rfl) ?_
        obtain ⟨hi, hf⟩ := ix_e hf
        refine r_ild C hV (hT.atp 6 rfl) _ hi rfl dX0_cadenza_44 ?_
        refine lv_if_le (tgt := 74) hx hb dX0_cadenza_45 (by decide) (fun hc => ?_) (fun hc => ?_)
        · have hf := ite_t hc hf
          obtain ⟨x2_74, ex⟩ : ∃ y : Int32, y = (x2 + (1 : Int32)) := ⟨_, rfl⟩
          have hf := lett_e ex hf
          refine lv_iinc (v := x2_74) (lv' := [(2, .int x2_74), (0, .ref (a 32)), (1, .int x1)]) hx hb dX0_cadenza_74 hl (k := 2) rfl (by rw [ex]; rfl) (by decide) rfl (fun ls hl => ?_)
          refine lv_goto (tgt := 23) hx hb dX0_cadenza_77 (by decide) ?_
          exact ih w_35.2 x1 x2_74 _ _ _ hT (lv_sub hl [1, 2, 0] rfl) hf
        · have hf := ite_f hc hf
          refine lv_aload_n hx hb dX0_cadenza_48 rfl (lv_at hl 0 rfl) ?_
          refine r_get C hV (hT.atp 0 rfl) (ci := 1) rfl in_X0 17 (by decide) q361 rfl dX0_cadenza_49 ?_
          obtain ⟨w_52, h_52, hf⟩ := bind_e hf
          refine g_scalli (vs := [.ref (a 17)]) (rest := []) C hX hT (A_new hA0) (Cut.none _) (hT.frz (List.mem_of_getElem? (i := 6) rfl)) (fun sz => mX2_sumOf l D d sd (a 17) N 6 (w_35.2.2.1 17) _ h_52 sz) (va_cwS 1 C.2.2.2.2 (lw_S q974 q975 q125 q976) rfl rfl rfl hdX2_sumOf ⟨Nat.le_of_ble_eq_true rfl, Nat.le_of_ble_eq_true rfl⟩) rfl hl.1 rfl (Nat.le_of_ble_eq_true rfl) dX0_cadenza_52 ⟨Nat.zero_le _, Nat.zero_le _⟩ (fun H locs hT => ?_)
          refine lv_aload_n hx hb dX0_cadenza_55 rfl (lv_at hl 0 rfl) ?_
          refine r_get C hV (hT.atp 0 rfl) (ci := 1) rfl in_X0 17 (by decide) q361 rfl dX0_cadenza_56 ?_
          refine lv_iload_n hx hb dX0_cadenza_59 rfl (lv_at hl 1 rfl) ?_
          obtain ⟨hi, hf⟩ := ix_e hf
          refine r_ild C hV (hT.atp 6 rfl) _ hi rfl dX0_cadenza_60 ?_
          refine lv_icmp_ne (tgt := 74) hx hb dX0_cadenza_61 (by decide) (fun hc => ?_) (fun hc => ?_)
          · have hf := ite_t hc hf
            obtain ⟨x2_74, ex⟩ : ∃ y : Int32, y = (x2 + (1 : Int32)) := ⟨_, rfl⟩
            have hf := lett_e ex hf
            refine lv_iinc (v := x2_74) (lv' := [(2, .int x2_74), (0, .ref (a 32)), (1, .int x1)]) hx hb dX0_cadenza_74 hl (k := 2) rfl (by rw [ex]; rfl) (by decide) rfl (fun ls hl => ?_)
            refine lv_goto (tgt := 23) hx hb dX0_cadenza_77 (by decide) ?_
            exact ih w_35.2 x1 x2_74 _ _ _ hT (lv_sub hl [1, 2, 0] rfl) hf
          · have hf := ite_f (fun q => q hc) hf
            refine lv_aload_n hx hb dX0_cadenza_64 rfl (lv_at hl 0 rfl) ?_
            refine r_get C hV (hT.atp 0 rfl) (ci := 1) rfl in_X0 2 (by decide) q337 rfl dX0_cadenza_65 ?_
            refine r_getN C hV hX.2.1 (hT.ats (i := 1) (by decide) 0 rfl) (ci := 2) rfl in_X2 8 (by decide) q244 rfl dX0_cadenza_68 ?_
            refine lv_iconst (v := 1) hx hb dX0_cadenza_71 (by decide) ?_
            refine lv_isub hx hb dX0_cadenza_72 ?_
            exact f_iret (wC d a ja) hA0 C hT hf hr hlocks dX0_cadenza_73
  refine W.eq (by rw [hargs]) (t_in (vs := [.ref (a 32), .int x1]) (n := 3) (Nat.le_of_ble_eq_true rfl) (fun ls hl => ?_))
  have hl : lv_has ls 3 [(0, .ref (a 32)), (1, .int x1)] := hl
  unfold fX0_cadenza at hf
  refine lv_aload_n hx hb dX0_cadenza_0 rfl (lv_at hl 0 rfl) ?_
  refine lv_iload_n hx hb dX0_cadenza_1 rfl (lv_at hl 1 rfl) ?_
  obtain ⟨w_2, h_2, hf⟩ := bind_e hf
  refine g_calli (vs := [.int x1]) (rest := []) C hX hT (A_new hA0) (Cut.all (D_nd hT.2.1) ((wC_fst d a ja _).trans (wC_fst d a ja t0).symm)) (Ro := (fun P => JAt d ja j P ∧ RAt d (a 3) r P)) ⟨hJ.step hT.2.2 (A_full hA0 hT.2.2.1), hR.2.step hT.2.2 (A_full hA0 hT.2.2.1)⟩ (fun sz => mX0_isRoad l D d sd a ja N j r  t0 x1 _ h_2 sz) (cwV 1 C.2.2.2.2 (lw_V q890 q892 qs26 q120 q893) rfl rfl rfl hdX0_isRoad ⟨Nat.le_of_ble_eq_true rfl, Nat.le_of_ble_eq_true rfl⟩) (g_recv hV (hT.atp 0 rfl) (ci := 1) rfl) rfl hl.1 rfl (Nat.le_of_ble_eq_true rfl) dX0_cadenza_2 ⟨Nat.zero_le _, Nat.zero_le _⟩ (fun H locs hT => ?_)
  refine lv_if_ne (tgt := 10) hx hb dX0_cadenza_5 (by decide) (fun hc => ?_) (fun hc => ?_)
  · have hf := ite_t hc hf
    refine lv_aload_n hx hb dX0_cadenza_10 rfl (lv_at hl 0 rfl) ?_
    refine r_get C hV (hT.atp 0 rfl) (ci := 1) rfl in_X0 2 (by decide) q337 rfl dX0_cadenza_11 ?_
    refine lv_aload_n hx hb dX0_cadenza_14 rfl (lv_at hl 0 rfl) ?_
    refine r_get C hV (hT.atp 0 rfl) (ci := 1) rfl in_X0 1 (by decide) q336 rfl dX0_cadenza_15 ?_
    obtain ⟨w_18, h_18, hf⟩ := bind_e hf
    refine g_callv (vs := [.ref (sa a 0 0)]) (rest := []) C hX hT (A_new hA0) (wC_cutS hT.2.1 (by decide) _) (wC_frz hT (by decide) (by decide) ((by decide)) (w_2.2.2.2.2 1)) (fun sz => mX2_copyFrom l D d sd (sa a 1) (sa a 0) N (w_2.2.2.2.2 0) (w_2.2.2.2.2 1)  _ h_18 sz) (cwV 1 C.2.2.2.2 (lw_V q915 q916 q917 q125 q918) rfl rfl rfl hdX2_copyFrom ⟨Nat.le_of_ble_eq_true rfl, Nat.le_of_ble_eq_true rfl⟩) (g_recv hV (hT.ats (i := 1) (by decide) 0 rfl) (ci := 2) rfl) rfl hl.1 rfl (Nat.le_of_ble_eq_true rfl) dX0_cadenza_18 ⟨Nat.zero_le _, Nat.zero_le _⟩ (fun H locs hT => ?_)
    obtain ⟨t_18, et⟩ : ∃ y, y = (csS w_2.2 1 w_18) := ⟨_, rfl⟩
    rw [← et] at hT
    have hf := lett_e et hf
    refine lv_iconst (v := 0) hx hb dX0_cadenza_21 (by decide) ?_
    refine lv_istore_n (lv' := [(2, .int (0 : Int32)), (0, .ref (a 32)), (1, .int x1)]) hx hb dX0_cadenza_22 rfl hl (by decide) rfl (fun ls hl => ?_)
    refine hL23 _ (fun t H locs ls hT hl hf => ?_) N t_18 x1 (0 : Int32) _ _ _ hT (lv_sub hl [1, 2, 0] rfl) hf
    refine lv_bipush (v := -2) hx hb dX0_cadenza_80 (by decide) ?_
    exact f_iret (wC d a ja) hA0 C hT hf hr hlocks dX0_cadenza_82
  · have hf := ite_f (fun q => q hc) hf
    refine lv_iconst (v := -1) hx hb dX0_cadenza_8 (by decide) ?_
    exact f_iret (wC d a ja) hA0 C hT hf hr hlocks dX0_cadenza_9
