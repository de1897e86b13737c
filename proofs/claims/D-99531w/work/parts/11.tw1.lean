set_option maxRecDepth 100000
theorem plX4 : plainName RX4 = true := by decide +kernel
abbrev db_D0 : va_G := (fun _ => 0, fun _ _ => 0)
def fX4_four_B3 (N : Nat) (K : TS → Option (TS)) (kb : TS → Int32 → Int32 → Option (TS)) (t : TS) (x1 : Int32) (x2 : Int32) : Option (TS) :=
  (if x2 < 0 then (K t) else (ix (t.1 1) 400 (lett (tsA t 0 ((t.1 1)).toNatClampNeg (vp_nar .byte ((x1 >>> (x2 &&& 31))).toInt8.toInt32)) fun t_19 => (lett (tsI t_19 1 ((t_19.1 1) + (1 : Int32))) fun t_27 => (lett (x2 + (-8 : Int32)) fun x2_30 => (kb t_27 x1 x2_30))))))
def fX4_four_L3 (N : Nat) (K : TS → Option (TS)) : Nat → TS → Int32 → Int32 → Option (TS)
  | 0 => fun _ _ _ => none
  | n + 1 => fun t x1 x2 => fX4_four_B3 N K (fX4_four_L3 N K n) t x1 x2
def fX4_four (N : Nat) (t : TS) (x1 : Int32) : Option (TS) :=
  (fX4_four_L3 N (fun t => (some t)) N t x1 (24 : Int32))
theorem hdX4_four : yX4_four.cls = RX4 ∧ yX4_four.cls ≠ "java/lang/invoke/MethodHandle" ∧ yX4_four.cls ≠ "java/lang/invoke/VarHandle" ∧ (parseMethodDescriptor yX4_four.desc).map (fun d => d.parameters.length) = some 1 := by decide +kernel
set_option maxHeartbeats 4000000 in
theorem mX4_four (l : Launch) (D : va_G) (d : Nat → ClassId) (a : Nat → Nat) (N : Nat) (t : TS) (x1 : Int32) (w : TS) (hf : fX4_four N t x1 = some w) (sz : Nat) : Met l yX4_four (ws_ yX4_four cX4_four 3 none) (rm_ 0 0) (PcT D d a [.int x1] t sz) (QvT D d a w sz) 0 0 (AT a sz) := by
  refine Met.ofW (cc := cX4_four) (maxL := 3) (ret := none) plX4 rfl ?_
  intro p e s m args below meth c s₁ B hml hv
  obtain ⟨C, hV, hT, hr, hlocks, hargs, rfl⟩ := t_enter B hml rfl hv
  have hx := C.1
  have hb := C.2.1
  show W p l e (rm_ 0 0) s m args below meth c s.heap [] 0 0 (MQ below (QvT D d a w s.heap.size) args s 0 0 (AT a s.heap.size)) _
  have hL3 : ∀ (K : TS → Option (TS)), (∀ (t : TS) (H : Heap) (locs : List Loc) (ls : Array Slot), TH D (AT a s.heap.size) s.heap (wT d a t) H locs → lv_has ls 3 [] → K t = some w → W p l e (rm_ 0 0) s m args below meth c H locs 0 0 (MQ below (QvT D d a w s.heap.size) args s 0 0 (AT a s.heap.size)) (F0 m 36 ls [])) → ∀ (n : Nat) (t : TS) (x1 : Int32) (x2 : Int32) (H : Heap) (locs : List Loc) (ls : Array Slot), TH D (AT a s.heap.size) s.heap (wT d a t) H locs → lv_has ls 3 [(0, .ref (a 42)), (1, .int x1), (2, .int x2)] → fX4_four_L3 N K n t x1 x2 = some w → W p l e (rm_ 0 0) s m args below meth c H locs 0 0 (MQ below (QvT D d a w s.heap.size) args s 0 0 (AT a s.heap.size)) (F0 m 3 ls []) := by
    intro K hE n
    induction n with
    | zero =>
      intro t x1 x2 H locs ls hT hl hf
      cases hf
    | succ n ih =>
      intro t x1 x2 H locs ls hT hl hf
      replace hf : fX4_four_B3 N K (fX4_four_L3 N K n) t x1 x2 = some w := hf
      unfold fX4_four_B3 at hf
      refine lv_iload_n hx hb dX4_four_3 rfl (lv_at hl 2 rfl) ?_
      refine lv_if_lt (tgt := 36) hx hb dX4_four_4 (by decide) (fun hc => ?_) (fun hc => ?_)
      · have hf := ite_t hc hf
        exact hE t _ _ _ hT (lv_sub hl [] rfl) hf
      · have hf := ite_f hc hf
        refine lv_aload_n hx hb dX4_four_7 rfl (lv_at hl 0 rfl) ?_
        refine t_get C hV hT 0 (by decide) q1247 rfl dX4_four_8 ?_
        refine lv_aload_n hx hb dX4_four_11 rfl (lv_at hl 0 rfl) ?_
        refine t_get C hV hT 1 (by decide) q1248 rfl dX4_four_12 ?_
        refine lv_iload_n hx hb dX4_four_15 rfl (lv_at hl 1 rfl) ?_
        refine lv_iload_n hx hb dX4_four_16 rfl (lv_at hl 2 rfl) ?_
        refine lv_ishr hx hb dX4_four_17 ?_
        refine lv_i2b hx hb dX4_four_18 rfl ?_
        obtain ⟨hi, hf⟩ := ix_e hf
        refine t_bst C hV hT 1 _ rfl hi rfl (tast_0 d a t _ _) dX4_four_19 (fun t_19 H locs et hT => ?_)
        have hf := lett_e et hf
        refine lv_aload_n hx hb dX4_four_20 rfl (lv_at hl 0 rfl) ?_
        refine lv_dup hx hb dX4_four_21 rfl ?_
        refine t_get C hV hT 1 (by decide) q1248 rfl dX4_four_22 ?_
        refine lv_iconst (v := 1) hx hb dX4_four_25 (by decide) ?_
        refine lv_iadd hx hb dX4_four_26 ?_
        refine t_put C hV hT 1 (by decide) q1248 (tset_1 a t_19 _) rfl rfl dX4_four_27 (fun t_27 H locs et hT => ?_)
        have hf := lett_e et hf
        obtain ⟨x2_30, ex⟩ : ∃ y : Int32, y = (x2 + (-8 : Int32)) := ⟨_, rfl⟩
        have hf := lett_e ex hf
        refine lv_iinc (v := x2_30) (lv' := [(2, .int x2_30), (0, .ref (a 42)), (1, .int x1)]) hx hb dX4_four_30 hl (k := 2) rfl (by rw [ex]; rfl) (by decide) rfl (fun ls hl => ?_)
        refine lv_goto (tgt := 3) hx hb dX4_four_33 (by decide) ?_
        exact ih t_27 x1 x2_30 _ _ _ hT (lv_sub hl [1, 2, 0] rfl) hf
  refine W.eq (by rw [hargs]) (t_in (vs := [.ref (a 42), .int x1]) (n := 3) (Nat.le_of_ble_eq_true rfl) (fun ls hl => ?_))
  have hl : lv_has ls 3 [(0, .ref (a 42)), (1, .int x1)] := hl
  unfold fX4_four at hf
  skip
  refine lv_bipush (v := 24) hx hb dX4_four_0 (by decide) ?_
  refine lv_istore_n (lv' := [(2, .int (24 : Int32)), (0, .ref (a 42)), (1, .int x1)]) hx hb dX4_four_2 rfl hl (by decide) rfl (fun ls hl => ?_)
  refine hL3 _ (fun t H locs ls hT hl hf => ?_) N t x1 (24 : Int32) _ _ _ hT (lv_sub hl [1, 2, 0] rfl) hf
  exact t_vret C hT hf hr hlocks dX4_four_36
def fX4_feed (N : Nat) (t : TS) (x1 : Int32) (x2 : Int32) (x3 : Int32) (x4 : Int32) (x5 : Int32) : Option (Int32 × TS) :=
  (if ((t.1 1) + (20 : Int32)) ≤ (400 : Int32) then ((fX4_four N t x1).bind fun w_17 => ((fX4_four N w_17 x2).bind fun w_22 => ((fX4_four N w_22 x3).bind fun w_27 => ((fX4_four N w_27 x4).bind fun w_33 => ((fX4_four N w_33 x5).bind fun w_39 => (some ((w_39.1 1), w_39))))))) else (some ((-1 : Int32), t)))
theorem hdX4_feed : yX4_feed.cls = RX4 ∧ yX4_feed.cls ≠ "java/lang/invoke/MethodHandle" ∧ yX4_feed.cls ≠ "java/lang/invoke/VarHandle" ∧ (parseMethodDescriptor yX4_feed.desc).map (fun d => d.parameters.length) = some 5 := by decide +kernel
set_option maxHeartbeats 4000000 in
theorem mX4_feed (l : Launch) (D : va_G) (d : Nat → ClassId) (a : Nat → Nat) (N : Nat) (t : TS) (x1 : Int32) (x2 : Int32) (x3 : Int32) (x4 : Int32) (x5 : Int32) (w : Int32 × TS) (hf : fX4_feed N t x1 x2 x3 x4 x5 = some w) (sz : Nat) : Met l yX4_feed (ws_ yX4_feed cX4_feed 6 (some .int)) (rm_ 1 22) (PcT D d a [.int x1, .int x2, .int x3, .int x4, .int x5] t sz) (QiT D d a w.1 w.2 sz) 0 0 (AT a sz) := by
  refine Met.ofW (cc := cX4_feed) (maxL := 6) (ret := (some .int)) plX4 rfl ?_
  intro p e s m args below meth c s₁ B hml hv
  obtain ⟨C, hV, hT, hr, hlocks, hargs, rfl⟩ := t_enter B hml rfl hv
  have hx := C.1
  have hb := C.2.1
  show W p l e (rm_ 1 22) s m args below meth c s.heap [] 0 0 (MQ below (QiT D d a w.1 w.2 s.heap.size) args s 0 0 (AT a s.heap.size)) _
  refine W.eq (by rw [hargs]) (t_in (vs := [.ref (a 42), .int x1, .int x2, .int x3, .int x4, .int x5]) (n := 6) (Nat.le_of_ble_eq_true rfl) (fun ls hl => ?_))
  have hl : lv_has ls 6 [(0, .ref (a 42)), (1, .int x1), (2, .int x2), (3, .int x3), (4, .int x4), (5, .int x5)] := hl
  unfold fX4_feed at hf
  skip
  refine lv_aload_n hx hb dX4_feed_0 rfl (lv_at hl 0 rfl) ?_
  refine t_get C hV hT 1 (by decide) q1248 rfl dX4_feed_1 ?_
  refine lv_bipush (v := 20) hx hb dX4_feed_4 (by decide) ?_
  refine lv_iadd hx hb dX4_feed_6 ?_
  refine lv_sipush (v := 400) hx hb dX4_feed_7 (by decide) ?_
  refine lv_icmp_le (tgt := 15) hx hb dX4_feed_10 (by decide) (fun hc => ?_) (fun hc => ?_)
  · have hf := ite_t hc hf
    refine lv_aload_n hx hb dX4_feed_15 rfl (lv_at hl 0 rfl) ?_
    refine lv_iload_n hx hb dX4_feed_16 rfl (lv_at hl 1 rfl) ?_
    obtain ⟨w_17, h_17, hf⟩ := bind_e hf
    refine t_callv (vs := [.int x1]) (rest := []) C hV hT (fun sz => mX4_four l D d a N t x1 _ h_17 sz) (cwV 1 C.2.2.2.2 (lw_V q1379 q1381 qs44 q129 q1382) rfl rfl rfl hdX4_four ⟨Nat.le_of_ble_eq_true rfl, Nat.le_of_ble_eq_true rfl⟩) rfl hl.1 rfl (Nat.le_of_ble_eq_true rfl) dX4_feed_17 (fun H locs hT => ?_)
    refine lv_aload_n hx hb dX4_feed_20 rfl (lv_at hl 0 rfl) ?_
    refine lv_iload_n hx hb dX4_feed_21 rfl (lv_at hl 2 rfl) ?_
    obtain ⟨w_22, h_22, hf⟩ := bind_e hf
    refine t_callv (vs := [.int x2]) (rest := []) C hV hT (fun sz => mX4_four l D d a N w_17 x2 _ h_22 sz) (cwV 1 C.2.2.2.2 (lw_V q1379 q1381 qs44 q129 q1382) rfl rfl rfl hdX4_four ⟨Nat.le_of_ble_eq_true rfl, Nat.le_of_ble_eq_true rfl⟩) rfl hl.1 rfl (Nat.le_of_ble_eq_true rfl) dX4_feed_22 (fun H locs hT => ?_)
    refine lv_aload_n hx hb dX4_feed_25 rfl (lv_at hl 0 rfl) ?_
    refine lv_iload_n hx hb dX4_feed_26 rfl (lv_at hl 3 rfl) ?_
    obtain ⟨w_27, h_27, hf⟩ := bind_e hf
    refine t_callv (vs := [.int x3]) (rest := []) C hV hT (fun sz => mX4_four l D d a N w_22 x3 _ h_27 sz) (cwV 1 C.2.2.2.2 (lw_V q1379 q1381 qs44 q129 q1382) rfl rfl rfl hdX4_four ⟨Nat.le_of_ble_eq_true rfl, Nat.le_of_ble_eq_true rfl⟩) rfl hl.1 rfl (Nat.le_of_ble_eq_true rfl) dX4_feed_27 (fun H locs hT => ?_)
    refine lv_aload_n hx hb dX4_feed_30 rfl (lv_at hl 0 rfl) ?_
    refine lv_iload hx hb dX4_feed_31 (lv_at hl 4 rfl) ?_
    obtain ⟨w_33, h_33, hf⟩ := bind_e hf
    refine t_callv (vs := [.int x4]) (rest := []) C hV hT (fun sz => mX4_four l D d a N w_27 x4 _ h_33 sz) (cwV 1 C.2.2.2.2 (lw_V q1379 q1381 qs44 q129 q1382) rfl rfl rfl hdX4_four ⟨Nat.le_of_ble_eq_true rfl, Nat.le_of_ble_eq_true rfl⟩) rfl hl.1 rfl (Nat.le_of_ble_eq_true rfl) dX4_feed_33 (fun H locs hT => ?_)
    refine lv_aload_n hx hb dX4_feed_36 rfl (lv_at hl 0 rfl) ?_
    refine lv_iload hx hb dX4_feed_37 (lv_at hl 5 rfl) ?_
    obtain ⟨w_39, h_39, hf⟩ := bind_e hf
    refine t_callv (vs := [.int x5]) (rest := []) C hV hT (fun sz => mX4_four l D d a N w_33 x5 _ h_39 sz) (cwV 1 C.2.2.2.2 (lw_V q1379 q1381 qs44 q129 q1382) rfl rfl rfl hdX4_four ⟨Nat.le_of_ble_eq_true rfl, Nat.le_of_ble_eq_true rfl⟩) rfl hl.1 rfl (Nat.le_of_ble_eq_true rfl) dX4_feed_39 (fun H locs hT => ?_)
    refine lv_aload_n hx hb dX4_feed_42 rfl (lv_at hl 0 rfl) ?_
    refine t_get C hV hT 1 (by decide) q1248 rfl dX4_feed_43 ?_
    exact t_iret C hT hf hr hlocks dX4_feed_46
  · have hf := ite_f hc hf
    refine lv_iconst (v := -1) hx hb dX4_feed_13 (by decide) ?_
    exact t_iret C hT hf hr hlocks dX4_feed_14
def fX4_end (N : Nat) (t : TS) (x1 : Int32) : Option (Int32 × TS) :=
  (if x1 < 0 then (some ((-1 : Int32), t)) else (if x1 ≤ (t.1 1) then (lett (tsI t 1 x1) fun t_16 => (some (x1, t_16))) else (some ((-1 : Int32), t))))
theorem hdX4_end : yX4_end.cls = RX4 ∧ yX4_end.cls ≠ "java/lang/invoke/MethodHandle" ∧ yX4_end.cls ≠ "java/lang/invoke/VarHandle" ∧ (parseMethodDescriptor yX4_end.desc).map (fun d => d.parameters.length) = some 1 := by decide +kernel
set_option maxHeartbeats 4000000 in
theorem mX4_end (l : Launch) (D : va_G) (d : Nat → ClassId) (a : Nat → Nat) (N : Nat) (t : TS) (x1 : Int32) (w : Int32 × TS) (hf : fX4_end N t x1 = some w) (sz : Nat) : Met l yX4_end (ws_ yX4_end cX4_end 2 (some .int)) (rm_ 0 0) (PcT D d a [.int x1] t sz) (QiT D d a w.1 w.2 sz) 0 0 (AT a sz) := by
  refine Met.ofW (cc := cX4_end) (maxL := 2) (ret := (some .int)) plX4 rfl ?_
  intro p e s m args below meth c s₁ B hml hv
  obtain ⟨C, hV, hT, hr, hlocks, hargs, rfl⟩ := t_enter B hml rfl hv
  have hx := C.1
  have hb := C.2.1
  show W p l e (rm_ 0 0) s m args below meth c s.heap [] 0 0 (MQ below (QiT D d a w.1 w.2 s.heap.size) args s 0 0 (AT a s.heap.size)) _
  refine W.eq (by rw [hargs]) (t_in (vs := [.ref (a 42), .int x1]) (n := 2) (Nat.le_of_ble_eq_true rfl) (fun ls hl => ?_))
  have hl : lv_has ls 2 [(0, .ref (a 42)), (1, .int x1)] := hl
  unfold fX4_end at hf
  skip
  refine lv_iload_n hx hb dX4_end_0 rfl (lv_at hl 1 rfl) ?_
  refine lv_if_lt (tgt := 12) hx hb dX4_end_1 (by decide) (fun hc => ?_) (fun hc => ?_)
  · have hf := ite_t hc hf
    refine lv_iconst (v := -1) hx hb dX4_end_12 (by decide) ?_
    exact t_iret C hT hf hr hlocks dX4_end_13
  · have hf := ite_f hc hf
    refine lv_iload_n hx hb dX4_end_4 rfl (lv_at hl 1 rfl) ?_
    refine lv_aload_n hx hb dX4_end_5 rfl (lv_at hl 0 rfl) ?_
    refine t_get C hV hT 1 (by decide) q1248 rfl dX4_end_6 ?_
    refine lv_icmp_le (tgt := 14) hx hb dX4_end_9 (by decide) (fun hc => ?_) (fun hc => ?_)
    · have hf := ite_t hc hf
      refine lv_aload_n hx hb dX4_end_14 rfl (lv_at hl 0 rfl) ?_
      refine lv_iload_n hx hb dX4_end_15 rfl (lv_at hl 1 rfl) ?_
      refine t_put C hV hT 1 (by decide) q1248 (tset_1 a t _) rfl rfl dX4_end_16 (fun t_16 H locs et hT => ?_)
      have hf := lett_e et hf
      refine lv_iload_n hx hb dX4_end_19 rfl (lv_at hl 1 rfl) ?_
      exact t_iret C hT hf hr hlocks dX4_end_20
    · have hf := ite_f hc hf
      refine lv_iconst (v := -1) hx hb dX4_end_12 (by decide) ?_
      exact t_iret C hT hf hr hlocks dX4_end_13
def fX4_see_B0 (N : Nat) (K : TS → Option (Int32 × TS)) (kb : TS → Option (Int32 × TS)) (t : TS) : Option (Int32 × TS) :=
  (if (t.1 1) ≤ (t.1 8) then (K t) else (ix (t.1 8) 400 (if ¬ (t.2.1 0 ((t.1 8)).toNatClampNeg) = (32 : Int32) then (K t) else (lett (tsI t 8 ((t.1 8) + (1 : Int32))) fun t_32 => (kb t_32)))))
def fX4_see_L0 (N : Nat) (K : TS → Option (Int32 × TS)) : Nat → TS → Option (Int32 × TS)
  | 0 => fun _ => none
  | n + 1 => fun t => fX4_see_B0 N K (fX4_see_L0 N K n) t
def fX4_see_J38 (N : Nat) (t : TS) : Option (Int32 × TS) :=
  (if (t.1 1) ≤ (t.1 8) then (some ((-1 : Int32), t)) else (ix (t.1 8) 400 (some (((t.2.1 0 ((t.1 8)).toNatClampNeg) &&& (255 : Int32)), t))))
def fX4_see (N : Nat) (t : TS) : Option (Int32 × TS) :=
  (fX4_see_L0 N (fun t => (fX4_see_J38 N t)) N t)
theorem hdX4_see : yX4_see.cls = RX4 ∧ yX4_see.cls ≠ "java/lang/invoke/MethodHandle" ∧ yX4_see.cls ≠ "java/lang/invoke/VarHandle" ∧ (parseMethodDescriptor yX4_see.desc).map (fun d => d.parameters.length) = some 0 := by decide +kernel
set_option maxHeartbeats 4000000 in
theorem mX4_see (l : Launch) (D : va_G) (d : Nat → ClassId) (a : Nat → Nat) (N : Nat) (t : TS) (w : Int32 × TS) (hf : fX4_see N t = some w) (sz : Nat) : Met l yX4_see (ws_ yX4_see cX4_see 1 (some .int)) (rm_ 0 0) (PcT D d a [] t sz) (QiT D d a w.1 w.2 sz) 0 0 (AT a sz) := by
  refine Met.ofW (cc := cX4_see) (maxL := 1) (ret := (some .int)) plX4 rfl ?_
  intro p e s m args below meth c s₁ B hml hv
  obtain ⟨C, hV, hT, hr, hlocks, hargs, rfl⟩ := t_enter B hml rfl hv
  have hx := C.1
  have hb := C.2.1
  show W p l e (rm_ 0 0) s m args below meth c s.heap [] 0 0 (MQ below (QiT D d a w.1 w.2 s.heap.size) args s 0 0 (AT a s.heap.size)) _
  have hL0 : ∀ (K : TS → Option (Int32 × TS)), (∀ (t : TS) (H : Heap) (locs : List Loc) (ls : Array Slot), TH D (AT a s.heap.size) s.heap (wT d a t) H locs → lv_has ls 1 [(0, .ref (a 42))] → K t = some w → W p l e (rm_ 0 0) s m args below meth c H locs 0 0 (MQ below (QiT D d a w.1 w.2 s.heap.size) args s 0 0 (AT a s.heap.size)) (F0 m 38 ls [])) → ∀ (n : Nat) (t : TS) (H : Heap) (locs : List Loc) (ls : Array Slot), TH D (AT a s.heap.size) s.heap (wT d a t) H locs → lv_has ls 1 [(0, .ref (a 42))] → fX4_see_L0 N K n t = some w → W p l e (rm_ 0 0) s m args below meth c H locs 0 0 (MQ below (QiT D d a w.1 w.2 s.heap.size) args s 0 0 (AT a s.heap.size)) (F0 m 0 ls []) := by
    intro K hE n
    induction n with
    | zero =>
      intro t H locs ls hT hl hf
      cases hf
    | succ n ih =>
      intro t H locs ls hT hl hf
      replace hf : fX4_see_B0 N K (fX4_see_L0 N K n) t = some w := hf
      unfold fX4_see_B0 at hf
      refine lv_aload_n hx hb dX4_see_0 rfl (lv_at hl 0 rfl) ?_
      refine t_get C hV hT 8 (by decide) q1255 rfl dX4_see_1 ?_
      refine lv_aload_n hx hb dX4_see_4 rfl (lv_at hl 0 rfl) ?_
      refine t_get C hV hT 1 (by decide) q1248 rfl dX4_see_5 ?_
      refine lv_icmp_ge (tgt := 38) hx hb dX4_see_8 (by decide) (fun hc => ?_) (fun hc => ?_)
      · have hf := ite_t hc hf
        exact hE t _ _ _ hT hl hf
      · have hf := ite_f hc hf
        refine lv_aload_n hx hb dX4_see_11 rfl (lv_at hl 0 rfl) ?_
        refine t_get C hV hT 0 (by decide) q1247 rfl dX4_see_12 ?_
        refine lv_aload_n hx hb dX4_see_15 rfl (lv_at hl 0 rfl) ?_
        refine t_get C hV hT 8 (by decide) q1255 rfl dX4_see_16 ?_
        obtain ⟨hi, hf⟩ := ix_e hf
        refine g_bld C hV hT 1 _ rfl hi rfl dX4_see_19 ?_
        refine lv_bipush (v := 32) hx hb dX4_see_20 (by decide) ?_
        refine lv_icmp_ne (tgt := 38) hx hb dX4_see_22 (by decide) (fun hc => ?_) (fun hc => ?_)
        · have hf := ite_t hc hf
          exact hE t _ _ _ hT hl hf
        · have hf := ite_f (fun q => q hc) hf
          refine lv_aload_n hx hb dX4_see_25 rfl (lv_at hl 0 rfl) ?_
          refine lv_dup hx hb dX4_see_26 rfl ?_
          refine t_get C hV hT 8 (by decide) q1255 rfl dX4_see_27 ?_
          refine lv_iconst (v := 1) hx hb dX4_see_30 (by decide) ?_
          refine lv_iadd hx hb dX4_see_31 ?_
          refine t_put C hV hT 8 (by decide) q1255 (tset_8 a t _) rfl rfl dX4_see_32 (fun t_32 H locs et hT => ?_)
          have hf := lett_e et hf
          refine lv_goto (tgt := 0) hx hb dX4_see_35 (by decide) ?_
          exact ih t_32 _ _ _ hT hl hf
  have hJ38 : ∀ (t : TS) (H : Heap) (locs : List Loc) (ls : Array Slot), TH D (AT a s.heap.size) s.heap (wT d a t) H locs → lv_has ls 1 [(0, .ref (a 42))] → fX4_see_J38 N t = some w → W p l e (rm_ 0 0) s m args below meth c H locs 0 0 (MQ below (QiT D d a w.1 w.2 s.heap.size) args s 0 0 (AT a s.heap.size)) (F0 m 38 ls []) := by
    intro t H locs ls hT hl hf
    unfold fX4_see_J38 at hf
    refine lv_aload_n hx hb dX4_see_38 rfl (lv_at hl 0 rfl) ?_
    refine t_get C hV hT 8 (by decide) q1255 rfl dX4_see_39 ?_
    refine lv_aload_n hx hb dX4_see_42 rfl (lv_at hl 0 rfl) ?_
    refine t_get C hV hT 1 (by decide) q1248 rfl dX4_see_43 ?_
    refine lv_icmp_ge (tgt := 65) hx hb dX4_see_46 (by decide) (fun hc => ?_) (fun hc => ?_)
    · have hf := ite_t hc hf
      refine lv_iconst (v := -1) hx hb dX4_see_65 (by decide) ?_
      exact t_iret C hT hf hr hlocks dX4_see_66
    · have hf := ite_f hc hf
      refine lv_aload_n hx hb dX4_see_49 rfl (lv_at hl 0 rfl) ?_
      refine t_get C hV hT 0 (by decide) q1247 rfl dX4_see_50 ?_
      refine lv_aload_n hx hb dX4_see_53 rfl (lv_at hl 0 rfl) ?_
      refine t_get C hV hT 8 (by decide) q1255 rfl dX4_see_54 ?_
      obtain ⟨hi, hf⟩ := ix_e hf
      refine g_bld C hV hT 1 _ rfl hi rfl dX4_see_57 ?_
      refine lv_sipush (v := 255) hx hb dX4_see_58 (by decide) ?_
      refine lv_iand hx hb dX4_see_61 ?_
      refine lv_goto (tgt := 66) hx hb dX4_see_62 (by decide) ?_
      exact t_iret C hT hf hr hlocks dX4_see_66
  refine W.eq (by rw [hargs]) (t_in (vs := [.ref (a 42)]) (n := 1) (Nat.le_of_ble_eq_true rfl) (fun ls hl => ?_))
  have hl : lv_has ls 1 [(0, .ref (a 42))] := hl
  unfold fX4_see at hf
  skip
  refine hL0 _ (fun t H locs ls hT hl hf => ?_) N t _ _ _ hT hl hf
  exact hJ38 t _ _ _ hT hl hf
def fX4_isLetter (N : Nat) (t : TS) (x1 : Int32) : Option (Int32 × TS) :=
  (if (t.1 1) ≤ x1 then (some ((0 : Int32), t)) else (ix x1 400 (if (t.2.1 0 (x1).toNatClampNeg) < (97 : Int32) then (some ((0 : Int32), t)) else (ix x1 400 (if (122 : Int32) < (t.2.1 0 (x1).toNatClampNeg) then (some ((0 : Int32), t)) else (some ((1 : Int32), t)))))))
theorem hdX4_isLetter : yX4_isLetter.cls = RX4 ∧ yX4_isLetter.cls ≠ "java/lang/invoke/MethodHandle" ∧ yX4_isLetter.cls ≠ "java/lang/invoke/VarHandle" ∧ (parseMethodDescriptor yX4_isLetter.desc).map (fun d => d.parameters.length) = some 1 := by decide +kernel
set_option maxHeartbeats 4000000 in
theorem mX4_isLetter (l : Launch) (D : va_G) (d : Nat → ClassId) (a : Nat → Nat) (N : Nat) (t : TS) (x1 : Int32) (w : Int32 × TS) (hf : fX4_isLetter N t x1 = some w) (sz : Nat) : Met l yX4_isLetter (ws_ yX4_isLetter cX4_isLetter 2 (some .boolean)) (rm_ 0 0) (PcT D d a [.int x1] t sz) (QiT D d a w.1 w.2 sz) 0 0 (AT a sz) := by
  refine Met.ofW (cc := cX4_isLetter) (maxL := 2) (ret := (some .boolean)) plX4 rfl ?_
  intro p e s m args below meth c s₁ B hml hv
  obtain ⟨C, hV, hT, hr, hlocks, hargs, rfl⟩ := t_enter B hml rfl hv
  have hx := C.1
  have hb := C.2.1
  show W p l e (rm_ 0 0) s m args below meth c s.heap [] 0 0 (MQ below (QiT D d a w.1 w.2 s.heap.size) args s 0 0 (AT a s.heap.size)) _
  refine W.eq (by rw [hargs]) (t_in (vs := [.ref (a 42), .int x1]) (n := 2) (Nat.le_of_ble_eq_true rfl) (fun ls hl => ?_))
  have hl : lv_has ls 2 [(0, .ref (a 42)), (1, .int x1)] := hl
  unfold fX4_isLetter at hf
  skip
  refine lv_iload_n hx hb dX4_isLetter_0 rfl (lv_at hl 1 rfl) ?_
  refine lv_aload_n hx hb dX4_isLetter_1 rfl (lv_at hl 0 rfl) ?_
  refine t_get C hV hT 1 (by decide) q1248 rfl dX4_isLetter_2 ?_
  refine lv_icmp_ge (tgt := 34) hx hb dX4_isLetter_5 (by decide) (fun hc => ?_) (fun hc => ?_)
  · have hf := ite_t hc hf
    refine lv_iconst (v := 0) hx hb dX4_isLetter_34 (by decide) ?_
    exact t_zret C hT hf (Or.inl rfl) hr hlocks dX4_isLetter_35
  · have hf := ite_f hc hf
    refine lv_aload_n hx hb dX4_isLetter_8 rfl (lv_at hl 0 rfl) ?_
    refine t_get C hV hT 0 (by decide) q1247 rfl dX4_isLetter_9 ?_
    refine lv_iload_n hx hb dX4_isLetter_12 rfl (lv_at hl 1 rfl) ?_
    obtain ⟨hi, hf⟩ := ix_e hf
    refine g_bld C hV hT 1 _ rfl hi rfl dX4_isLetter_13 ?_
    refine lv_bipush (v := 97) hx hb dX4_isLetter_14 (by decide) ?_
    refine lv_icmp_lt (tgt := 34) hx hb dX4_isLetter_16 (by decide) (fun hc => ?_) (fun hc => ?_)
    · have hf := ite_t hc hf
      refine lv_iconst (v := 0) hx hb dX4_isLetter_34 (by decide) ?_
      exact t_zret C hT hf (Or.inl rfl) hr hlocks dX4_isLetter_35
    · have hf := ite_f hc hf
      refine lv_aload_n hx hb dX4_isLetter_19 rfl (lv_at hl 0 rfl) ?_
      refine t_get C hV hT 0 (by decide) q1247 rfl dX4_isLetter_20 ?_
      refine lv_iload_n hx hb dX4_isLetter_23 rfl (lv_at hl 1 rfl) ?_
      obtain ⟨hi, hf⟩ := ix_e hf
      refine g_bld C hV hT 1 _ rfl hi rfl dX4_isLetter_24 ?_
      refine lv_bipush (v := 122) hx hb dX4_isLetter_25 (by decide) ?_
      refine lv_icmp_gt (tgt := 34) hx hb dX4_isLetter_27 (by decide) (fun hc => ?_) (fun hc => ?_)
      · have hf := ite_t hc hf
        refine lv_iconst (v := 0) hx hb dX4_isLetter_34 (by decide) ?_
        exact t_zret C hT hf (Or.inl rfl) hr hlocks dX4_isLetter_35
      · have hf := ite_f hc hf
        refine lv_iconst (v := 1) hx hb dX4_isLetter_30 (by decide) ?_
        refine lv_goto (tgt := 35) hx hb dX4_isLetter_31 (by decide) ?_
        exact t_zret C hT hf (Or.inr rfl) hr hlocks dX4_isLetter_35
def fX4_isWord_B10 (N : Nat) (K : TS → Int64 → Int64 → Int32 → Option (Int32 × TS)) (kb : TS → Int64 → Int64 → Int32 → Option (Int32 × TS)) (t : TS) (x1 : Int64) (x3 : Int64) (x5 : Int32) : Option (Int32 × TS) :=
  ((fX4_isLetter N t ((t.1 8) + x5)).bind fun w_18 => (if w_18.1 = 0 then (K w_18.2 x1 x3 x5) else (if (12 : Int32) ≤ x5 then (lett (x5 + (1 : Int32)) fun x5_52 => (kb w_18.2 x1 x3 x5_52)) else (ix ((w_18.2.1 8) + x5) 400 (lett ((x3 <<< (((5 : Int32)).toInt64 &&& 63)) ||| (((w_18.2.2.1 0 (((w_18.2.1 8) + x5)).toNatClampNeg) &&& (31 : Int32))).toInt64) fun x3_51 => (lett (x5 + (1 : Int32)) fun x5_52 => (kb w_18.2 x1 x3_51 x5_52)))))))
def fX4_isWord_L10 (N : Nat) (K : TS → Int64 → Int64 → Int32 → Option (Int32 × TS)) : Nat → TS → Int64 → Int64 → Int32 → Option (Int32 × TS)
  | 0 => fun _ _ _ _ => none
  | n + 1 => fun t x1 x3 x5 => fX4_isWord_B10 N K (fX4_isWord_L10 N K n) t x1 x3 x5
def fX4_isWord (N : Nat) (t : TS) (x1 : Int64) : Option (Int32 × TS) :=
  ((fX4_see N t ).bind fun w_1 => (fX4_isWord_L10 N (fun t x1 x3 x5 => (if x5 ≤ 0 then (some ((0 : Int32), t)) else (if (13 : Int32) ≤ x5 then (some ((0 : Int32), t)) else (if ¬ (lg_cmp x3 x1) = 0 then (some ((0 : Int32), t)) else (some ((1 : Int32), t)))))) N w_1.2 x1 (0 : Int64) (0 : Int32)))
theorem hdX4_isWord : yX4_isWord.cls = RX4 ∧ yX4_isWord.cls ≠ "java/lang/invoke/MethodHandle" ∧ yX4_isWord.cls ≠ "java/lang/invoke/VarHandle" ∧ (parseMethodDescriptor yX4_isWord.desc).map (fun d => d.parameters.length) = some 1 := by decide +kernel
set_option maxHeartbeats 4000000 in
theorem mX4_isWord (l : Launch) (D : va_G) (d : Nat → ClassId) (a : Nat → Nat) (N : Nat) (t : TS) (x1 : Int64) (w : Int32 × TS) (hf : fX4_isWord N t x1 = some w) (sz : Nat) : Met l yX4_isWord (ws_ yX4_isWord cX4_isWord 6 (some .boolean)) (rm_ 1 21) (PcT D d a [.long x1] t sz) (QiT D d a w.1 w.2 sz) 0 0 (AT a sz) := by
  refine Met.ofW (cc := cX4_isWord) (maxL := 6) (ret := (some .boolean)) plX4 rfl ?_
  intro p e s m args below meth c s₁ B hml hv
  obtain ⟨C, hV, hT, hr, hlocks, hargs, rfl⟩ := t_enter B hml rfl hv
  have hx := C.1
  have hb := C.2.1
  show W p l e (rm_ 1 21) s m args below meth c s.heap [] 0 0 (MQ below (QiT D d a w.1 w.2 s.heap.size) args s 0 0 (AT a s.heap.size)) _
  have hL10 : ∀ (K : TS → Int64 → Int64 → Int32 → Option (Int32 × TS)), (∀ (t : TS) (x1 : Int64) (x3 : Int64) (x5 : Int32) (H : Heap) (locs : List Loc) (ls : Array Slot), TH D (AT a s.heap.size) s.heap (wT d a t) H locs → lv_has ls 6 [(1, .long x1), (3, .long x3), (5, .int x5)] → K t x1 x3 x5 = some w → W p l e (rm_ 1 21) s m args below meth c H locs 0 0 (MQ below (QiT D d a w.1 w.2 s.heap.size) args s 0 0 (AT a s.heap.size)) (F0 m 58 ls [])) → ∀ (n : Nat) (t : TS) (x1 : Int64) (x3 : Int64) (x5 : Int32) (H : Heap) (locs : List Loc) (ls : Array Slot), TH D (AT a s.heap.size) s.heap (wT d a t) H locs → lv_has ls 6 [(0, .ref (a 42)), (1, .long x1), (3, .long x3), (5, .int x5)] → fX4_isWord_L10 N K n t x1 x3 x5 = some w → W p l e (rm_ 1 21) s m args below meth c H locs 0 0 (MQ below (QiT D d a w.1 w.2 s.heap.size) args s 0 0 (AT a s.heap.size)) (F0 m 10 ls []) := by
    intro K hE n
    induction n with
    | zero =>
      intro t x1 x3 x5 H locs ls hT hl hf
      cases hf
    | succ n ih =>
      intro t x1 x3 x5 H locs ls hT hl hf
      replace hf : fX4_isWord_B10 N K (fX4_isWord_L10 N K n) t x1 x3 x5 = some w := hf
      unfold fX4_isWord_B10 at hf
      refine lv_aload_n hx hb dX4_isWord_10 rfl (lv_at hl 0 rfl) ?_
      refine lv_aload_n hx hb dX4_isWord_11 rfl (lv_at hl 0 rfl) ?_
      refine t_get C hV hT 8 (by decide) q1255 rfl dX4_isWord_12 ?_
      refine lv_iload hx hb dX4_isWord_15 (lv_at hl 3 rfl) ?_
      refine lv_iadd hx hb dX4_isWord_17 ?_
      obtain ⟨w_18, h_18, hf⟩ := bind_e hf
      refine t_calli (vs := [.int ((t.1 8) + x5)]) (rest := []) C hV hT (fun sz => mX4_isLetter l D d a N t ((t.1 8) + x5) _ h_18 sz) (cwV 1 C.2.2.2.2 (lw_V q1412 q1414 qs50 q129 q1415) rfl rfl rfl hdX4_isLetter ⟨Nat.le_of_ble_eq_true rfl, Nat.le_of_ble_eq_true rfl⟩) rfl hl.1 rfl (Nat.le_of_ble_eq_true rfl) dX4_isWord_18 (fun H locs hT => ?_)
      refine lv_if_eq (tgt := 58) hx hb dX4_isWord_21 (by decide) (fun hc => ?_) (fun hc => ?_)
      · have hf := ite_t hc hf
        exact hE w_18.2 x1 x3 x5 _ _ _ hT (lv_sub hl [1, 2, 3] rfl) hf
      · have hf := ite_f hc hf
        refine lv_iload hx hb dX4_isWord_24 (lv_at hl 3 rfl) ?_
        refine lv_bipush (v := 12) hx hb dX4_isWord_26 (by decide) ?_
        refine lv_icmp_ge (tgt := 52) hx hb dX4_isWord_28 (by decide) (fun hc => ?_) (fun hc => ?_)
        · have hf := ite_t hc hf
          obtain ⟨x5_52, ex⟩ : ∃ y : Int32, y = (x5 + (1 : Int32)) := ⟨_, rfl⟩
          have hf := lett_e ex hf
          refine lv_iinc (v := x5_52) (lv' := [(5, .int x5_52), (0, .ref (a 42)), (1, .long x1), (3, .long x3)]) hx hb dX4_isWord_52 hl (k := 3) rfl (by rw [ex]; rfl) (by decide) rfl (fun ls hl => ?_)
          refine lv_goto (tgt := 10) hx hb dX4_isWord_55 (by decide) ?_
          exact ih w_18.2 x1 x3 x5_52 _ _ _ hT (lv_sub hl [1, 2, 3, 0] rfl) hf
        · have hf := ite_f hc hf
          refine lv_lload_n hx hb dX4_isWord_31 rfl (lv_at hl 2 rfl) ?_
          refine lv_iconst (v := 5) hx hb dX4_isWord_32 (by decide) ?_
          refine lv_lshl hx hb dX4_isWord_33 rfl ?_
          refine lv_aload_n hx hb dX4_isWord_34 rfl (lv_at hl 0 rfl) ?_
          refine t_get C hV hT 0 (by decide) q1247 rfl dX4_isWord_35 ?_
          refine lv_aload_n hx hb dX4_isWord_38 rfl (lv_at hl 0 rfl) ?_
          refine t_get C hV hT 8 (by decide) q1255 rfl dX4_isWord_39 ?_
          refine lv_iload hx hb dX4_isWord_42 (lv_at hl 3 rfl) ?_
          refine lv_iadd hx hb dX4_isWord_44 ?_
          obtain ⟨hi, hf⟩ := ix_e hf
          refine g_bld C hV hT 1 _ rfl hi rfl dX4_isWord_45 ?_
          refine lv_bipush (v := 31) hx hb dX4_isWord_46 (by decide) ?_
          refine lv_iand hx hb dX4_isWord_48 ?_
          refine lv_i2l hx hb dX4_isWord_49 rfl ?_
          refine lv_lor hx hb dX4_isWord_50 ?_
          refine lv_topl (fun x3_51 ex => ?_)
          have hf := lett_e ex hf
          refine lv_lstore_n (lv' := [(3, .long x3_51), (0, .ref (a 42)), (1, .long x1), (5, .int x5)]) hx hb dX4_isWord_51 rfl hl (by decide) rfl (fun ls hl => ?_)
          obtain ⟨x5_52, ex⟩ : ∃ y : Int32, y = (x5 + (1 : Int32)) := ⟨_, rfl⟩
          have hf := lett_e ex hf
          refine lv_iinc (v := x5_52) (lv' := [(5, .int x5_52), (3, .long x3_51), (0, .ref (a 42)), (1, .long x1)]) hx hb dX4_isWord_52 hl (k := 3) rfl (by rw [ex]; rfl) (by decide) rfl (fun ls hl => ?_)
          refine lv_goto (tgt := 10) hx hb dX4_isWord_55 (by decide) ?_
          exact ih w_18.2 x1 x3_51 x5_52 _ _ _ hT (lv_sub hl [2, 3, 1, 0] rfl) hf
  refine W.eq (by rw [hargs]) (t_in (vs := [.ref (a 42), .long x1]) (n := 6) (Nat.le_of_ble_eq_true rfl) (fun ls hl => ?_))
  have hl : lv_has ls 6 [(0, .ref (a 42)), (1, .long x1)] := hl
  unfold fX4_isWord at hf
  skip
  refine lv_aload_n hx hb dX4_isWord_0 rfl (lv_at hl 0 rfl) ?_
  obtain ⟨w_1, h_1, hf⟩ := bind_e hf
  refine t_calli (vs := []) (rest := []) C hV hT (fun sz => mX4_see l D d a N t  _ h_1 sz) (cwV 0 C.2.2.2.2 (lw_V q1399 q1401 qs47 q129 q1402) rfl rfl rfl hdX4_see ⟨Nat.le_of_ble_eq_true rfl, Nat.le_of_ble_eq_true rfl⟩) rfl hl.1 rfl (Nat.le_of_ble_eq_true rfl) dX4_isWord_1 (fun H locs hT => ?_)
  refine lv_pop hx hb dX4_isWord_4 rfl ?_
  refine lv_lconst (v := 0) hx hb dX4_isWord_5 (by decide) ?_
  refine lv_lstore_n (lv' := [(3, .long (0 : Int64)), (0, .ref (a 42)), (1, .long x1)]) hx hb dX4_isWord_6 rfl hl (by decide) rfl (fun ls hl => ?_)
  refine lv_iconst (v := 0) hx hb dX4_isWord_7 (by decide) ?_
  refine lv_istore (lv' := [(5, .int (0 : Int32)), (3, .long (0 : Int64)), (0, .ref (a 42)), (1, .long x1)]) hx hb dX4_isWord_8 hl (by decide) rfl (fun ls hl => ?_)
  refine hL10 _ (fun t x1 x3 x5 H locs ls hT hl hf => ?_) N w_1.2 x1 (0 : Int64) (0 : Int32) _ _ _ hT (lv_sub hl [2, 3, 1, 0] rfl) hf
  refine lv_iload hx hb dX4_isWord_58 (lv_at hl 2 rfl) ?_
  refine lv_if_le (tgt := 80) hx hb dX4_isWord_60 (by decide) (fun hc => ?_) (fun hc => ?_)
  · have hf := ite_t hc hf
    refine lv_iconst (v := 0) hx hb dX4_isWord_80 (by decide) ?_
    exact t_zret C hT hf (Or.inl rfl) hr hlocks dX4_isWord_81
  · have hf := ite_f hc hf
    refine lv_iload hx hb dX4_isWord_63 (lv_at hl 2 rfl) ?_
    refine lv_bipush (v := 13) hx hb dX4_isWord_65 (by decide) ?_
    refine lv_icmp_ge (tgt := 80) hx hb dX4_isWord_67 (by decide) (fun hc => ?_) (fun hc => ?_)
    · have hf := ite_t hc hf
      refine lv_iconst (v := 0) hx hb dX4_isWord_80 (by decide) ?_
      exact t_zret C hT hf (Or.inl rfl) hr hlocks dX4_isWord_81
    · have hf := ite_f hc hf
      refine lv_lload_n hx hb dX4_isWord_70 rfl (lv_at hl 1 rfl) ?_
      refine lv_lload_n hx hb dX4_isWord_71 rfl (lv_at hl 0 rfl) ?_
      refine W.lcmp hx hb dX4_isWord_72 ?_
      refine lv_if_ne (tgt := 80) hx hb dX4_isWord_73 (by decide) (fun hc => ?_) (fun hc => ?_)
      · have hf := ite_t hc hf
        refine lv_iconst (v := 0) hx hb dX4_isWord_80 (by decide) ?_
        exact t_zret C hT hf (Or.inl rfl) hr hlocks dX4_isWord_81
      · have hf := ite_f (fun q => q hc) hf
        refine lv_iconst (v := 1) hx hb dX4_isWord_76 (by decide) ?_
        refine lv_goto (tgt := 81) hx hb dX4_isWord_77 (by decide) ?_
        exact t_zret C hT hf (Or.inr rfl) hr hlocks dX4_isWord_81
def fX4_isJunctionWord (N : Nat) (t : TS) : Option (Int32 × TS) :=
  ((fX4_isWord N t (366619534830 : Int64)).bind fun w_4 => (if ¬ w_4.1 = 0 then (some ((1 : Int32), w_4.2)) else ((fX4_isWord N w_4.2 (605220 : Int64)).bind fun w_14 => (if ¬ w_14.1 = 0 then (some ((1 : Int32), w_14.2)) else ((fX4_isWord N w_14.2 (3540584 : Int64)).bind fun w_24 => (if ¬ w_24.1 = 0 then (some ((1 : Int32), w_24.2)) else ((fX4_isWord N w_24.2 (20037189 : Int64)).bind fun w_34 => (if w_34.1 = 0 then (some ((0 : Int32), w_34.2)) else (some ((1 : Int32), w_34.2))))))))))
theorem hdX4_isJunctionWord : yX4_isJunctionWord.cls = RX4 ∧ yX4_isJunctionWord.cls ≠ "java/lang/invoke/MethodHandle" ∧ yX4_isJunctionWord.cls ≠ "java/lang/invoke/VarHandle" ∧ (parseMethodDescriptor yX4_isJunctionWord.desc).map (fun d => d.parameters.length) = some 0 := by decide +kernel
set_option maxHeartbeats 4000000 in
theorem mX4_isJunctionWord (l : Launch) (D : va_G) (d : Nat → ClassId) (a : Nat → Nat) (N : Nat) (t : TS) (w : Int32 × TS) (hf : fX4_isJunctionWord N t = some w) (sz : Nat) : Met l yX4_isJunctionWord (ws_ yX4_isJunctionWord cX4_isJunctionWord 1 (some .boolean)) (rm_ 2 46) (PcT D d a [] t sz) (QiT D d a w.1 w.2 sz) 0 0 (AT a sz) := by
  refine Met.ofW (cc := cX4_isJunctionWord) (maxL := 1) (ret := (some .boolean)) plX4 rfl ?_
  intro p e s m args below meth c s₁ B hml hv
  obtain ⟨C, hV, hT, hr, hlocks, hargs, rfl⟩ := t_enter B hml rfl hv
  have hx := C.1
  have hb := C.2.1
  show W p l e (rm_ 2 46) s m args below meth c s.heap [] 0 0 (MQ below (QiT D d a w.1 w.2 s.heap.size) args s 0 0 (AT a s.heap.size)) _
  refine W.eq (by rw [hargs]) (t_in (vs := [.ref (a 42)]) (n := 1) (Nat.le_of_ble_eq_true rfl) (fun ls hl => ?_))
  have hl : lv_has ls 1 [(0, .ref (a 42))] := hl
  unfold fX4_isJunctionWord at hf
  skip
  refine lv_aload_n hx hb dX4_isJunctionWord_0 rfl (lv_at hl 0 rfl) ?_
  refine g_ldc2 (v := 366619534830) C q1407 dX4_isJunctionWord_1 ?_
  obtain ⟨w_4, h_4, hf⟩ := bind_e hf
  refine t_calli (vs := [.long (366619534830 : Int64)]) (rest := []) C hV hT (fun sz => mX4_isWord l D d a N t (366619534830 : Int64) _ h_4 sz) (cwV 1 C.2.2.2.2 (lw_V q1408 q1410 qs49 q129 q1411) rfl rfl rfl hdX4_isWord ⟨Nat.le_of_ble_eq_true rfl, Nat.le_of_ble_eq_true rfl⟩) rfl hl.1 rfl (Nat.le_of_ble_eq_true rfl) dX4_isJunctionWord_4 (fun H locs hT => ?_)
  refine lv_if_ne (tgt := 40) hx hb dX4_isJunctionWord_7 (by decide) (fun hc => ?_) (fun hc => ?_)
  · have hf := ite_t hc hf
    refine lv_iconst (v := 1) hx hb dX4_isJunctionWord_40 (by decide) ?_
    refine lv_goto (tgt := 45) hx hb dX4_isJunctionWord_41 (by decide) ?_
    exact t_zret C hT hf (Or.inr rfl) hr hlocks dX4_isJunctionWord_45
  · have hf := ite_f (fun q => q hc) hf
    refine lv_aload_n hx hb dX4_isJunctionWord_10 rfl (lv_at hl 0 rfl) ?_
    refine g_ldc2 (v := 605220) C q1416 dX4_isJunctionWord_11 ?_
    obtain ⟨w_14, h_14, hf⟩ := bind_e hf
    refine t_calli (vs := [.long (605220 : Int64)]) (rest := []) C hV hT (fun sz => mX4_isWord l D d a N w_4.2 (605220 : Int64) _ h_14 sz) (cwV 1 C.2.2.2.2 (lw_V q1408 q1410 qs49 q129 q1411) rfl rfl rfl hdX4_isWord ⟨Nat.le_of_ble_eq_true rfl, Nat.le_of_ble_eq_true rfl⟩) rfl hl.1 rfl (Nat.le_of_ble_eq_true rfl) dX4_isJunctionWord_14 (fun H locs hT => ?_)
    refine lv_if_ne (tgt := 40) hx hb dX4_isJunctionWord_17 (by decide) (fun hc => ?_) (fun hc => ?_)
    · have hf := ite_t hc hf
      refine lv_iconst (v := 1) hx hb dX4_isJunctionWord_40 (by decide) ?_
      refine lv_goto (tgt := 45) hx hb dX4_isJunctionWord_41 (by decide) ?_
      exact t_zret C hT hf (Or.inr rfl) hr hlocks dX4_isJunctionWord_45
    · have hf := ite_f (fun q => q hc) hf
      refine lv_aload_n hx hb dX4_isJunctionWord_20 rfl (lv_at hl 0 rfl) ?_
      refine g_ldc2 (v := 3540584) C q1417 dX4_isJunctionWord_21 ?_
      obtain ⟨w_24, h_24, hf⟩ := bind_e hf
      refine t_calli (vs := [.long (3540584 : Int64)]) (rest := []) C hV hT (fun sz => mX4_isWord l D d a N w_14.2 (3540584 : Int64) _ h_24 sz) (cwV 1 C.2.2.2.2 (lw_V q1408 q1410 qs49 q129 q1411) rfl rfl rfl hdX4_isWord ⟨Nat.le_of_ble_eq_true rfl, Nat.le_of_ble_eq_true rfl⟩) rfl hl.1 rfl (Nat.le_of_ble_eq_true rfl) dX4_isJunctionWord_24 (fun H locs hT => ?_)
      refine lv_if_ne (tgt := 40) hx hb dX4_isJunctionWord_27 (by decide) (fun hc => ?_) (fun hc => ?_)
      · have hf := ite_t hc hf
        refine lv_iconst (v := 1) hx hb dX4_isJunctionWord_40 (by decide) ?_
        refine lv_goto (tgt := 45) hx hb dX4_isJunctionWord_41 (by decide) ?_
        exact t_zret C hT hf (Or.inr rfl) hr hlocks dX4_isJunctionWord_45
      · have hf := ite_f (fun q => q hc) hf
        refine lv_aload_n hx hb dX4_isJunctionWord_30 rfl (lv_at hl 0 rfl) ?_
        refine g_ldc2 (v := 20037189) C q1418 dX4_isJunctionWord_31 ?_
        obtain ⟨w_34, h_34, hf⟩ := bind_e hf
        refine t_calli (vs := [.long (20037189 : Int64)]) (rest := []) C hV hT (fun sz => mX4_isWord l D d a N w_24.2 (20037189 : Int64) _ h_34 sz) (cwV 1 C.2.2.2.2 (lw_V q1408 q1410 qs49 q129 q1411) rfl rfl rfl hdX4_isWord ⟨Nat.le_of_ble_eq_true rfl, Nat.le_of_ble_eq_true rfl⟩) rfl hl.1 rfl (Nat.le_of_ble_eq_true rfl) dX4_isJunctionWord_34 (fun H locs hT => ?_)
        refine lv_if_eq (tgt := 44) hx hb dX4_isJunctionWord_37 (by decide) (fun hc => ?_) (fun hc => ?_)
        · have hf := ite_t hc hf
          refine lv_iconst (v := 0) hx hb dX4_isJunctionWord_44 (by decide) ?_
          exact t_zret C hT hf (Or.inl rfl) hr hlocks dX4_isJunctionWord_45
        · have hf := ite_f hc hf
          refine lv_iconst (v := 1) hx hb dX4_isJunctionWord_40 (by decide) ?_
          refine lv_goto (tgt := 45) hx hb dX4_isJunctionWord_41 (by decide) ?_
          exact t_zret C hT hf (Or.inr rfl) hr hlocks dX4_isJunctionWord_45
def fX4_fails (N : Nat) (t : TS) (x1 : Int32) (x2 : Int32) : Option (Int32 × TS) :=
  (if ¬ (t.1 9) = 0 then (some ((0 : Int32), t)) else (lett (tsI t 9 (((1 : Int32) + ((8 : Int32) * x2)) + x1)) fun t_16 => (some ((0 : Int32), t_16))))
theorem hdX4_fails : yX4_fails.cls = RX4 ∧ yX4_fails.cls ≠ "java/lang/invoke/MethodHandle" ∧ yX4_fails.cls ≠ "java/lang/invoke/VarHandle" ∧ (parseMethodDescriptor yX4_fails.desc).map (fun d => d.parameters.length) = some 2 := by decide +kernel
set_option maxHeartbeats 4000000 in
theorem mX4_fails (l : Launch) (D : va_G) (d : Nat → ClassId) (a : Nat → Nat) (N : Nat) (t : TS) (x1 : Int32) (x2 : Int32) (w : Int32 × TS) (hf : fX4_fails N t x1 x2 = some w) (sz : Nat) : Met l yX4_fails (ws_ yX4_fails cX4_fails 3 (some .boolean)) (rm_ 0 0) (PcT D d a [.int x1, .int x2] t sz) (QiT D d a w.1 w.2 sz) 0 0 (AT a sz) := by
  refine Met.ofW (cc := cX4_fails) (maxL := 3) (ret := (some .boolean)) plX4 rfl ?_
  intro p e s m args below meth c s₁ B hml hv
  obtain ⟨C, hV, hT, hr, hlocks, hargs, rfl⟩ := t_enter B hml rfl hv
  have hx := C.1
  have hb := C.2.1
  show W p l e (rm_ 0 0) s m args below meth c s.heap [] 0 0 (MQ below (QiT D d a w.1 w.2 s.heap.size) args s 0 0 (AT a s.heap.size)) _
  refine W.eq (by rw [hargs]) (t_in (vs := [.ref (a 42), .int x1, .int x2]) (n := 3) (Nat.le_of_ble_eq_true rfl) (fun ls hl => ?_))
  have hl : lv_has ls 3 [(0, .ref (a 42)), (1, .int x1), (2, .int x2)] := hl
  unfold fX4_fails at hf
  skip
  refine lv_aload_n hx hb dX4_fails_0 rfl (lv_at hl 0 rfl) ?_
  refine t_get C hV hT 9 (by decide) q1256 rfl dX4_fails_1 ?_
  refine lv_if_ne (tgt := 19) hx hb dX4_fails_4 (by decide) (fun hc => ?_) (fun hc => ?_)
  · have hf := ite_t hc hf
    refine lv_iconst (v := 0) hx hb dX4_fails_19 (by decide) ?_
    exact t_zret C hT hf (Or.inl rfl) hr hlocks dX4_fails_20
  · have hf := ite_f (fun q => q hc) hf
    refine lv_aload_n hx hb dX4_fails_7 rfl (lv_at hl 0 rfl) ?_
    refine lv_iconst (v := 1) hx hb dX4_fails_8 (by decide) ?_
    refine lv_bipush (v := 8) hx hb dX4_fails_9 (by decide) ?_
    refine lv_iload_n hx hb dX4_fails_11 rfl (lv_at hl 2 rfl) ?_
    refine lv_imul hx hb dX4_fails_12 ?_
    refine lv_iadd hx hb dX4_fails_13 ?_
    refine lv_iload_n hx hb dX4_fails_14 rfl (lv_at hl 1 rfl) ?_
    refine lv_iadd hx hb dX4_fails_15 ?_
    refine t_put C hV hT 9 (by decide) q1256 (tset_9 a t _) rfl rfl dX4_fails_16 (fun t_16 H locs et hT => ?_)
    have hf := lett_e et hf
    refine lv_iconst (v := 0) hx hb dX4_fails_19 (by decide) ?_
    exact t_zret C hT hf (Or.inl rfl) hr hlocks dX4_fails_20
def fX4_passWord_B0 (N : Nat) (K : TS → Option (TS)) (kb : TS → Option (TS)) (t : TS) : Option (TS) :=
  ((fX4_isLetter N t (t.1 8)).bind fun w_5 => (if w_5.1 = 0 then (K w_5.2) else (lett (tsI w_5.2 8 ((w_5.2.1 8) + (1 : Int32))) fun t_18 => (kb t_18))))
def fX4_passWord_L0 (N : Nat) (K : TS → Option (TS)) : Nat → TS → Option (TS)
  | 0 => fun _ => none
  | n + 1 => fun t => fX4_passWord_B0 N K (fX4_passWord_L0 N K n) t
def fX4_passWord (N : Nat) (t : TS) : Option (TS) :=
  (fX4_passWord_L0 N (fun t => (some t)) N t)
theorem hdX4_passWord : yX4_passWord.cls = RX4 ∧ yX4_passWord.cls ≠ "java/lang/invoke/MethodHandle" ∧ yX4_passWord.cls ≠ "java/lang/invoke/VarHandle" ∧ (parseMethodDescriptor yX4_passWord.desc).map (fun d => d.parameters.length) = some 0 := by decide +kernel
set_option maxHeartbeats 4000000 in
theorem mX4_passWord (l : Launch) (D : va_G) (d : Nat → ClassId) (a : Nat → Nat) (N : Nat) (t : TS) (w : TS) (hf : fX4_passWord N t = some w) (sz : Nat) : Met l yX4_passWord (ws_ yX4_passWord cX4_passWord 1 none) (rm_ 1 21) (PcT D d a [] t sz) (QvT D d a w sz) 0 0 (AT a sz) := by
  refine Met.ofW (cc := cX4_passWord) (maxL := 1) (ret := none) plX4 rfl ?_
  intro p e s m args below meth c s₁ B hml hv
  obtain ⟨C, hV, hT, hr, hlocks, hargs, rfl⟩ := t_enter B hml rfl hv
  have hx := C.1
  have hb := C.2.1
  show W p l e (rm_ 1 21) s m args below meth c s.heap [] 0 0 (MQ below (QvT D d a w s.heap.size) args s 0 0 (AT a s.heap.size)) _
  have hL0 : ∀ (K : TS → Option (TS)), (∀ (t : TS) (H : Heap) (locs : List Loc) (ls : Array Slot), TH D (AT a s.heap.size) s.heap (wT d a t) H locs → lv_has ls 1 [] → K t = some w → W p l e (rm_ 1 21) s m args below meth c H locs 0 0 (MQ below (QvT D d a w s.heap.size) args s 0 0 (AT a s.heap.size)) (F0 m 24 ls [])) → ∀ (n : Nat) (t : TS) (H : Heap) (locs : List Loc) (ls : Array Slot), TH D (AT a s.heap.size) s.heap (wT d a t) H locs → lv_has ls 1 [(0, .ref (a 42))] → fX4_passWord_L0 N K n t = some w → W p l e (rm_ 1 21) s m args below meth c H locs 0 0 (MQ below (QvT D d a w s.heap.size) args s 0 0 (AT a s.heap.size)) (F0 m 0 ls []) := by
    intro K hE n
    induction n with
    | zero =>
      intro t H locs ls hT hl hf
      cases hf
    | succ n ih =>
      intro t H locs ls hT hl hf
      replace hf : fX4_passWord_B0 N K (fX4_passWord_L0 N K n) t = some w := hf
      unfold fX4_passWord_B0 at hf
      refine lv_aload_n hx hb dX4_passWord_0 rfl (lv_at hl 0 rfl) ?_
      refine lv_aload_n hx hb dX4_passWord_1 rfl (lv_at hl 0 rfl) ?_
      refine t_get C hV hT 8 (by decide) q1255 rfl dX4_passWord_2 ?_
      obtain ⟨w_5, h_5, hf⟩ := bind_e hf
      refine t_calli (vs := [.int (t.1 8)]) (rest := []) C hV hT (fun sz => mX4_isLetter l D d a N t (t.1 8) _ h_5 sz) (cwV 1 C.2.2.2.2 (lw_V q1412 q1414 qs50 q129 q1415) rfl rfl rfl hdX4_isLetter ⟨Nat.le_of_ble_eq_true rfl, Nat.le_of_ble_eq_true rfl⟩) rfl hl.1 rfl (Nat.le_of_ble_eq_true rfl) dX4_passWord_5 (fun H locs hT => ?_)
      refine lv_if_eq (tgt := 24) hx hb dX4_passWord_8 (by decide) (fun hc => ?_) (fun hc => ?_)
      · have hf := ite_t hc hf
        exact hE w_5.2 _ _ _ hT (lv_sub hl [] rfl) hf
      · have hf := ite_f hc hf
        refine lv_aload_n hx hb dX4_passWord_11 rfl (lv_at hl 0 rfl) ?_
        refine lv_dup hx hb dX4_passWord_12 rfl ?_
        refine t_get C hV hT 8 (by decide) q1255 rfl dX4_passWord_13 ?_
        refine lv_iconst (v := 1) hx hb dX4_passWord_16 (by decide) ?_
        refine lv_iadd hx hb dX4_passWord_17 ?_
        refine t_put C hV hT 8 (by decide) q1255 (tset_8 a w_5.2 _) rfl rfl dX4_passWord_18 (fun t_18 H locs et hT => ?_)
        have hf := lett_e et hf
        refine lv_goto (tgt := 0) hx hb dX4_passWord_21 (by decide) ?_
        exact ih t_18 _ _ _ hT hl hf
  refine W.eq (by rw [hargs]) (t_in (vs := [.ref (a 42)]) (n := 1) (Nat.le_of_ble_eq_true rfl) (fun ls hl => ?_))
  have hl : lv_has ls 1 [(0, .ref (a 42))] := hl
  unfold fX4_passWord at hf
  skip
  refine hL0 _ (fun t H locs ls hT hl hf => ?_) N t _ _ _ hT hl hf
  exact t_vret C hT hf hr hlocks dX4_passWord_24
def fX4_isDigit (N : Nat) (t : TS) (x1 : Int32) : Option (Int32 × TS) :=
  (if (t.1 1) ≤ x1 then (some ((0 : Int32), t)) else (ix x1 400 (if (t.2.1 0 (x1).toNatClampNeg) < (48 : Int32) then (some ((0 : Int32), t)) else (ix x1 400 (if (57 : Int32) < (t.2.1 0 (x1).toNatClampNeg) then (some ((0 : Int32), t)) else (some ((1 : Int32), t)))))))
theorem hdX4_isDigit : yX4_isDigit.cls = RX4 ∧ yX4_isDigit.cls ≠ "java/lang/invoke/MethodHandle" ∧ yX4_isDigit.cls ≠ "java/lang/invoke/VarHandle" ∧ (parseMethodDescriptor yX4_isDigit.desc).map (fun d => d.parameters.length) = some 1 := by decide +kernel
set_option maxHeartbeats 4000000 in
theorem mX4_isDigit (l : Launch) (D : va_G) (d : Nat → ClassId) (a : Nat → Nat) (N : Nat) (t : TS) (x1 : Int32) (w : Int32 × TS) (hf : fX4_isDigit N t x1 = some w) (sz : Nat) : Met l yX4_isDigit (ws_ yX4_isDigit cX4_isDigit 2 (some .boolean)) (rm_ 0 0) (PcT D d a [.int x1] t sz) (QiT D d a w.1 w.2 sz) 0 0 (AT a sz) := by
  refine Met.ofW (cc := cX4_isDigit) (maxL := 2) (ret := (some .boolean)) plX4 rfl ?_
  intro p e s m args below meth c s₁ B hml hv
  obtain ⟨C, hV, hT, hr, hlocks, hargs, rfl⟩ := t_enter B hml rfl hv
  have hx := C.1
  have hb := C.2.1
  show W p l e (rm_ 0 0) s m args below meth c s.heap [] 0 0 (MQ below (QiT D d a w.1 w.2 s.heap.size) args s 0 0 (AT a s.heap.size)) _
  refine W.eq (by rw [hargs]) (t_in (vs := [.ref (a 42), .int x1]) (n := 2) (Nat.le_of_ble_eq_true rfl) (fun ls hl => ?_))
  have hl : lv_has ls 2 [(0, .ref (a 42)), (1, .int x1)] := hl
  unfold fX4_isDigit at hf
  skip
  refine lv_iload_n hx hb dX4_isDigit_0 rfl (lv_at hl 1 rfl) ?_
  refine lv_aload_n hx hb dX4_isDigit_1 rfl (lv_at hl 0 rfl) ?_
  refine t_get C hV hT 1 (by decide) q1248 rfl dX4_isDigit_2 ?_
  refine lv_icmp_ge (tgt := 34) hx hb dX4_isDigit_5 (by decide) (fun hc => ?_) (fun hc => ?_)
  · have hf := ite_t hc hf
    refine lv_iconst (v := 0) hx hb dX4_isDigit_34 (by decide) ?_
    exact t_zret C hT hf (Or.inl rfl) hr hlocks dX4_isDigit_35
  · have hf := ite_f hc hf
    refine lv_aload_n hx hb dX4_isDigit_8 rfl (lv_at hl 0 rfl) ?_
    refine t_get C hV hT 0 (by decide) q1247 rfl dX4_isDigit_9 ?_
    refine lv_iload_n hx hb dX4_isDigit_12 rfl (lv_at hl 1 rfl) ?_
    obtain ⟨hi, hf⟩ := ix_e hf
    refine g_bld C hV hT 1 _ rfl hi rfl dX4_isDigit_13 ?_
    refine lv_bipush (v := 48) hx hb dX4_isDigit_14 (by decide) ?_
    refine lv_icmp_lt (tgt := 34) hx hb dX4_isDigit_16 (by decide) (fun hc => ?_) (fun hc => ?_)
    · have hf := ite_t hc hf
      refine lv_iconst (v := 0) hx hb dX4_isDigit_34 (by decide) ?_
      exact t_zret C hT hf (Or.inl rfl) hr hlocks dX4_isDigit_35
    · have hf := ite_f hc hf
      refine lv_aload_n hx hb dX4_isDigit_19 rfl (lv_at hl 0 rfl) ?_
      refine t_get C hV hT 0 (by decide) q1247 rfl dX4_isDigit_20 ?_
      refine lv_iload_n hx hb dX4_isDigit_23 rfl (lv_at hl 1 rfl) ?_
      obtain ⟨hi, hf⟩ := ix_e hf
      refine g_bld C hV hT 1 _ rfl hi rfl dX4_isDigit_24 ?_
      refine lv_bipush (v := 57) hx hb dX4_isDigit_25 (by decide) ?_
      refine lv_icmp_gt (tgt := 34) hx hb dX4_isDigit_27 (by decide) (fun hc => ?_) (fun hc => ?_)
      · have hf := ite_t hc hf
        refine lv_iconst (v := 0) hx hb dX4_isDigit_34 (by decide) ?_
        exact t_zret C hT hf (Or.inl rfl) hr hlocks dX4_isDigit_35
      · have hf := ite_f hc hf
        refine lv_iconst (v := 1) hx hb dX4_isDigit_30 (by decide) ?_
        refine lv_goto (tgt := 35) hx hb dX4_isDigit_31 (by decide) ?_
        exact t_zret C hT hf (Or.inr rfl) hr hlocks dX4_isDigit_35
def fX4_in (N : Nat) (x0 : Int64) (x2 : Int64) (x4 : Int64) : Option (Int32) :=
  (if (lg_cmp x0 x2) < 0 then (some (0 : Int32)) else (if 0 < (lg_cmp x0 x4) then (some (0 : Int32)) else (some (1 : Int32))))
theorem hdX4_in : yX4_in.cls ≠ "java/lang/invoke/MethodHandle" ∧ yX4_in.cls ≠ "java/lang/invoke/VarHandle" ∧ (parseMethodDescriptor yX4_in.desc).map (fun d => d.parameters.length) = some 3 := by decide +kernel
set_option maxHeartbeats 4000000 in
theorem mX4_in (l : Launch) (N : Nat) (x0 : Int64) (x2 : Int64) (x4 : Int64) (w : Int32) (hf : fX4_in N x0 x2 x4 = some w) (sz : Nat) : Met l yX4_in (ws_ yX4_in cX4_in 6 (some .boolean)) (rm_ 0 0) (PcS [.long x0, .long x2, .long x4] sz) (QiS w sz) 0 0 (fun q => sz ≤ q) := by
  refine Met.ofW (cc := cX4_in) (maxL := 6) (ret := (some .boolean)) plX4 rfl ?_
  intro p e s m args below meth c s₁ B hml hv
  obtain ⟨C, hT, hr, hlocks, hargs, rfl⟩ := s_enter (D := db_D0) (own := RX4) B hml rfl hv
  have hx := C.1
  have hb := C.2.1
  show W p l e (rm_ 0 0) s m args below meth c s.heap [] 0 0 (MQ below (QiS w s.heap.size) args s 0 0 (fun q => s.heap.size ≤ q)) _
  refine W.eq (by rw [hargs]) (t_in (vs := [.long x0, .long x2, .long x4]) (n := 6) (Nat.le_of_ble_eq_true rfl) (fun ls hl => ?_))
  have hl : lv_has ls 6 [(0, .long x0), (2, .long x2), (4, .long x4)] := hl
  unfold fX4_in at hf
  refine lv_lload_n hx hb dX4_in_0 rfl (lv_at hl 0 rfl) ?_
  refine lv_lload_n hx hb dX4_in_1 rfl (lv_at hl 1 rfl) ?_
  refine W.lcmp hx hb dX4_in_2 ?_
  refine lv_if_lt (tgt := 17) hx hb dX4_in_3 (by decide) (fun hc => ?_) (fun hc => ?_)
  · have hf := ite_t hc hf
    refine lv_iconst (v := 0) hx hb dX4_in_17 (by decide) ?_
    exact s_zret C hT hf (Or.inl rfl) hr hlocks dX4_in_18
  · have hf := ite_f hc hf
    refine lv_lload_n hx hb dX4_in_6 rfl (lv_at hl 0 rfl) ?_
    refine lv_lload hx hb dX4_in_7 (lv_at hl 2 rfl) ?_
    refine W.lcmp hx hb dX4_in_9 ?_
    refine lv_if_gt (tgt := 17) hx hb dX4_in_10 (by decide) (fun hc => ?_) (fun hc => ?_)
    · have hf := ite_t hc hf
      refine lv_iconst (v := 0) hx hb dX4_in_17 (by decide) ?_
      exact s_zret C hT hf (Or.inl rfl) hr hlocks dX4_in_18
    · have hf := ite_f hc hf
      refine lv_iconst (v := 1) hx hb dX4_in_13 (by decide) ?_
      refine lv_goto (tgt := 18) hx hb dX4_in_14 (by decide) ?_
      exact s_zret C hT hf (Or.inr rfl) hr hlocks dX4_in_18
def fX4_numberHere_J75 (N : Nat) (K : TS → Int32 → Int32 → Int32 → Int32 → Option (Int32 × TS)) (kb : TS → Int32 → Int32 → Int32 → Int32 → Option (Int32 × TS)) (t : TS) (x1 : Int32) (x2 : Int32) (x3 : Int32) (x4 : Int32) : Option (Int32 × TS) :=
  (lett (tsI t 8 ((t.1 8) + (1 : Int32))) fun t_82 => (kb t_82 x1 x2 x3 x4))
def fX4_numberHere_B34 (N : Nat) (K : TS → Int32 → Int32 → Int32 → Int32 → Option (Int32 × TS)) (kb : TS → Int32 → Int32 → Int32 → Int32 → Option (Int32 × TS)) (t : TS) (x1 : Int32) (x2 : Int32) (x3 : Int32) (x4 : Int32) : Option (Int32 × TS) :=
  ((fX4_isDigit N t (t.1 8)).bind fun w_39 => (if w_39.1 = 0 then (K w_39.2 x1 x2 x3 x4) else (if (5 : Int32) ≤ ((w_39.2.1 8) - x3) then (fX4_numberHere_J75 N K kb w_39.2 x1 x2 x3 x4) else (ix (w_39.2.1 8) 400 (lett ((((10 : Int32) * x4) + (w_39.2.2.1 0 ((w_39.2.1 8)).toNatClampNeg)) - (48 : Int32)) fun x4_73 => (fX4_numberHere_J75 N K kb w_39.2 x1 x2 x3 x4_73))))))
def fX4_numberHere_L34 (N : Nat) (K : TS → Int32 → Int32 → Int32 → Int32 → Option (Int32 × TS)) : Nat → TS → Int32 → Int32 → Int32 → Int32 → Option (Int32 × TS)
  | 0 => fun _ _ _ _ _ => none
  | n + 1 => fun t x1 x2 x3 x4 => fX4_numberHere_B34 N K (fX4_numberHere_L34 N K n) t x1 x2 x3 x4
def fX4_numberHere_J117 (N : Nat) (t : TS) (x3 : Int32) : Option (Int32 × TS) :=
  ((fX4_fails N t (1 : Int32) x3).bind fun w_120 => (if w_120.1 = 0 then (some ((0 : Int32), w_120.2)) else (some ((1 : Int32), w_120.2))))
def fX4_numberHere (N : Nat) (t : TS) (x1 : Int32) (x2 : Int32) : Option (Int32 × TS) :=
  ((fX4_see N t ).bind fun w_1 => ((fX4_isDigit N w_1.2 (w_1.2.1 8)).bind fun w_10 => (if ¬ w_10.1 = 0 then (lett (w_10.2.1 8) fun x3_30 => (fX4_numberHere_L34 N (fun t x1 x2 x3 x4 => (lett (tsI t 10 x4) fun t_91 => (if (5 : Int32) < ((t_91.1 8) - x3) then (fX4_numberHere_J117 N t_91 x3) else ((fX4_in N (x4).toInt64 (x1).toInt64 (x2).toInt64).bind fun w_111 => (if ¬ w_111 = 0 then (some ((1 : Int32), t_91)) else (fX4_numberHere_J117 N t_91 x3)))))) N w_10.2 x1 x2 x3_30 (0 : Int32))) else ((fX4_fails N w_10.2 (0 : Int32) (w_10.2.1 8)).bind fun w_22 => (ckz w_22.1 (some (w_22.1, w_22.2)))))))
theorem hdX4_numberHere : yX4_numberHere.cls = RX4 ∧ yX4_numberHere.cls ≠ "java/lang/invoke/MethodHandle" ∧ yX4_numberHere.cls ≠ "java/lang/invoke/VarHandle" ∧ (parseMethodDescriptor yX4_numberHere.desc).map (fun d => d.parameters.length) = some 2 := by decide +kernel
set_option maxHeartbeats 4000000 in
theorem mX4_numberHere (l : Launch) (D : va_G) (d : Nat → ClassId) (a : Nat → Nat) (N : Nat) (t : TS) (x1 : Int32) (x2 : Int32) (w : Int32 × TS) (hf : fX4_numberHere N t x1 x2 = some w) (sz : Nat) : Met l yX4_numberHere (ws_ yX4_numberHere cX4_numberHere 5 (some .boolean)) (rm_ 1 25) (PcT D d a [.int x1, .int x2] t sz) (QiT D d a w.1 w.2 sz) 0 0 (AT a sz) := by
  refine Met.ofW (cc := cX4_numberHere) (maxL := 5) (ret := (some .boolean)) plX4 rfl ?_
  intro p e s m args below meth c s₁ B hml hv
  obtain ⟨C, hV, hT, hr, hlocks, hargs, rfl⟩ := t_enter B hml rfl hv
  have hx := C.1
  have hb := C.2.1
  show W p l e (rm_ 1 25) s m args below meth c s.heap [] 0 0 (MQ below (QiT D d a w.1 w.2 s.heap.size) args s 0 0 (AT a s.heap.size)) _
  have hL34 : ∀ (K : TS → Int32 → Int32 → Int32 → Int32 → Option (Int32 × TS)), (∀ (t : TS) (x1 : Int32) (x2 : Int32) (x3 : Int32) (x4 : Int32) (H : Heap) (locs : List Loc) (ls : Array Slot), TH D (AT a s.heap.size) s.heap (wT d a t) H locs → lv_has ls 5 [(0, .ref (a 42)), (1, .int x1), (2, .int x2), (3, .int x3), (4, .int x4)] → K t x1 x2 x3 x4 = some w → W p l e (rm_ 1 25) s m args below meth c H locs 0 0 (MQ below (QiT D d a w.1 w.2 s.heap.size) args s 0 0 (AT a s.heap.size)) (F0 m 88 ls [])) → ∀ (n : Nat) (t : TS) (x1 : Int32) (x2 : Int32) (x3 : Int32) (x4 : Int32) (H : Heap) (locs : List Loc) (ls : Array Slot), TH D (AT a s.heap.size) s.heap (wT d a t) H locs → lv_has ls 5 [(0, .ref (a 42)), (1, .int x1), (2, .int x2), (3, .int x3), (4, .int x4)] → fX4_numberHere_L34 N K n t x1 x2 x3 x4 = some w → W p l e (rm_ 1 25) s m args below meth c H locs 0 0 (MQ below (QiT D d a w.1 w.2 s.heap.size) args s 0 0 (AT a s.heap.size)) (F0 m 34 ls []) := by
    intro K hE n
    induction n with
    | zero =>
      intro t x1 x2 x3 x4 H locs ls hT hl hf
      cases hf
    | succ n ih =>
      have hJ75 : ∀ (t : TS) (x1 : Int32) (x2 : Int32) (x3 : Int32) (x4 : Int32) (H : Heap) (locs : List Loc) (ls : Array Slot), TH D (AT a s.heap.size) s.heap (wT d a t) H locs → lv_has ls 5 [(0, .ref (a 42)), (1, .int x1), (2, .int x2), (3, .int x3), (4, .int x4)] → fX4_numberHere_J75 N K (fX4_numberHere_L34 N K n) t x1 x2 x3 x4 = some w → W p l e (rm_ 1 25) s m args below meth c H locs 0 0 (MQ below (QiT D d a w.1 w.2 s.heap.size) args s 0 0 (AT a s.heap.size)) (F0 m 75 ls []) := by
        intro t x1 x2 x3 x4 H locs ls hT hl hf
        unfold fX4_numberHere_J75 at hf
        refine lv_aload_n hx hb dX4_numberHere_75 rfl (lv_at hl 0 rfl) ?_
        refine lv_dup hx hb dX4_numberHere_76 rfl ?_
        refine t_get C hV hT 8 (by decide) q1255 rfl dX4_numberHere_77 ?_
        refine lv_iconst (v := 1) hx hb dX4_numberHere_80 (by decide) ?_
        refine lv_iadd hx hb dX4_numberHere_81 ?_
        refine t_put C hV hT 8 (by decide) q1255 (tset_8 a t _) rfl rfl dX4_numberHere_82 (fun t_82 H locs et hT => ?_)
        have hf := lett_e et hf
        refine lv_goto (tgt := 34) hx hb dX4_numberHere_85 (by decide) ?_
        exact ih t_82 x1 x2 x3 x4 _ _ _ hT hl hf
      intro t x1 x2 x3 x4 H locs ls hT hl hf
      replace hf : fX4_numberHere_B34 N K (fX4_numberHere_L34 N K n) t x1 x2 x3 x4 = some w := hf
      unfold fX4_numberHere_B34 at hf
      refine lv_aload_n hx hb dX4_numberHere_34 rfl (lv_at hl 0 rfl) ?_
      refine lv_aload_n hx hb dX4_numberHere_35 rfl (lv_at hl 0 rfl) ?_
      refine t_get C hV hT 8 (by decide) q1255 rfl dX4_numberHere_36 ?_
      obtain ⟨w_39, h_39, hf⟩ := bind_e hf
      refine t_calli (vs := [.int (t.1 8)]) (rest := []) C hV hT (fun sz => mX4_isDigit l D d a N t (t.1 8) _ h_39 sz) (cwV 1 C.2.2.2.2 (lw_V q1444 q1446 qs57 q129 q1447) rfl rfl rfl hdX4_isDigit ⟨Nat.le_of_ble_eq_true rfl, Nat.le_of_ble_eq_true rfl⟩) rfl hl.1 rfl (Nat.le_of_ble_eq_true rfl) dX4_numberHere_39 (fun H locs hT => ?_)
      refine lv_if_eq (tgt := 88) hx hb dX4_numberHere_42 (by decide) (fun hc => ?_) (fun hc => ?_)
      · have hf := ite_t hc hf
        exact hE w_39.2 x1 x2 x3 x4 _ _ _ hT hl hf
      · have hf := ite_f hc hf
        refine lv_aload_n hx hb dX4_numberHere_45 rfl (lv_at hl 0 rfl) ?_
        refine t_get C hV hT 8 (by decide) q1255 rfl dX4_numberHere_46 ?_
        refine lv_iload_n hx hb dX4_numberHere_49 rfl (lv_at hl 3 rfl) ?_
        refine lv_isub hx hb dX4_numberHere_50 ?_
        refine lv_iconst (v := 5) hx hb dX4_numberHere_51 (by decide) ?_
        refine lv_icmp_ge (tgt := 75) hx hb dX4_numberHere_52 (by decide) (fun hc => ?_) (fun hc => ?_)
        · have hf := ite_t hc hf
          exact hJ75 w_39.2 x1 x2 x3 x4 _ _ _ hT hl hf
        · have hf := ite_f hc hf
          refine lv_bipush (v := 10) hx hb dX4_numberHere_55 (by decide) ?_
          refine lv_iload hx hb dX4_numberHere_57 (lv_at hl 4 rfl) ?_
          refine lv_imul hx hb dX4_numberHere_59 ?_
          refine lv_aload_n hx hb dX4_numberHere_60 rfl (lv_at hl 0 rfl) ?_
          refine t_get C hV hT 0 (by decide) q1247 rfl dX4_numberHere_61 ?_
          refine lv_aload_n hx hb dX4_numberHere_64 rfl (lv_at hl 0 rfl) ?_
          refine t_get C hV hT 8 (by decide) q1255 rfl dX4_numberHere_65 ?_
          obtain ⟨hi, hf⟩ := ix_e hf
          refine g_bld C hV hT 1 _ rfl hi rfl dX4_numberHere_68 ?_
          refine lv_iadd hx hb dX4_numberHere_69 ?_
          refine lv_bipush (v := 48) hx hb dX4_numberHere_70 (by decide) ?_
          refine lv_isub hx hb dX4_numberHere_72 ?_
          refine lv_topi (fun x4_73 ex => ?_)
          have hf := lett_e ex hf
          refine lv_istore (lv' := [(4, .int x4_73), (0, .ref (a 42)), (1, .int x1), (2, .int x2), (3, .int x3)]) hx hb dX4_numberHere_73 hl (by decide) rfl (fun ls hl => ?_)
          exact hJ75 w_39.2 x1 x2 x3 x4_73 _ _ _ hT (lv_sub hl [1, 2, 3, 4, 0] rfl) hf
  have hJ117 : ∀ (t : TS) (x3 : Int32) (H : Heap) (locs : List Loc) (ls : Array Slot), TH D (AT a s.heap.size) s.heap (wT d a t) H locs → lv_has ls 5 [(0, .ref (a 42)), (3, .int x3)] → fX4_numberHere_J117 N t x3 = some w → W p l e (rm_ 1 25) s m args below meth c H locs 0 0 (MQ below (QiT D d a w.1 w.2 s.heap.size) args s 0 0 (AT a s.heap.size)) (F0 m 117 ls []) := by
    intro t x3 H locs ls hT hl hf
    unfold fX4_numberHere_J117 at hf
    refine lv_aload_n hx hb dX4_numberHere_117 rfl (lv_at hl 0 rfl) ?_
    refine lv_iconst (v := 1) hx hb dX4_numberHere_118 (by decide) ?_
    refine lv_iload_n hx hb dX4_numberHere_119 rfl (lv_at hl 1 rfl) ?_
    obtain ⟨w_120, h_120, hf⟩ := bind_e hf
    refine t_calli (vs := [.int (1 : Int32), .int x3]) (rest := []) C hV hT (fun sz => mX4_fails l D d a N t (1 : Int32) x3 _ h_120 sz) (cwV 2 C.2.2.2.2 (lw_V q1420 q1422 qs51 q129 q1423) rfl rfl rfl hdX4_fails ⟨Nat.le_of_ble_eq_true rfl, Nat.le_of_ble_eq_true rfl⟩) rfl hl.1 rfl (Nat.le_of_ble_eq_true rfl) dX4_numberHere_120 (fun H locs hT => ?_)
    refine lv_if_eq (tgt := 130) hx hb dX4_numberHere_123 (by decide) (fun hc => ?_) (fun hc => ?_)
    · have hf := ite_t hc hf
      refine lv_iconst (v := 0) hx hb dX4_numberHere_130 (by decide) ?_
      exact t_zret C hT hf (Or.inl rfl) hr hlocks dX4_numberHere_131
    · have hf := ite_f hc hf
      refine lv_iconst (v := 1) hx hb dX4_numberHere_126 (by decide) ?_
      refine lv_goto (tgt := 131) hx hb dX4_numberHere_127 (by decide) ?_
      exact t_zret C hT hf (Or.inr rfl) hr hlocks dX4_numberHere_131
  refine W.eq (by rw [hargs]) (t_in (vs := [.ref (a 42), .int x1, .int x2]) (n := 5) (Nat.le_of_ble_eq_true rfl) (fun ls hl => ?_))
  have hl : lv_has ls 5 [(0, .ref (a 42)), (1, .int x1), (2, .int x2)] := hl
  unfold fX4_numberHere at hf
  skip
  refine lv_aload_n hx hb dX4_numberHere_0 rfl (lv_at hl 0 rfl) ?_
  obtain ⟨w_1, h_1, hf⟩ := bind_e hf
  refine t_calli (vs := []) (rest := []) C hV hT (fun sz => mX4_see l D d a N t  _ h_1 sz) (cwV 0 C.2.2.2.2 (lw_V q1399 q1401 qs47 q129 q1402) rfl rfl rfl hdX4_see ⟨Nat.le_of_ble_eq_true rfl, Nat.le_of_ble_eq_true rfl⟩) rfl hl.1 rfl (Nat.le_of_ble_eq_true rfl) dX4_numberHere_1 (fun H locs hT => ?_)
  refine lv_pop hx hb dX4_numberHere_4 rfl ?_
  refine lv_aload_n hx hb dX4_numberHere_5 rfl (lv_at hl 0 rfl) ?_
  refine lv_aload_n hx hb dX4_numberHere_6 rfl (lv_at hl 0 rfl) ?_
  refine t_get C hV hT 8 (by decide) q1255 rfl dX4_numberHere_7 ?_
  obtain ⟨w_10, h_10, hf⟩ := bind_e hf
  refine t_calli (vs := [.int (w_1.2.1 8)]) (rest := []) C hV hT (fun sz => mX4_isDigit l D d a N w_1.2 (w_1.2.1 8) _ h_10 sz) (cwV 1 C.2.2.2.2 (lw_V q1444 q1446 qs57 q129 q1447) rfl rfl rfl hdX4_isDigit ⟨Nat.le_of_ble_eq_true rfl, Nat.le_of_ble_eq_true rfl⟩) rfl hl.1 rfl (Nat.le_of_ble_eq_true rfl) dX4_numberHere_10 (fun H locs hT => ?_)
  refine lv_if_ne (tgt := 26) hx hb dX4_numberHere_13 (by decide) (fun hc => ?_) (fun hc => ?_)
  · have hf := ite_t hc hf
    refine lv_aload_n hx hb dX4_numberHere_26 rfl (lv_at hl 0 rfl) ?_
    refine t_get C hV hT 8 (by decide) q1255 rfl dX4_numberHere_27 ?_
    refine lv_topi (fun x3_30 ex => ?_)
    have hf := lett_e ex hf
    refine lv_istore_n (lv' := [(3, .int x3_30), (0, .ref (a 42)), (1, .int x1), (2, .int x2)]) hx hb dX4_numberHere_30 rfl hl (by decide) rfl (fun ls hl => ?_)
    refine lv_iconst (v := 0) hx hb dX4_numberHere_31 (by decide) ?_
    refine lv_istore (lv' := [(4, .int (0 : Int32)), (3, .int x3_30), (0, .ref (a 42)), (1, .int x1), (2, .int x2)]) hx hb dX4_numberHere_32 hl (by decide) rfl (fun ls hl => ?_)
    refine hL34 _ (fun t x1 x2 x3 x4 H locs ls hT hl hf => ?_) N w_10.2 x1 x2 x3_30 (0 : Int32) _ _ _ hT (lv_sub hl [2, 3, 4, 1, 0] rfl) hf
    refine lv_aload_n hx hb dX4_numberHere_88 rfl (lv_at hl 0 rfl) ?_
    refine lv_iload hx hb dX4_numberHere_89 (lv_at hl 4 rfl) ?_
    refine t_put C hV hT 10 (by decide) q1257 (tset_10 a t _) rfl rfl dX4_numberHere_91 (fun t_91 H locs et hT => ?_)
    have hf := lett_e et hf
    refine lv_aload_n hx hb dX4_numberHere_94 rfl (lv_at hl 0 rfl) ?_
    refine t_get C hV hT 8 (by decide) q1255 rfl dX4_numberHere_95 ?_
    refine lv_iload_n hx hb dX4_numberHere_98 rfl (lv_at hl 3 rfl) ?_
    refine lv_isub hx hb dX4_numberHere_99 ?_
    refine lv_iconst (v := 5) hx hb dX4_numberHere_100 (by decide) ?_
    refine lv_icmp_gt (tgt := 117) hx hb dX4_numberHere_101 (by decide) (fun hc => ?_) (fun hc => ?_)
    · have hf := ite_t hc hf
      exact hJ117 t_91 x3 _ _ _ hT (lv_sub hl [0, 3] rfl) hf
    · have hf := ite_f hc hf
      refine lv_iload hx hb dX4_numberHere_104 (lv_at hl 4 rfl) ?_
      refine lv_i2l hx hb dX4_numberHere_106 rfl ?_
      refine lv_iload_n hx hb dX4_numberHere_107 rfl (lv_at hl 1 rfl) ?_
      refine lv_i2l hx hb dX4_numberHere_108 rfl ?_
      refine lv_iload_n hx hb dX4_numberHere_109 rfl (lv_at hl 2 rfl) ?_
      refine lv_i2l hx hb dX4_numberHere_110 rfl ?_
      obtain ⟨w_111, h_111, hf⟩ := bind_e hf
      refine s_calli (vs := [.long (x4).toInt64, .long (x1).toInt64, .long (x2).toInt64]) (rest := []) C (fun q h => Or.inr h) hT (fun sz => mX4_in l N (x4).toInt64 (x1).toInt64 (x2).toInt64 _ h_111 sz) (va_cwS 3 C.2.2.2.2 (lw_S q1448 q1449 q129 q1450) rfl rfl rfl hdX4_in ⟨Nat.le_of_ble_eq_true rfl, Nat.le_of_ble_eq_true rfl⟩) rfl hl.1 rfl (Nat.le_of_ble_eq_true rfl) dX4_numberHere_111 ⟨Nat.zero_le _, Nat.zero_le _⟩ (fun H locs hT => ?_)
      refine lv_if_ne (tgt := 126) hx hb dX4_numberHere_114 (by decide) (fun hc => ?_) (fun hc => ?_)
      · have hf := ite_t hc hf
        refine lv_iconst (v := 1) hx hb dX4_numberHere_126 (by decide) ?_
        refine lv_goto (tgt := 131) hx hb dX4_numberHere_127 (by decide) ?_
        exact t_zret C hT hf (Or.inr rfl) hr hlocks dX4_numberHere_131
      · have hf := ite_f (fun q => q hc) hf
        exact hJ117 t_91 x3 _ _ _ hT (lv_sub hl [0, 3] rfl) hf
  · have hf := ite_f (fun q => q hc) hf
    refine lv_aload_n hx hb dX4_numberHere_16 rfl (lv_at hl 0 rfl) ?_
    refine lv_iconst (v := 0) hx hb dX4_numberHere_17 (by decide) ?_
    refine lv_aload_n hx hb dX4_numberHere_18 rfl (lv_at hl 0 rfl) ?_
    refine t_get C hV hT 8 (by decide) q1255 rfl dX4_numberHere_19 ?_
    obtain ⟨w_22, h_22, hf⟩ := bind_e hf
    refine t_calli (vs := [.int (0 : Int32), .int (w_10.2.1 8)]) (rest := []) C hV hT (fun sz => mX4_fails l D d a N w_10.2 (0 : Int32) (w_10.2.1 8) _ h_22 sz) (cwV 2 C.2.2.2.2 (lw_V q1420 q1422 qs51 q129 q1423) rfl rfl rfl hdX4_fails ⟨Nat.le_of_ble_eq_true rfl, Nat.le_of_ble_eq_true rfl⟩) rfl hl.1 rfl (Nat.le_of_ble_eq_true rfl) dX4_numberHere_22 (fun H locs hT => ?_)
    obtain ⟨hz, hf⟩ := ckz_e hf
    exact t_zret C hT hf hz hr hlocks dX4_numberHere_25
def fX4_cellHere (N : Nat) (t : TS) (x1 : Int32) (x2 : Int32) (x3 : Int32) : Option (Int32 × TS) :=
  ((fX4_numberHere N t x2 x3).bind fun w_3 => (if ¬ w_3.1 = 0 then (ix x1 90 (lett (tsA w_3.2 7 (x1).toNatClampNeg (w_3.2.1 10)) fun t_20 => (some ((1 : Int32), t_20)))) else (some ((0 : Int32), w_3.2))))
theorem hdX4_cellHere : yX4_cellHere.cls = RX4 ∧ yX4_cellHere.cls ≠ "java/lang/invoke/MethodHandle" ∧ yX4_cellHere.cls ≠ "java/lang/invoke/VarHandle" ∧ (parseMethodDescriptor yX4_cellHere.desc).map (fun d => d.parameters.length) = some 3 := by decide +kernel
set_option maxHeartbeats 4000000 in
theorem mX4_cellHere (l : Launch) (D : va_G) (d : Nat → ClassId) (a : Nat → Nat) (N : Nat) (t : TS) (x1 : Int32) (x2 : Int32) (x3 : Int32) (w : Int32 × TS) (hf : fX4_cellHere N t x1 x2 x3 = some w) (sz : Nat) : Met l yX4_cellHere (ws_ yX4_cellHere cX4_cellHere 4 (some .boolean)) (rm_ 2 49) (PcT D d a [.int x1, .int x2, .int x3] t sz) (QiT D d a w.1 w.2 sz) 0 0 (AT a sz) := by
  refine Met.ofW (cc := cX4_cellHere) (maxL := 4) (ret := (some .boolean)) plX4 rfl ?_
  intro p e s m args below meth c s₁ B hml hv
  obtain ⟨C, hV, hT, hr, hlocks, hargs, rfl⟩ := t_enter B hml rfl hv
  have hx := C.1
  have hb := C.2.1
  show W p l e (rm_ 2 49) s m args below meth c s.heap [] 0 0 (MQ below (QiT D d a w.1 w.2 s.heap.size) args s 0 0 (AT a s.heap.size)) _
  refine W.eq (by rw [hargs]) (t_in (vs := [.ref (a 42), .int x1, .int x2, .int x3]) (n := 4) (Nat.le_of_ble_eq_true rfl) (fun ls hl => ?_))
  have hl : lv_has ls 4 [(0, .ref (a 42)), (1, .int x1), (2, .int x2), (3, .int x3)] := hl
  unfold fX4_cellHere at hf
  skip
  refine lv_aload_n hx hb dX4_cellHere_0 rfl (lv_at hl 0 rfl) ?_
  refine lv_iload_n hx hb dX4_cellHere_1 rfl (lv_at hl 2 rfl) ?_
  refine lv_iload_n hx hb dX4_cellHere_2 rfl (lv_at hl 3 rfl) ?_
  obtain ⟨w_3, h_3, hf⟩ := bind_e hf
  refine t_calli (vs := [.int x2, .int x3]) (rest := []) C hV hT (fun sz => mX4_numberHere l D d a N t x2 x3 _ h_3 sz) (cwV 2 C.2.2.2.2 (lw_V q1440 q1442 qs56 q129 q1443) rfl rfl rfl hdX4_numberHere ⟨Nat.le_of_ble_eq_true rfl, Nat.le_of_ble_eq_true rfl⟩) rfl hl.1 rfl (Nat.le_of_ble_eq_true rfl) dX4_cellHere_3 (fun H locs hT => ?_)
  refine lv_if_ne (tgt := 11) hx hb dX4_cellHere_6 (by decide) (fun hc => ?_) (fun hc => ?_)
  · have hf := ite_t hc hf
    refine lv_aload_n hx hb dX4_cellHere_11 rfl (lv_at hl 0 rfl) ?_
    refine t_get C hV hT 7 (by decide) q1254 rfl dX4_cellHere_12 ?_
    refine lv_iload_n hx hb dX4_cellHere_15 rfl (lv_at hl 1 rfl) ?_
    refine lv_aload_n hx hb dX4_cellHere_16 rfl (lv_at hl 0 rfl) ?_
    refine t_get C hV hT 10 (by decide) q1257 rfl dX4_cellHere_17 ?_
    obtain ⟨hi, hf⟩ := ix_e hf
    refine t_ist C hV hT 6 _ rfl hi rfl (tast_7 d a w_3.2 _ _) dX4_cellHere_20 (fun t_20 H locs et hT => ?_)
    have hf := lett_e et hf
    refine lv_iconst (v := 1) hx hb dX4_cellHere_21 (by decide) ?_
    exact t_zret C hT hf (Or.inr rfl) hr hlocks dX4_cellHere_22
  · have hf := ite_f (fun q => q hc) hf
    refine lv_iconst (v := 0) hx hb dX4_cellHere_9 (by decide) ?_
    exact t_zret C hT hf (Or.inl rfl) hr hlocks dX4_cellHere_10
def fX4_isJunctionHere (N : Nat) (t : TS) (x1 : Int32) : Option (Int32 × TS) :=
  (if (t.2.1 7 0) ≤ 0 then ((fX4_passWord N t ).bind fun w_17 => ((fX4_cellHere N w_17 (1 : Int32) (1 : Int32) (12 : Int32)).bind fun w_25 => (if w_25.1 = 0 then (some ((0 : Int32), w_25.2)) else ((fX4_cellHere N w_25.2 (2 : Int32) (1 : Int32) (9 : Int32)).bind fun w_36 => (if ¬ w_36.1 = 0 then (lett (tsA w_36.2 7 0 (1 : Int32)) fun t_50 => (some ((1 : Int32), t_50))) else (some ((0 : Int32), w_36.2))))))) else ((fX4_fails N t (4 : Int32) x1).bind fun w_12 => (ckz w_12.1 (some (w_12.1, w_12.2)))))
theorem hdX4_isJunctionHere : yX4_isJunctionHere.cls = RX4 ∧ yX4_isJunctionHere.cls ≠ "java/lang/invoke/MethodHandle" ∧ yX4_isJunctionHere.cls ≠ "java/lang/invoke/VarHandle" ∧ (parseMethodDescriptor yX4_isJunctionHere.desc).map (fun d => d.parameters.length) = some 1 := by decide +kernel
set_option maxHeartbeats 4000000 in
theorem mX4_isJunctionHere (l : Launch) (D : va_G) (d : Nat → ClassId) (a : Nat → Nat) (N : Nat) (t : TS) (x1 : Int32) (w : Int32 × TS) (hf : fX4_isJunctionHere N t x1 = some w) (sz : Nat) : Met l yX4_isJunctionHere (ws_ yX4_isJunctionHere cX4_isJunctionHere 2 (some .boolean)) (rm_ 3 72) (PcT D d a [.int x1] t sz) (QiT D d a w.1 w.2 sz) 0 0 (AT a sz) := by
  refine Met.ofW (cc := cX4_isJunctionHere) (maxL := 2) (ret := (some .boolean)) plX4 rfl ?_
  intro p e s m args below meth c s₁ B hml hv
  obtain ⟨C, hV, hT, hr, hlocks, hargs, rfl⟩ := t_enter B hml rfl hv
  have hx := C.1
  have hb := C.2.1
  show W p l e (rm_ 3 72) s m args below meth c s.heap [] 0 0 (MQ below (QiT D d a w.1 w.2 s.heap.size) args s 0 0 (AT a s.heap.size)) _
  refine W.eq (by rw [hargs]) (t_in (vs := [.ref (a 42), .int x1]) (n := 2) (Nat.le_of_ble_eq_true rfl) (fun ls hl => ?_))
  have hl : lv_has ls 2 [(0, .ref (a 42)), (1, .int x1)] := hl
  unfold fX4_isJunctionHere at hf
  skip
  refine lv_aload_n hx hb dX4_isJunctionHere_0 rfl (lv_at hl 0 rfl) ?_
  refine t_get C hV hT 7 (by decide) q1254 rfl dX4_isJunctionHere_1 ?_
  refine lv_iconst (v := 0) hx hb dX4_isJunctionHere_4 (by decide) ?_
  refine g_ild C hV hT 6 0 rfl (vin_of (by decide)) (by decide) dX4_isJunctionHere_5 ?_
  refine lv_if_le (tgt := 16) hx hb dX4_isJunctionHere_6 (by decide) (fun hc => ?_) (fun hc => ?_)
  · have hf := ite_t hc hf
    refine lv_aload_n hx hb dX4_isJunctionHere_16 rfl (lv_at hl 0 rfl) ?_
    obtain ⟨w_17, h_17, hf⟩ := bind_e hf
    refine t_callv (vs := []) (rest := []) C hV hT (fun sz => mX4_passWord l D d a N t  _ h_17 sz) (cwV 0 C.2.2.2.2 (lw_V q1432 q1434 qs54 q129 q1435) rfl rfl rfl hdX4_passWord ⟨Nat.le_of_ble_eq_true rfl, Nat.le_of_ble_eq_true rfl⟩) rfl hl.1 rfl (Nat.le_of_ble_eq_true rfl) dX4_isJunctionHere_17 (fun H locs hT => ?_)
    refine lv_aload_n hx hb dX4_isJunctionHere_20 rfl (lv_at hl 0 rfl) ?_
    refine lv_iconst (v := 1) hx hb dX4_isJunctionHere_21 (by decide) ?_
    refine lv_iconst (v := 1) hx hb dX4_isJunctionHere_22 (by decide) ?_
    refine lv_bipush (v := 12) hx hb dX4_isJunctionHere_23 (by decide) ?_
    obtain ⟨w_25, h_25, hf⟩ := bind_e hf
    refine t_calli (vs := [.int (1 : Int32), .int (1 : Int32), .int (12 : Int32)]) (rest := []) C hV hT (fun sz => mX4_cellHere l D d a N w_17 (1 : Int32) (1 : Int32) (12 : Int32) _ h_25 sz) (cwV 3 C.2.2.2.2 (lw_V q1436 q1438 qs55 q129 q1439) rfl rfl rfl hdX4_cellHere ⟨Nat.le_of_ble_eq_true rfl, Nat.le_of_ble_eq_true rfl⟩) rfl hl.1 rfl (Nat.le_of_ble_eq_true rfl) dX4_isJunctionHere_25 (fun H locs hT => ?_)
    refine lv_if_eq (tgt := 42) hx hb dX4_isJunctionHere_28 (by decide) (fun hc => ?_) (fun hc => ?_)
    · have hf := ite_t hc hf
      refine lv_iconst (v := 0) hx hb dX4_isJunctionHere_42 (by decide) ?_
      exact t_zret C hT hf (Or.inl rfl) hr hlocks dX4_isJunctionHere_43
    · have hf := ite_f hc hf
      refine lv_aload_n hx hb dX4_isJunctionHere_31 rfl (lv_at hl 0 rfl) ?_
      refine lv_iconst (v := 2) hx hb dX4_isJunctionHere_32 (by decide) ?_
      refine lv_iconst (v := 1) hx hb dX4_isJunctionHere_33 (by decide) ?_
      refine lv_bipush (v := 9) hx hb dX4_isJunctionHere_34 (by decide) ?_
      obtain ⟨w_36, h_36, hf⟩ := bind_e hf
      refine t_calli (vs := [.int (2 : Int32), .int (1 : Int32), .int (9 : Int32)]) (rest := []) C hV hT (fun sz => mX4_cellHere l D d a N w_25.2 (2 : Int32) (1 : Int32) (9 : Int32) _ h_36 sz) (cwV 3 C.2.2.2.2 (lw_V q1436 q1438 qs55 q129 q1439) rfl rfl rfl hdX4_cellHere ⟨Nat.le_of_ble_eq_true rfl, Nat.le_of_ble_eq_true rfl⟩) rfl hl.1 rfl (Nat.le_of_ble_eq_true rfl) dX4_isJunctionHere_36 (fun H locs hT => ?_)
      refine lv_if_ne (tgt := 44) hx hb dX4_isJunctionHere_39 (by decide) (fun hc => ?_) (fun hc => ?_)
      · have hf := ite_t hc hf
        refine lv_aload_n hx hb dX4_isJunctionHere_44 rfl (lv_at hl 0 rfl) ?_
        refine t_get C hV hT 7 (by decide) q1254 rfl dX4_isJunctionHere_45 ?_
        refine lv_iconst (v := 0) hx hb dX4_isJunctionHere_48 (by decide) ?_
        refine lv_iconst (v := 1) hx hb dX4_isJunctionHere_49 (by decide) ?_
        refine t_ist C hV hT 6 0 rfl (vin_of (by decide)) (by decide) (tast_7 d a w_36.2 _ _) dX4_isJunctionHere_50 (fun t_50 H locs et hT => ?_)
        have hf := lett_e et hf
        refine lv_iconst (v := 1) hx hb dX4_isJunctionHere_51 (by decide) ?_
        exact t_zret C hT hf (Or.inr rfl) hr hlocks dX4_isJunctionHere_52
      · have hf := ite_f (fun q => q hc) hf
        refine lv_iconst (v := 0) hx hb dX4_isJunctionHere_42 (by decide) ?_
        exact t_zret C hT hf (Or.inl rfl) hr hlocks dX4_isJunctionHere_43
  · have hf := ite_f hc hf
    refine lv_aload_n hx hb dX4_isJunctionHere_9 rfl (lv_at hl 0 rfl) ?_
    refine lv_iconst (v := 4) hx hb dX4_isJunctionHere_10 (by decide) ?_
    refine lv_iload_n hx hb dX4_isJunctionHere_11 rfl (lv_at hl 1 rfl) ?_
    obtain ⟨w_12, h_12, hf⟩ := bind_e hf
    refine t_calli (vs := [.int (4 : Int32), .int x1]) (rest := []) C hV hT (fun sz => mX4_fails l D d a N t (4 : Int32) x1 _ h_12 sz) (cwV 2 C.2.2.2.2 (lw_V q1420 q1422 qs51 q129 q1423) rfl rfl rfl hdX4_fails ⟨Nat.le_of_ble_eq_true rfl, Nat.le_of_ble_eq_true rfl⟩) rfl hl.1 rfl (Nat.le_of_ble_eq_true rfl) dX4_isJunctionHere_12 (fun H locs hT => ?_)
    obtain ⟨hz, hf⟩ := ckz_e hf
    exact t_zret C hT hf hz hr hlocks dX4_isJunctionHere_15
def fX4_isRoadHere (N : Nat) (t : TS) (x1 : Int32) : Option (Int32 × TS) :=
  (if ¬ (t.2.1 7 3) = (6 : Int32) then ((fX4_passWord N t ).bind fun w_19 => (lett (w_19.2.1 7 3) fun x2_28 => ((fX4_cellHere N w_19 ((60 : Int32) + x2_28) (0 : Int32) (30 : Int32)).bind fun w_37 => (if w_37.1 = 0 then (some ((0 : Int32), w_37.2)) else ((fX4_cellHere N w_37.2 ((54 : Int32) + x2_28) (1 : Int32) (12 : Int32)).bind fun w_51 => (if w_51.1 = 0 then (some ((0 : Int32), w_51.2)) else ((fX4_cellHere N w_51.2 ((66 : Int32) + x2_28) (0 : Int32) (11 : Int32)).bind fun w_65 => (if ¬ w_65.1 = 0 then (lett (tsA w_65.2 7 3 ((w_65.2.2.1 7 3) + (1 : Int32))) fun t_82 => (some ((1 : Int32), t_82))) else (some ((0 : Int32), w_65.2)))))))))) else ((fX4_fails N t (4 : Int32) x1).bind fun w_14 => (ckz w_14.1 (some (w_14.1, w_14.2)))))
theorem hdX4_isRoadHere : yX4_isRoadHere.cls = RX4 ∧ yX4_isRoadHere.cls ≠ "java/lang/invoke/MethodHandle" ∧ yX4_isRoadHere.cls ≠ "java/lang/invoke/VarHandle" ∧ (parseMethodDescriptor yX4_isRoadHere.desc).map (fun d => d.parameters.length) = some 1 := by decide +kernel
set_option maxHeartbeats 4000000 in
theorem mX4_isRoadHere (l : Launch) (D : va_G) (d : Nat → ClassId) (a : Nat → Nat) (N : Nat) (t : TS) (x1 : Int32) (w : Int32 × TS) (hf : fX4_isRoadHere N t x1 = some w) (sz : Nat) : Met l yX4_isRoadHere (ws_ yX4_isRoadHere cX4_isRoadHere 3 (some .boolean)) (rm_ 3 72) (PcT D d a [.int x1] t sz) (QiT D d a w.1 w.2 sz) 0 0 (AT a sz) := by
  refine Met.ofW (cc := cX4_isRoadHere) (maxL := 3) (ret := (some .boolean)) plX4 rfl ?_
  intro p e s m args below meth c s₁ B hml hv
  obtain ⟨C, hV, hT, hr, hlocks, hargs, rfl⟩ := t_enter B hml rfl hv
  have hx := C.1
  have hb := C.2.1
  show W p l e (rm_ 3 72) s m args below meth c s.heap [] 0 0 (MQ below (QiT D d a w.1 w.2 s.heap.size) args s 0 0 (AT a s.heap.size)) _
  refine W.eq (by rw [hargs]) (t_in (vs := [.ref (a 42), .int x1]) (n := 3) (Nat.le_of_ble_eq_true rfl) (fun ls hl => ?_))
  have hl : lv_has ls 3 [(0, .ref (a 42)), (1, .int x1)] := hl
  unfold fX4_isRoadHere at hf
  skip
  refine lv_aload_n hx hb dX4_isRoadHere_0 rfl (lv_at hl 0 rfl) ?_
  refine t_get C hV hT 7 (by decide) q1254 rfl dX4_isRoadHere_1 ?_
  refine lv_iconst (v := 3) hx hb dX4_isRoadHere_4 (by decide) ?_
  refine g_ild C hV hT 6 3 rfl (vin_of (by decide)) (by decide) dX4_isRoadHere_5 ?_
  refine lv_bipush (v := 6) hx hb dX4_isRoadHere_6 (by decide) ?_
  refine lv_icmp_ne (tgt := 18) hx hb dX4_isRoadHere_8 (by decide) (fun hc => ?_) (fun hc => ?_)
  · have hf := ite_t hc hf
    refine lv_aload_n hx hb dX4_isRoadHere_18 rfl (lv_at hl 0 rfl) ?_
    obtain ⟨w_19, h_19, hf⟩ := bind_e hf
    refine t_callv (vs := []) (rest := []) C hV hT (fun sz => mX4_passWord l D d a N t  _ h_19 sz) (cwV 0 C.2.2.2.2 (lw_V q1432 q1434 qs54 q129 q1435) rfl rfl rfl hdX4_passWord ⟨Nat.le_of_ble_eq_true rfl, Nat.le_of_ble_eq_true rfl⟩) rfl hl.1 rfl (Nat.le_of_ble_eq_true rfl) dX4_isRoadHere_19 (fun H locs hT => ?_)
    refine lv_aload_n hx hb dX4_isRoadHere_22 rfl (lv_at hl 0 rfl) ?_
    refine t_get C hV hT 7 (by decide) q1254 rfl dX4_isRoadHere_23 ?_
    refine lv_iconst (v := 3) hx hb dX4_isRoadHere_26 (by decide) ?_
    refine g_ild C hV hT 6 3 rfl (vin_of (by decide)) (by decide) dX4_isRoadHere_27 ?_
    refine lv_topi (fun x2_28 ex => ?_)
    have hf := lett_e ex hf
    refine lv_istore_n (lv' := [(2, .int x2_28), (0, .ref (a 42)), (1, .int x1)]) hx hb dX4_isRoadHere_28 rfl hl (by decide) rfl (fun ls hl => ?_)
    refine lv_aload_n hx hb dX4_isRoadHere_29 rfl (lv_at hl 1 rfl) ?_
    refine lv_bipush (v := 60) hx hb dX4_isRoadHere_30 (by decide) ?_
    refine lv_iload_n hx hb dX4_isRoadHere_32 rfl (lv_at hl 0 rfl) ?_
    refine lv_iadd hx hb dX4_isRoadHere_33 ?_
    refine lv_iconst (v := 0) hx hb dX4_isRoadHere_34 (by decide) ?_
    refine lv_bipush (v := 30) hx hb dX4_isRoadHere_35 (by decide) ?_
    obtain ⟨w_37, h_37, hf⟩ := bind_e hf
    refine t_calli (vs := [.int ((60 : Int32) + x2_28), .int (0 : Int32), .int (30 : Int32)]) (rest := []) C hV hT (fun sz => mX4_cellHere l D d a N w_19 ((60 : Int32) + x2_28) (0 : Int32) (30 : Int32) _ h_37 sz) (cwV 3 C.2.2.2.2 (lw_V q1436 q1438 qs55 q129 q1439) rfl rfl rfl hdX4_cellHere ⟨Nat.le_of_ble_eq_true rfl, Nat.le_of_ble_eq_true rfl⟩) rfl hl.1 rfl (Nat.le_of_ble_eq_true rfl) dX4_isRoadHere_37 (fun H locs hT => ?_)
    refine lv_if_eq (tgt := 71) hx hb dX4_isRoadHere_40 (by decide) (fun hc => ?_) (fun hc => ?_)
    · have hf := ite_t hc hf
      refine lv_iconst (v := 0) hx hb dX4_isRoadHere_71 (by decide) ?_
      exact t_zret C hT hf (Or.inl rfl) hr hlocks dX4_isRoadHere_72
    · have hf := ite_f hc hf
      refine lv_aload_n hx hb dX4_isRoadHere_43 rfl (lv_at hl 1 rfl) ?_
      refine lv_bipush (v := 54) hx hb dX4_isRoadHere_44 (by decide) ?_
      refine lv_iload_n hx hb dX4_isRoadHere_46 rfl (lv_at hl 0 rfl) ?_
      refine lv_iadd hx hb dX4_isRoadHere_47 ?_
      refine lv_iconst (v := 1) hx hb dX4_isRoadHere_48 (by decide) ?_
      refine lv_bipush (v := 12) hx hb dX4_isRoadHere_49 (by decide) ?_
      obtain ⟨w_51, h_51, hf⟩ := bind_e hf
      refine t_calli (vs := [.int ((54 : Int32) + x2_28), .int (1 : Int32), .int (12 : Int32)]) (rest := []) C hV hT (fun sz => mX4_cellHere l D d a N w_37.2 ((54 : Int32) + x2_28) (1 : Int32) (12 : Int32) _ h_51 sz) (cwV 3 C.2.2.2.2 (lw_V q1436 q1438 qs55 q129 q1439) rfl rfl rfl hdX4_cellHere ⟨Nat.le_of_ble_eq_true rfl, Nat.le_of_ble_eq_true rfl⟩) rfl hl.1 rfl (Nat.le_of_ble_eq_true rfl) dX4_isRoadHere_51 (fun H locs hT => ?_)
      refine lv_if_eq (tgt := 71) hx hb dX4_isRoadHere_54 (by decide) (fun hc => ?_) (fun hc => ?_)
      · have hf := ite_t hc hf
        refine lv_iconst (v := 0) hx hb dX4_isRoadHere_71 (by decide) ?_
        exact t_zret C hT hf (Or.inl rfl) hr hlocks dX4_isRoadHere_72
      · have hf := ite_f hc hf
        refine lv_aload_n hx hb dX4_isRoadHere_57 rfl (lv_at hl 1 rfl) ?_
        refine lv_bipush (v := 66) hx hb dX4_isRoadHere_58 (by decide) ?_
        refine lv_iload_n hx hb dX4_isRoadHere_60 rfl (lv_at hl 0 rfl) ?_
        refine lv_iadd hx hb dX4_isRoadHere_61 ?_
        refine lv_iconst (v := 0) hx hb dX4_isRoadHere_62 (by decide) ?_
        refine lv_bipush (v := 11) hx hb dX4_isRoadHere_63 (by decide) ?_
        obtain ⟨w_65, h_65, hf⟩ := bind_e hf
        refine t_calli (vs := [.int ((66 : Int32) + x2_28), .int (0 : Int32), .int (11 : Int32)]) (rest := []) C hV hT (fun sz => mX4_cellHere l D d a N w_51.2 ((66 : Int32) + x2_28) (0 : Int32) (11 : Int32) _ h_65 sz) (cwV 3 C.2.2.2.2 (lw_V q1436 q1438 qs55 q129 q1439) rfl rfl rfl hdX4_cellHere ⟨Nat.le_of_ble_eq_true rfl, Nat.le_of_ble_eq_true rfl⟩) rfl hl.1 rfl (Nat.le_of_ble_eq_true rfl) dX4_isRoadHere_65 (fun H locs hT => ?_)
        refine lv_if_ne (tgt := 73) hx hb dX4_isRoadHere_68 (by decide) (fun hc => ?_) (fun hc => ?_)
        · have hf := ite_t hc hf
          refine lv_aload_n hx hb dX4_isRoadHere_73 rfl (lv_at hl 1 rfl) ?_
          refine t_get C hV hT 7 (by decide) q1254 rfl dX4_isRoadHere_74 ?_
          refine lv_iconst (v := 3) hx hb dX4_isRoadHere_77 (by decide) ?_
          refine lv_dup2_11 hx hb dX4_isRoadHere_78 rfl rfl ?_
          refine g_ild C hV hT 6 3 rfl (vin_of (by decide)) (by decide) dX4_isRoadHere_79 ?_
          refine lv_iconst (v := 1) hx hb dX4_isRoadHere_80 (by decide) ?_
          refine lv_iadd hx hb dX4_isRoadHere_81 ?_
          refine t_ist C hV hT 6 3 rfl (vin_of (by decide)) (by decide) (tast_7 d a w_65.2 _ _) dX4_isRoadHere_82 (fun t_82 H locs et hT => ?_)
          have hf := lett_e et hf
          refine lv_iconst (v := 1) hx hb dX4_isRoadHere_83 (by decide) ?_
          exact t_zret C hT hf (Or.inr rfl) hr hlocks dX4_isRoadHere_84
        · have hf := ite_f (fun q => q hc) hf
          refine lv_iconst (v := 0) hx hb dX4_isRoadHere_71 (by decide) ?_
          exact t_zret C hT hf (Or.inl rfl) hr hlocks dX4_isRoadHere_72
  · have hf := ite_f (fun q => q hc) hf
    refine lv_aload_n hx hb dX4_isRoadHere_11 rfl (lv_at hl 0 rfl) ?_
    refine lv_iconst (v := 4) hx hb dX4_isRoadHere_12 (by decide) ?_
    refine lv_iload_n hx hb dX4_isRoadHere_13 rfl (lv_at hl 1 rfl) ?_
    obtain ⟨w_14, h_14, hf⟩ := bind_e hf
    refine t_calli (vs := [.int (4 : Int32), .int x1]) (rest := []) C hV hT (fun sz => mX4_fails l D d a N t (4 : Int32) x1 _ h_14 sz) (cwV 2 C.2.2.2.2 (lw_V q1420 q1422 qs51 q129 q1423) rfl rfl rfl hdX4_fails ⟨Nat.le_of_ble_eq_true rfl, Nat.le_of_ble_eq_true rfl⟩) rfl hl.1 rfl (Nat.le_of_ble_eq_true rfl) dX4_isRoadHere_14 (fun H locs hT => ?_)
    obtain ⟨hz, hf⟩ := ckz_e hf
    exact t_zret C hT hf hz hr hlocks dX4_isRoadHere_17
def fX4_isClashHere (N : Nat) (t : TS) : Option (Int32 × TS) :=
  ((fX4_passWord N t ).bind fun w_1 => ((fX4_numberHere N w_1 (0 : Int32) ((w_1.2.1 7 3) - (1 : Int32))).bind fun w_14 => (if ¬ w_14.1 = 0 then (lett (w_14.2.1 10) fun x1_26 => ((fX4_see N w_14.2 ).bind fun w_28 => (lett (w_28.2.1 8) fun x2_36 => ((fX4_numberHere N w_28.2 (0 : Int32) ((w_28.2.2.1 7 3) - (1 : Int32))).bind fun w_47 => (if ¬ w_47.1 = 0 then (if ¬ x1_26 = (w_47.2.1 10) then (ix ((72 : Int32) + x1_26) 90 (ix ((72 : Int32) + x1_26) 90 (lett (tsA w_47.2 7 (((72 : Int32) + x1_26)).toNatClampNeg ((w_47.2.2.1 7 (((72 : Int32) + x1_26)).toNatClampNeg) ||| ((1 : Int32) <<< ((w_47.2.1 10) &&& 31)))) fun t_87 => (ix ((72 : Int32) + (t_87.1 10)) 90 (ix ((72 : Int32) + (t_87.1 10)) 90 (lett (tsA t_87 7 (((72 : Int32) + (t_87.1 10))).toNatClampNeg ((t_87.2.1 7 (((72 : Int32) + (t_87.1 10))).toNatClampNeg) ||| ((1 : Int32) <<< (x1_26 &&& 31)))) fun t_105 => (some ((1 : Int32), t_105)))))))) else ((fX4_fails N w_47.2 (1 : Int32) x2_36).bind fun w_66 => (ckz w_66.1 (some (w_66.1, w_66.2))))) else (some ((0 : Int32), w_47.2))))))) else (some ((0 : Int32), w_14.2)))))
theorem hdX4_isClashHere : yX4_isClashHere.cls = RX4 ∧ yX4_isClashHere.cls ≠ "java/lang/invoke/MethodHandle" ∧ yX4_isClashHere.cls ≠ "java/lang/invoke/VarHandle" ∧ (parseMethodDescriptor yX4_isClashHere.desc).map (fun d => d.parameters.length) = some 0 := by decide +kernel
set_option maxHeartbeats 4000000 in
theorem mX4_isClashHere (l : Launch) (D : va_G) (d : Nat → ClassId) (a : Nat → Nat) (N : Nat) (t : TS) (w : Int32 × TS) (hf : fX4_isClashHere N t = some w) (sz : Nat) : Met l yX4_isClashHere (ws_ yX4_isClashHere cX4_isClashHere 3 (some .boolean)) (rm_ 2 49) (PcT D d a [] t sz) (QiT D d a w.1 w.2 sz) 0 0 (AT a sz) := by
  refine Met.ofW (cc := cX4_isClashHere) (maxL := 3) (ret := (some .boolean)) plX4 rfl ?_
  intro p e s m args below meth c s₁ B hml hv
  obtain ⟨C, hV, hT, hr, hlocks, hargs, rfl⟩ := t_enter B hml rfl hv
  have hx := C.1
  have hb := C.2.1
  show W p l e (rm_ 2 49) s m args below meth c s.heap [] 0 0 (MQ below (QiT D d a w.1 w.2 s.heap.size) args s 0 0 (AT a s.heap.size)) _
  refine W.eq (by rw [hargs]) (t_in (vs := [.ref (a 42)]) (n := 3) (Nat.le_of_ble_eq_true rfl) (fun ls hl => ?_))
  have hl : lv_has ls 3 [(0, .ref (a 42))] := hl
  unfold fX4_isClashHere at hf
  skip
  refine lv_aload_n hx hb dX4_isClashHere_0 rfl (lv_at hl 0 rfl) ?_
  obtain ⟨w_1, h_1, hf⟩ := bind_e hf
  refine t_callv (vs := []) (rest := []) C hV hT (fun sz => mX4_passWord l D d a N t  _ h_1 sz) (cwV 0 C.2.2.2.2 (lw_V q1432 q1434 qs54 q129 q1435) rfl rfl rfl hdX4_passWord ⟨Nat.le_of_ble_eq_true rfl, Nat.le_of_ble_eq_true rfl⟩) rfl hl.1 rfl (Nat.le_of_ble_eq_true rfl) dX4_isClashHere_1 (fun H locs hT => ?_)
  refine lv_aload_n hx hb dX4_isClashHere_4 rfl (lv_at hl 0 rfl) ?_
  refine lv_iconst (v := 0) hx hb dX4_isClashHere_5 (by decide) ?_
  refine lv_aload_n hx hb dX4_isClashHere_6 rfl (lv_at hl 0 rfl) ?_
  refine t_get C hV hT 7 (by decide) q1254 rfl dX4_isClashHere_7 ?_
  refine lv_iconst (v := 3) hx hb dX4_isClashHere_10 (by decide) ?_
  refine g_ild C hV hT 6 3 rfl (vin_of (by decide)) (by decide) dX4_isClashHere_11 ?_
  refine lv_iconst (v := 1) hx hb dX4_isClashHere_12 (by decide) ?_
  refine lv_isub hx hb dX4_isClashHere_13 ?_
  obtain ⟨w_14, h_14, hf⟩ := bind_e hf
  refine t_calli (vs := [.int (0 : Int32), .int ((w_1.2.1 7 3) - (1 : Int32))]) (rest := []) C hV hT (fun sz => mX4_numberHere l D d a N w_1 (0 : Int32) ((w_1.2.1 7 3) - (1 : Int32)) _ h_14 sz) (cwV 2 C.2.2.2.2 (lw_V q1440 q1442 qs56 q129 q1443) rfl rfl rfl hdX4_numberHere ⟨Nat.le_of_ble_eq_true rfl, Nat.le_of_ble_eq_true rfl⟩) rfl hl.1 rfl (Nat.le_of_ble_eq_true rfl) dX4_isClashHere_14 (fun H locs hT => ?_)
  refine lv_if_ne (tgt := 22) hx hb dX4_isClashHere_17 (by decide) (fun hc => ?_) (fun hc => ?_)
  · have hf := ite_t hc hf
    refine lv_aload_n hx hb dX4_isClashHere_22 rfl (lv_at hl 0 rfl) ?_
    refine t_get C hV hT 10 (by decide) q1257 rfl dX4_isClashHere_23 ?_
    refine lv_topi (fun x1_26 ex => ?_)
    have hf := lett_e ex hf
    refine lv_istore_n (lv' := [(1, .int x1_26), (0, .ref (a 42))]) hx hb dX4_isClashHere_26 rfl hl (by decide) rfl (fun ls hl => ?_)
    refine lv_aload_n hx hb dX4_isClashHere_27 rfl (lv_at hl 1 rfl) ?_
    obtain ⟨w_28, h_28, hf⟩ := bind_e hf
    refine t_calli (vs := []) (rest := []) C hV hT (fun sz => mX4_see l D d a N w_14.2  _ h_28 sz) (cwV 0 C.2.2.2.2 (lw_V q1399 q1401 qs47 q129 q1402) rfl rfl rfl hdX4_see ⟨Nat.le_of_ble_eq_true rfl, Nat.le_of_ble_eq_true rfl⟩) rfl hl.1 rfl (Nat.le_of_ble_eq_true rfl) dX4_isClashHere_28 (fun H locs hT => ?_)
    refine lv_pop hx hb dX4_isClashHere_31 rfl ?_
    refine lv_aload_n hx hb dX4_isClashHere_32 rfl (lv_at hl 1 rfl) ?_
    refine t_get C hV hT 8 (by decide) q1255 rfl dX4_isClashHere_33 ?_
    refine lv_topi (fun x2_36 ex => ?_)
    have hf := lett_e ex hf
    refine lv_istore_n (lv' := [(2, .int x2_36), (1, .int x1_26), (0, .ref (a 42))]) hx hb dX4_isClashHere_36 rfl hl (by decide) rfl (fun ls hl => ?_)
    refine lv_aload_n hx hb dX4_isClashHere_37 rfl (lv_at hl 2 rfl) ?_
    refine lv_iconst (v := 0) hx hb dX4_isClashHere_38 (by decide) ?_
    refine lv_aload_n hx hb dX4_isClashHere_39 rfl (lv_at hl 2 rfl) ?_
    refine t_get C hV hT 7 (by decide) q1254 rfl dX4_isClashHere_40 ?_
    refine lv_iconst (v := 3) hx hb dX4_isClashHere_43 (by decide) ?_
    refine g_ild C hV hT 6 3 rfl (vin_of (by decide)) (by decide) dX4_isClashHere_44 ?_
    refine lv_iconst (v := 1) hx hb dX4_isClashHere_45 (by decide) ?_
    refine lv_isub hx hb dX4_isClashHere_46 ?_
    obtain ⟨w_47, h_47, hf⟩ := bind_e hf
    refine t_calli (vs := [.int (0 : Int32), .int ((w_28.2.2.1 7 3) - (1 : Int32))]) (rest := []) C hV hT (fun sz => mX4_numberHere l D d a N w_28.2 (0 : Int32) ((w_28.2.2.1 7 3) - (1 : Int32)) _ h_47 sz) (cwV 2 C.2.2.2.2 (lw_V q1440 q1442 qs56 q129 q1443) rfl rfl rfl hdX4_numberHere ⟨Nat.le_of_ble_eq_true rfl, Nat.le_of_ble_eq_true rfl⟩) rfl hl.1 rfl (Nat.le_of_ble_eq_true rfl) dX4_isClashHere_47 (fun H locs hT => ?_)
    refine lv_if_ne (tgt := 55) hx hb dX4_isClashHere_50 (by decide) (fun hc => ?_) (fun hc => ?_)
    · have hf := ite_t hc hf
      refine lv_iload_n hx hb dX4_isClashHere_55 rfl (lv_at hl 1 rfl) ?_
      refine lv_aload_n hx hb dX4_isClashHere_56 rfl (lv_at hl 2 rfl) ?_
      refine t_get C hV hT 10 (by decide) q1257 rfl dX4_isClashHere_57 ?_
      refine lv_icmp_ne (tgt := 70) hx hb dX4_isClashHere_60 (by decide) (fun hc => ?_) (fun hc => ?_)
      · have hf := ite_t hc hf
        refine lv_aload_n hx hb dX4_isClashHere_70 rfl (lv_at hl 2 rfl) ?_
        refine t_get C hV hT 7 (by decide) q1254 rfl dX4_isClashHere_71 ?_
        refine lv_bipush (v := 72) hx hb dX4_isClashHere_74 (by decide) ?_
        refine lv_iload_n hx hb dX4_isClashHere_76 rfl (lv_at hl 1 rfl) ?_
        refine lv_iadd hx hb dX4_isClashHere_77 ?_
        refine lv_dup2_11 hx hb dX4_isClashHere_78 rfl rfl ?_
        obtain ⟨hi, hf⟩ := ix_e hf
        refine g_ild C hV hT 6 _ rfl hi rfl dX4_isClashHere_79 ?_
        refine lv_iconst (v := 1) hx hb dX4_isClashHere_80 (by decide) ?_
        refine lv_aload_n hx hb dX4_isClashHere_81 rfl (lv_at hl 2 rfl) ?_
        refine t_get C hV hT 10 (by decide) q1257 rfl dX4_isClashHere_82 ?_
        refine lv_ishl hx hb dX4_isClashHere_85 ?_
        refine lv_ior hx hb dX4_isClashHere_86 ?_
        obtain ⟨hi, hf⟩ := ix_e hf
        refine t_ist C hV hT 6 _ rfl hi rfl (tast_7 d a w_47.2 _ _) dX4_isClashHere_87 (fun t_87 H locs et hT => ?_)
        have hf := lett_e et hf
        refine lv_aload_n hx hb dX4_isClashHere_88 rfl (lv_at hl 2 rfl) ?_
        refine t_get C hV hT 7 (by decide) q1254 rfl dX4_isClashHere_89 ?_
        refine lv_bipush (v := 72) hx hb dX4_isClashHere_92 (by decide) ?_
        refine lv_aload_n hx hb dX4_isClashHere_94 rfl (lv_at hl 2 rfl) ?_
        refine t_get C hV hT 10 (by decide) q1257 rfl dX4_isClashHere_95 ?_
        refine lv_iadd hx hb dX4_isClashHere_98 ?_
        refine lv_dup2_11 hx hb dX4_isClashHere_99 rfl rfl ?_
        obtain ⟨hi, hf⟩ := ix_e hf
        refine g_ild C hV hT 6 _ rfl hi rfl dX4_isClashHere_100 ?_
        refine lv_iconst (v := 1) hx hb dX4_isClashHere_101 (by decide) ?_
        refine lv_iload_n hx hb dX4_isClashHere_102 rfl (lv_at hl 1 rfl) ?_
        refine lv_ishl hx hb dX4_isClashHere_103 ?_
        refine lv_ior hx hb dX4_isClashHere_104 ?_
        obtain ⟨hi, hf⟩ := ix_e hf
        refine t_ist C hV hT 6 _ rfl hi rfl (tast_7 d a t_87 _ _) dX4_isClashHere_105 (fun t_105 H locs et hT => ?_)
        have hf := lett_e et hf
        refine lv_iconst (v := 1) hx hb dX4_isClashHere_106 (by decide) ?_
        exact t_zret C hT hf (Or.inr rfl) hr hlocks dX4_isClashHere_107
      · have hf := ite_f (fun q => q hc) hf
        refine lv_aload_n hx hb dX4_isClashHere_63 rfl (lv_at hl 2 rfl) ?_
        refine lv_iconst (v := 1) hx hb dX4_isClashHere_64 (by decide) ?_
        refine lv_iload_n hx hb dX4_isClashHere_65 rfl (lv_at hl 0 rfl) ?_
        obtain ⟨w_66, h_66, hf⟩ := bind_e hf
        refine t_calli (vs := [.int (1 : Int32), .int x2_36]) (rest := []) C hV hT (fun sz => mX4_fails l D d a N w_47.2 (1 : Int32) x2_36 _ h_66 sz) (cwV 2 C.2.2.2.2 (lw_V q1420 q1422 qs51 q129 q1423) rfl rfl rfl hdX4_fails ⟨Nat.le_of_ble_eq_true rfl, Nat.le_of_ble_eq_true rfl⟩) rfl hl.1 rfl (Nat.le_of_ble_eq_true rfl) dX4_isClashHere_66 (fun H locs hT => ?_)
        obtain ⟨hz, hf⟩ := ckz_e hf
        exact t_zret C hT hf hz hr hlocks dX4_isClashHere_69
    · have hf := ite_f (fun q => q hc) hf
      refine lv_iconst (v := 0) hx hb dX4_isClashHere_53 (by decide) ?_
      exact t_zret C hT hf (Or.inl rfl) hr hlocks dX4_isClashHere_54
  · have hf := ite_f (fun q => q hc) hf
    refine lv_iconst (v := 0) hx hb dX4_isClashHere_20 (by decide) ?_
    exact t_zret C hT hf (Or.inl rfl) hr hlocks dX4_isClashHere_21
def fX4_isScoreHere (N : Nat) (t : TS) : Option (Int32 × TS) :=
  ((fX4_passWord N t ).bind fun w_1 => ((fX4_numberHere N w_1 (0 : Int32) ((w_1.2.1 7 1) - (1 : Int32))).bind fun w_14 => (if ¬ w_14.1 = 0 then (lett (w_14.2.1 10) fun x1_26 => ((fX4_numberHere N w_14.2 (0 : Int32) ((w_14.2.2.1 7 3) - (1 : Int32))).bind fun w_37 => (if ¬ w_37.1 = 0 then (ix ((78 : Int32) + x1_26) 90 (ix ((78 : Int32) + x1_26) 90 (lett (tsA w_37.2 7 (((78 : Int32) + x1_26)).toNatClampNeg ((w_37.2.2.1 7 (((78 : Int32) + x1_26)).toNatClampNeg) ||| ((1 : Int32) <<< ((w_37.2.1 10) &&& 31)))) fun t_62 => (some ((1 : Int32), t_62))))) else (some ((0 : Int32), w_37.2))))) else (some ((0 : Int32), w_14.2)))))
theorem hdX4_isScoreHere : yX4_isScoreHere.cls = RX4 ∧ yX4_isScoreHere.cls ≠ "java/lang/invoke/MethodHandle" ∧ yX4_isScoreHere.cls ≠ "java/lang/invoke/VarHandle" ∧ (parseMethodDescriptor yX4_isScoreHere.desc).map (fun d => d.parameters.length) = some 0 := by decide +kernel
set_option maxHeartbeats 4000000 in
theorem mX4_isScoreHere (l : Launch) (D : va_G) (d : Nat → ClassId) (a : Nat → Nat) (N : Nat) (t : TS) (w : Int32 × TS) (hf : fX4_isScoreHere N t = some w) (sz : Nat) : Met l yX4_isScoreHere (ws_ yX4_isScoreHere cX4_isScoreHere 2 (some .boolean)) (rm_ 2 49) (PcT D d a [] t sz) (QiT D d a w.1 w.2 sz) 0 0 (AT a sz) := by
  refine Met.ofW (cc := cX4_isScoreHere) (maxL := 2) (ret := (some .boolean)) plX4 rfl ?_
  intro p e s m args below meth c s₁ B hml hv
  obtain ⟨C, hV, hT, hr, hlocks, hargs, rfl⟩ := t_enter B hml rfl hv
  have hx := C.1
  have hb := C.2.1
  show W p l e (rm_ 2 49) s m args below meth c s.heap [] 0 0 (MQ below (QiT D d a w.1 w.2 s.heap.size) args s 0 0 (AT a s.heap.size)) _
  refine W.eq (by rw [hargs]) (t_in (vs := [.ref (a 42)]) (n := 2) (Nat.le_of_ble_eq_true rfl) (fun ls hl => ?_))
  have hl : lv_has ls 2 [(0, .ref (a 42))] := hl
  unfold fX4_isScoreHere at hf
  skip
  refine lv_aload_n hx hb dX4_isScoreHere_0 rfl (lv_at hl 0 rfl) ?_
  obtain ⟨w_1, h_1, hf⟩ := bind_e hf
  refine t_callv (vs := []) (rest := []) C hV hT (fun sz => mX4_passWord l D d a N t  _ h_1 sz) (cwV 0 C.2.2.2.2 (lw_V q1432 q1434 qs54 q129 q1435) rfl rfl rfl hdX4_passWord ⟨Nat.le_of_ble_eq_true rfl, Nat.le_of_ble_eq_true rfl⟩) rfl hl.1 rfl (Nat.le_of_ble_eq_true rfl) dX4_isScoreHere_1 (fun H locs hT => ?_)
  refine lv_aload_n hx hb dX4_isScoreHere_4 rfl (lv_at hl 0 rfl) ?_
  refine lv_iconst (v := 0) hx hb dX4_isScoreHere_5 (by decide) ?_
  refine lv_aload_n hx hb dX4_isScoreHere_6 rfl (lv_at hl 0 rfl) ?_
  refine t_get C hV hT 7 (by decide) q1254 rfl dX4_isScoreHere_7 ?_
  refine lv_iconst (v := 1) hx hb dX4_isScoreHere_10 (by decide) ?_
  refine g_ild C hV hT 6 1 rfl (vin_of (by decide)) (by decide) dX4_isScoreHere_11 ?_
  refine lv_iconst (v := 1) hx hb dX4_isScoreHere_12 (by decide) ?_
  refine lv_isub hx hb dX4_isScoreHere_13 ?_
  obtain ⟨w_14, h_14, hf⟩ := bind_e hf
  refine t_calli (vs := [.int (0 : Int32), .int ((w_1.2.1 7 1) - (1 : Int32))]) (rest := []) C hV hT (fun sz => mX4_numberHere l D d a N w_1 (0 : Int32) ((w_1.2.1 7 1) - (1 : Int32)) _ h_14 sz) (cwV 2 C.2.2.2.2 (lw_V q1440 q1442 qs56 q129 q1443) rfl rfl rfl hdX4_numberHere ⟨Nat.le_of_ble_eq_true rfl, Nat.le_of_ble_eq_true rfl⟩) rfl hl.1 rfl (Nat.le_of_ble_eq_true rfl) dX4_isScoreHere_14 (fun H locs hT => ?_)
  refine lv_if_ne (tgt := 22) hx hb dX4_isScoreHere_17 (by decide) (fun hc => ?_) (fun hc => ?_)
  · have hf := ite_t hc hf
    refine lv_aload_n hx hb dX4_isScoreHere_22 rfl (lv_at hl 0 rfl) ?_
    refine t_get C hV hT 10 (by decide) q1257 rfl dX4_isScoreHere_23 ?_
    refine lv_topi (fun x1_26 ex => ?_)
    have hf := lett_e ex hf
    refine lv_istore_n (lv' := [(1, .int x1_26), (0, .ref (a 42))]) hx hb dX4_isScoreHere_26 rfl hl (by decide) rfl (fun ls hl => ?_)
    refine lv_aload_n hx hb dX4_isScoreHere_27 rfl (lv_at hl 1 rfl) ?_
    refine lv_iconst (v := 0) hx hb dX4_isScoreHere_28 (by decide) ?_
    refine lv_aload_n hx hb dX4_isScoreHere_29 rfl (lv_at hl 1 rfl) ?_
    refine t_get C hV hT 7 (by decide) q1254 rfl dX4_isScoreHere_30 ?_
    refine lv_iconst (v := 3) hx hb dX4_isScoreHere_33 (by decide) ?_
    refine g_ild C hV hT 6 3 rfl (vin_of (by decide)) (by decide) dX4_isScoreHere_34 ?_
    refine lv_iconst (v := 1) hx hb dX4_isScoreHere_35 (by decide) ?_
    refine lv_isub hx hb dX4_isScoreHere_36 ?_
    obtain ⟨w_37, h_37, hf⟩ := bind_e hf
    refine t_calli (vs := [.int (0 : Int32), .int ((w_14.2.2.1 7 3) - (1 : Int32))]) (rest := []) C hV hT (fun sz => mX4_numberHere l D d a N w_14.2 (0 : Int32) ((w_14.2.2.1 7 3) - (1 : Int32)) _ h_37 sz) (cwV 2 C.2.2.2.2 (lw_V q1440 q1442 qs56 q129 q1443) rfl rfl rfl hdX4_numberHere ⟨Nat.le_of_ble_eq_true rfl, Nat.le_of_ble_eq_true rfl⟩) rfl hl.1 rfl (Nat.le_of_ble_eq_true rfl) dX4_isScoreHere_37 (fun H locs hT => ?_)
    refine lv_if_ne (tgt := 45) hx hb dX4_isScoreHere_40 (by decide) (fun hc => ?_) (fun hc => ?_)
    · have hf := ite_t hc hf
      refine lv_aload_n hx hb dX4_isScoreHere_45 rfl (lv_at hl 1 rfl) ?_
      refine t_get C hV hT 7 (by decide) q1254 rfl dX4_isScoreHere_46 ?_
      refine lv_bipush (v := 78) hx hb dX4_isScoreHere_49 (by decide) ?_
      refine lv_iload_n hx hb dX4_isScoreHere_51 rfl (lv_at hl 0 rfl) ?_
      refine lv_iadd hx hb dX4_isScoreHere_52 ?_
      refine lv_dup2_11 hx hb dX4_isScoreHere_53 rfl rfl ?_
      obtain ⟨hi, hf⟩ := ix_e hf
      refine g_ild C hV hT 6 _ rfl hi rfl dX4_isScoreHere_54 ?_
      refine lv_iconst (v := 1) hx hb dX4_isScoreHere_55 (by decide) ?_
      refine lv_aload_n hx hb dX4_isScoreHere_56 rfl (lv_at hl 1 rfl) ?_
      refine t_get C hV hT 10 (by decide) q1257 rfl dX4_isScoreHere_57 ?_
      refine lv_ishl hx hb dX4_isScoreHere_60 ?_
      refine lv_ior hx hb dX4_isScoreHere_61 ?_
      obtain ⟨hi, hf⟩ := ix_e hf
      refine t_ist C hV hT 6 _ rfl hi rfl (tast_7 d a w_37.2 _ _) dX4_isScoreHere_62 (fun t_62 H locs et hT => ?_)
      have hf := lett_e et hf
      refine lv_iconst (v := 1) hx hb dX4_isScoreHere_63 (by decide) ?_
      exact t_zret C hT hf (Or.inr rfl) hr hlocks dX4_isScoreHere_64
    · have hf := ite_f (fun q => q hc) hf
      refine lv_iconst (v := 0) hx hb dX4_isScoreHere_43 (by decide) ?_
      exact t_zret C hT hf (Or.inl rfl) hr hlocks dX4_isScoreHere_44
  · have hf := ite_f (fun q => q hc) hf
    refine lv_iconst (v := 0) hx hb dX4_isScoreHere_20 (by decide) ?_
    exact t_zret C hT hf (Or.inl rfl) hr hlocks dX4_isScoreHere_21
def fX4_junctionLineHere (N : Nat) (t : TS) (x1 : Int32) : Option (Int32 × TS) :=
  ((fX4_isWord N t (366619534830 : Int64)).bind fun w_4 => (if w_4.1 = 0 then (if ¬ (w_4.2.2.1 7 0) = 0 then ((fX4_isWord N w_4.2 (605220 : Int64)).bind fun w_36 => (if w_36.1 = 0 then ((fX4_isWord N w_36.2 (3540584 : Int64)).bind fun w_52 => (if w_52.1 = 0 then ((fX4_isScoreHere N w_52.2 ).bind fun w_66 => (ckz w_66.1 (some (w_66.1, w_66.2)))) else ((fX4_isClashHere N w_52.2 ).bind fun w_59 => (ckz w_59.1 (some (w_59.1, w_59.2)))))) else ((fX4_isRoadHere N w_36.2 x1).bind fun w_44 => (ckz w_44.1 (some (w_44.1, w_44.2)))))) else ((fX4_fails N w_4.2 (4 : Int32) x1).bind fun w_28 => (ckz w_28.1 (some (w_28.1, w_28.2))))) else ((fX4_isJunctionHere N w_4.2 x1).bind fun w_12 => (ckz w_12.1 (some (w_12.1, w_12.2))))))
theorem hdX4_junctionLineHere : yX4_junctionLineHere.cls = RX4 ∧ yX4_junctionLineHere.cls ≠ "java/lang/invoke/MethodHandle" ∧ yX4_junctionLineHere.cls ≠ "java/lang/invoke/VarHandle" ∧ (parseMethodDescriptor yX4_junctionLineHere.desc).map (fun d => d.parameters.length) = some 1 := by decide +kernel
set_option maxHeartbeats 4000000 in
theorem mX4_junctionLineHere (l : Launch) (D : va_G) (d : Nat → ClassId) (a : Nat → Nat) (N : Nat) (t : TS) (x1 : Int32) (w : Int32 × TS) (hf : fX4_junctionLineHere N t x1 = some w) (sz : Nat) : Met l yX4_junctionLineHere (ws_ yX4_junctionLineHere cX4_junctionLineHere 2 (some .boolean)) (rm_ 4 94) (PcT D d a [.int x1] t sz) (QiT D d a w.1 w.2 sz) 0 0 (AT a sz) := by
  refine Met.ofW (cc := cX4_junctionLineHere) (maxL := 2) (ret := (some .boolean)) plX4 rfl ?_
  intro p e s m args below meth c s₁ B hml hv
  obtain ⟨C, hV, hT, hr, hlocks, hargs, rfl⟩ := t_enter B hml rfl hv
  have hx := C.1
  have hb := C.2.1
  show W p l e (rm_ 4 94) s m args below meth c s.heap [] 0 0 (MQ below (QiT D d a w.1 w.2 s.heap.size) args s 0 0 (AT a s.heap.size)) _
  refine W.eq (by rw [hargs]) (t_in (vs := [.ref (a 42), .int x1]) (n := 2) (Nat.le_of_ble_eq_true rfl) (fun ls hl => ?_))
  have hl : lv_has ls 2 [(0, .ref (a 42)), (1, .int x1)] := hl
  unfold fX4_junctionLineHere at hf
  skip
  refine lv_aload_n hx hb dX4_junctionLineHere_0 rfl (lv_at hl 0 rfl) ?_
  refine g_ldc2 (v := 366619534830) C q1407 dX4_junctionLineHere_1 ?_
  obtain ⟨w_4, h_4, hf⟩ := bind_e hf
  refine t_calli (vs := [.long (366619534830 : Int64)]) (rest := []) C hV hT (fun sz => mX4_isWord l D d a N t (366619534830 : Int64) _ h_4 sz) (cwV 1 C.2.2.2.2 (lw_V q1408 q1410 qs49 q129 q1411) rfl rfl rfl hdX4_isWord ⟨Nat.le_of_ble_eq_true rfl, Nat.le_of_ble_eq_true rfl⟩) rfl hl.1 rfl (Nat.le_of_ble_eq_true rfl) dX4_junctionLineHere_4 (fun H locs hT => ?_)
  refine lv_if_eq (tgt := 16) hx hb dX4_junctionLineHere_7 (by decide) (fun hc => ?_) (fun hc => ?_)
  · have hf := ite_t hc hf
    refine lv_aload_n hx hb dX4_junctionLineHere_16 rfl (lv_at hl 0 rfl) ?_
    refine t_get C hV hT 7 (by decide) q1254 rfl dX4_junctionLineHere_17 ?_
    refine lv_iconst (v := 0) hx hb dX4_junctionLineHere_20 (by decide) ?_
    refine g_ild C hV hT 6 0 rfl (vin_of (by decide)) (by decide) dX4_junctionLineHere_21 ?_
    refine lv_if_ne (tgt := 32) hx hb dX4_junctionLineHere_22 (by decide) (fun hc => ?_) (fun hc => ?_)
    · have hf := ite_t hc hf
      refine lv_aload_n hx hb dX4_junctionLineHere_32 rfl (lv_at hl 0 rfl) ?_
      refine g_ldc2 (v := 605220) C q1416 dX4_junctionLineHere_33 ?_
      obtain ⟨w_36, h_36, hf⟩ := bind_e hf
      refine t_calli (vs := [.long (605220 : Int64)]) (rest := []) C hV hT (fun sz => mX4_isWord l D d a N w_4.2 (605220 : Int64) _ h_36 sz) (cwV 1 C.2.2.2.2 (lw_V q1408 q1410 qs49 q129 q1411) rfl rfl rfl hdX4_isWord ⟨Nat.le_of_ble_eq_true rfl, Nat.le_of_ble_eq_true rfl⟩) rfl hl.1 rfl (Nat.le_of_ble_eq_true rfl) dX4_junctionLineHere_36 (fun H locs hT => ?_)
      refine lv_if_eq (tgt := 48) hx hb dX4_junctionLineHere_39 (by decide) (fun hc => ?_) (fun hc => ?_)
      · have hf := ite_t hc hf
        refine lv_aload_n hx hb dX4_junctionLineHere_48 rfl (lv_at hl 0 rfl) ?_
        refine g_ldc2 (v := 3540584) C q1417 dX4_junctionLineHere_49 ?_
        obtain ⟨w_52, h_52, hf⟩ := bind_e hf
        refine t_calli (vs := [.long (3540584 : Int64)]) (rest := []) C hV hT (fun sz => mX4_isWord l D d a N w_36.2 (3540584 : Int64) _ h_52 sz) (cwV 1 C.2.2.2.2 (lw_V q1408 q1410 qs49 q129 q1411) rfl rfl rfl hdX4_isWord ⟨Nat.le_of_ble_eq_true rfl, Nat.le_of_ble_eq_true rfl⟩) rfl hl.1 rfl (Nat.le_of_ble_eq_true rfl) dX4_junctionLineHere_52 (fun H locs hT => ?_)
        refine lv_if_eq (tgt := 65) hx hb dX4_junctionLineHere_55 (by decide) (fun hc => ?_) (fun hc => ?_)
        · have hf := ite_t hc hf
          refine lv_aload_n hx hb dX4_junctionLineHere_65 rfl (lv_at hl 0 rfl) ?_
          obtain ⟨w_66, h_66, hf⟩ := bind_e hf
          refine t_calli (vs := []) (rest := []) C hV hT (fun sz => mX4_isScoreHere l D d a N w_52.2  _ h_66 sz) (cwV 0 C.2.2.2.2 (lw_V q1459 q1461 qs60 q129 q1462) rfl rfl rfl hdX4_isScoreHere ⟨Nat.le_of_ble_eq_true rfl, Nat.le_of_ble_eq_true rfl⟩) rfl hl.1 rfl (Nat.le_of_ble_eq_true rfl) dX4_junctionLineHere_66 (fun H locs hT => ?_)
          obtain ⟨hz, hf⟩ := ckz_e hf
          exact t_zret C hT hf hz hr hlocks dX4_junctionLineHere_69
        · have hf := ite_f hc hf
          refine lv_aload_n hx hb dX4_junctionLineHere_58 rfl (lv_at hl 0 rfl) ?_
          obtain ⟨w_59, h_59, hf⟩ := bind_e hf
          refine t_calli (vs := []) (rest := []) C hV hT (fun sz => mX4_isClashHere l D d a N w_52.2  _ h_59 sz) (cwV 0 C.2.2.2.2 (lw_V q1455 q1457 qs59 q129 q1458) rfl rfl rfl hdX4_isClashHere ⟨Nat.le_of_ble_eq_true rfl, Nat.le_of_ble_eq_true rfl⟩) rfl hl.1 rfl (Nat.le_of_ble_eq_true rfl) dX4_junctionLineHere_59 (fun H locs hT => ?_)
          refine lv_goto (tgt := 69) hx hb dX4_junctionLineHere_62 (by decide) ?_
          obtain ⟨hz, hf⟩ := ckz_e hf
          exact t_zret C hT hf hz hr hlocks dX4_junctionLineHere_69
      · have hf := ite_f hc hf
        refine lv_aload_n hx hb dX4_junctionLineHere_42 rfl (lv_at hl 0 rfl) ?_
        refine lv_iload_n hx hb dX4_junctionLineHere_43 rfl (lv_at hl 1 rfl) ?_
        obtain ⟨w_44, h_44, hf⟩ := bind_e hf
        refine t_calli (vs := [.int x1]) (rest := []) C hV hT (fun sz => mX4_isRoadHere l D d a N w_36.2 x1 _ h_44 sz) (cwV 1 C.2.2.2.2 (lw_V q1451 q1453 qs58 q129 q1454) rfl rfl rfl hdX4_isRoadHere ⟨Nat.le_of_ble_eq_true rfl, Nat.le_of_ble_eq_true rfl⟩) rfl hl.1 rfl (Nat.le_of_ble_eq_true rfl) dX4_junctionLineHere_44 (fun H locs hT => ?_)
        obtain ⟨hz, hf⟩ := ckz_e hf
        exact t_zret C hT hf hz hr hlocks dX4_junctionLineHere_47
    · have hf := ite_f (fun q => q hc) hf
      refine lv_aload_n hx hb dX4_junctionLineHere_25 rfl (lv_at hl 0 rfl) ?_
      refine lv_iconst (v := 4) hx hb dX4_junctionLineHere_26 (by decide) ?_
      refine lv_iload_n hx hb dX4_junctionLineHere_27 rfl (lv_at hl 1 rfl) ?_
      obtain ⟨w_28, h_28, hf⟩ := bind_e hf
      refine t_calli (vs := [.int (4 : Int32), .int x1]) (rest := []) C hV hT (fun sz => mX4_fails l D d a N w_4.2 (4 : Int32) x1 _ h_28 sz) (cwV 2 C.2.2.2.2 (lw_V q1420 q1422 qs51 q129 q1423) rfl rfl rfl hdX4_fails ⟨Nat.le_of_ble_eq_true rfl, Nat.le_of_ble_eq_true rfl⟩) rfl hl.1 rfl (Nat.le_of_ble_eq_true rfl) dX4_junctionLineHere_28 (fun H locs hT => ?_)
      obtain ⟨hz, hf⟩ := ckz_e hf
      exact t_zret C hT hf hz hr hlocks dX4_junctionLineHere_31
  · have hf := ite_f hc hf
    refine lv_aload_n hx hb dX4_junctionLineHere_10 rfl (lv_at hl 0 rfl) ?_
    refine lv_iload_n hx hb dX4_junctionLineHere_11 rfl (lv_at hl 1 rfl) ?_
    obtain ⟨w_12, h_12, hf⟩ := bind_e hf
    refine t_calli (vs := [.int x1]) (rest := []) C hV hT (fun sz => mX4_isJunctionHere l D d a N w_4.2 x1 _ h_12 sz) (cwV 1 C.2.2.2.2 (lw_V q1428 q1430 qs53 q129 q1431) rfl rfl rfl hdX4_isJunctionHere ⟨Nat.le_of_ble_eq_true rfl, Nat.le_of_ble_eq_true rfl⟩) rfl hl.1 rfl (Nat.le_of_ble_eq_true rfl) dX4_junctionLineHere_12 (fun H locs hT => ?_)
    obtain ⟨hz, hf⟩ := ckz_e hf
    exact t_zret C hT hf hz hr hlocks dX4_junctionLineHere_15
def fX4_makes (N : Nat) (t : TS) (x1 : Int32) : Option (Int32 × TS) :=
  (if ¬ (t.1 12) = (60 : Int32) then (lett (tsI t 12 ((t.1 12) + (1 : Int32))) fun t_23 => (some ((1 : Int32), t_23))) else ((fX4_fails N t (3 : Int32) x1).bind fun w_12 => (ckz w_12.1 (some (w_12.1, w_12.2)))))
theorem hdX4_makes : yX4_makes.cls = RX4 ∧ yX4_makes.cls ≠ "java/lang/invoke/MethodHandle" ∧ yX4_makes.cls ≠ "java/lang/invoke/VarHandle" ∧ (parseMethodDescriptor yX4_makes.desc).map (fun d => d.parameters.length) = some 1 := by decide +kernel
set_option maxHeartbeats 4000000 in
theorem mX4_makes (l : Launch) (D : va_G) (d : Nat → ClassId) (a : Nat → Nat) (N : Nat) (t : TS) (x1 : Int32) (w : Int32 × TS) (hf : fX4_makes N t x1 = some w) (sz : Nat) : Met l yX4_makes (ws_ yX4_makes cX4_makes 2 (some .boolean)) (rm_ 1 22) (PcT D d a [.int x1] t sz) (QiT D d a w.1 w.2 sz) 0 0 (AT a sz) := by
  refine Met.ofW (cc := cX4_makes) (maxL := 2) (ret := (some .boolean)) plX4 rfl ?_
  intro p e s m args below meth c s₁ B hml hv
  obtain ⟨C, hV, hT, hr, hlocks, hargs, rfl⟩ := t_enter B hml rfl hv
  have hx := C.1
  have hb := C.2.1
  show W p l e (rm_ 1 22) s m args below meth c s.heap [] 0 0 (MQ below (QiT D d a w.1 w.2 s.heap.size) args s 0 0 (AT a s.heap.size)) _
  refine W.eq (by rw [hargs]) (t_in (vs := [.ref (a 42), .int x1]) (n := 2) (Nat.le_of_ble_eq_true rfl) (fun ls hl => ?_))
  have hl : lv_has ls 2 [(0, .ref (a 42)), (1, .int x1)] := hl
  unfold fX4_makes at hf
  skip
  refine lv_aload_n hx hb dX4_makes_0 rfl (lv_at hl 0 rfl) ?_
  refine t_get C hV hT 12 (by decide) q1259 rfl dX4_makes_1 ?_
  refine lv_bipush (v := 60) hx hb dX4_makes_4 (by decide) ?_
  refine lv_icmp_ne (tgt := 16) hx hb dX4_makes_6 (by decide) (fun hc => ?_) (fun hc => ?_)
  · have hf := ite_t hc hf
    refine lv_aload_n hx hb dX4_makes_16 rfl (lv_at hl 0 rfl) ?_
    refine lv_dup hx hb dX4_makes_17 rfl ?_
    refine t_get C hV hT 12 (by decide) q1259 rfl dX4_makes_18 ?_
    refine lv_iconst (v := 1) hx hb dX4_makes_21 (by decide) ?_
    refine lv_iadd hx hb dX4_makes_22 ?_
    refine t_put C hV hT 12 (by decide) q1259 (tset_12 a t _) rfl rfl dX4_makes_23 (fun t_23 H locs et hT => ?_)
    have hf := lett_e et hf
    refine lv_iconst (v := 1) hx hb dX4_makes_26 (by decide) ?_
    exact t_zret C hT hf (Or.inr rfl) hr hlocks dX4_makes_27
  · have hf := ite_f (fun q => q hc) hf
    refine lv_aload_n hx hb dX4_makes_9 rfl (lv_at hl 0 rfl) ?_
    refine lv_iconst (v := 3) hx hb dX4_makes_10 (by decide) ?_
    refine lv_iload_n hx hb dX4_makes_11 rfl (lv_at hl 1 rfl) ?_
    obtain ⟨w_12, h_12, hf⟩ := bind_e hf
    refine t_calli (vs := [.int (3 : Int32), .int x1]) (rest := []) C hV hT (fun sz => mX4_fails l D d a N t (3 : Int32) x1 _ h_12 sz) (cwV 2 C.2.2.2.2 (lw_V q1420 q1422 qs51 q129 q1423) rfl rfl rfl hdX4_fails ⟨Nat.le_of_ble_eq_true rfl, Nat.le_of_ble_eq_true rfl⟩) rfl hl.1 rfl (Nat.le_of_ble_eq_true rfl) dX4_makes_12 (fun H locs hT => ?_)
    obtain ⟨hz, hf⟩ := ckz_e hf
    exact t_zret C hT hf hz hr hlocks dX4_makes_15
def fX4_puts (N : Nat) (t : TS) (x1 : Int32) (x2 : Int32) : Option (TS) :=
  (ix (t.1 11) 7 (ix (((400 : Int32) * (t.1 11)) + (t.2.1 4 ((t.1 11)).toNatClampNeg)) 2400 (lett (tsA t 3 ((((400 : Int32) * (t.1 11)) + (t.2.1 4 ((t.1 11)).toNatClampNeg))).toNatClampNeg (x1 + ((16 : Int32) * x2))) fun t_28 => (ix (t_28.1 11) 7 (ix (t_28.1 11) 7 (lett (tsA t_28 4 ((t_28.1 11)).toNatClampNeg ((t_28.2.1 4 ((t_28.1 11)).toNatClampNeg) + (1 : Int32))) fun t_41 => (some t_41)))))))
theorem hdX4_puts : yX4_puts.cls = RX4 ∧ yX4_puts.cls ≠ "java/lang/invoke/MethodHandle" ∧ yX4_puts.cls ≠ "java/lang/invoke/VarHandle" ∧ (parseMethodDescriptor yX4_puts.desc).map (fun d => d.parameters.length) = some 2 := by decide +kernel
set_option maxHeartbeats 4000000 in
theorem mX4_puts (l : Launch) (D : va_G) (d : Nat → ClassId) (a : Nat → Nat) (N : Nat) (t : TS) (x1 : Int32) (x2 : Int32) (w : TS) (hf : fX4_puts N t x1 x2 = some w) (sz : Nat) : Met l yX4_puts (ws_ yX4_puts cX4_puts 3 none) (rm_ 0 0) (PcT D d a [.int x1, .int x2] t sz) (QvT D d a w sz) 0 0 (AT a sz) := by
  refine Met.ofW (cc := cX4_puts) (maxL := 3) (ret := none) plX4 rfl ?_
  intro p e s m args below meth c s₁ B hml hv
  obtain ⟨C, hV, hT, hr, hlocks, hargs, rfl⟩ := t_enter B hml rfl hv
  have hx := C.1
  have hb := C.2.1
  show W p l e (rm_ 0 0) s m args below meth c s.heap [] 0 0 (MQ below (QvT D d a w s.heap.size) args s 0 0 (AT a s.heap.size)) _
  refine W.eq (by rw [hargs]) (t_in (vs := [.ref (a 42), .int x1, .int x2]) (n := 3) (Nat.le_of_ble_eq_true rfl) (fun ls hl => ?_))
  have hl : lv_has ls 3 [(0, .ref (a 42)), (1, .int x1), (2, .int x2)] := hl
  unfold fX4_puts at hf
  skip
  refine lv_aload_n hx hb dX4_puts_0 rfl (lv_at hl 0 rfl) ?_
  refine t_get C hV hT 3 (by decide) q1250 rfl dX4_puts_1 ?_
  refine lv_sipush (v := 400) hx hb dX4_puts_4 (by decide) ?_
  refine lv_aload_n hx hb dX4_puts_7 rfl (lv_at hl 0 rfl) ?_
  refine t_get C hV hT 11 (by decide) q1258 rfl dX4_puts_8 ?_
  refine lv_imul hx hb dX4_puts_11 ?_
  refine lv_aload_n hx hb dX4_puts_12 rfl (lv_at hl 0 rfl) ?_
  refine t_get C hV hT 4 (by decide) q1251 rfl dX4_puts_13 ?_
  refine lv_aload_n hx hb dX4_puts_16 rfl (lv_at hl 0 rfl) ?_
  refine t_get C hV hT 11 (by decide) q1258 rfl dX4_puts_17 ?_
  obtain ⟨hi, hf⟩ := ix_e hf
  refine g_ild C hV hT 3 _ rfl hi rfl dX4_puts_20 ?_
  refine lv_iadd hx hb dX4_puts_21 ?_
  refine lv_iload_n hx hb dX4_puts_22 rfl (lv_at hl 1 rfl) ?_
  refine lv_bipush (v := 16) hx hb dX4_puts_23 (by decide) ?_
  refine lv_iload_n hx hb dX4_puts_25 rfl (lv_at hl 2 rfl) ?_
  refine lv_imul hx hb dX4_puts_26 ?_
  refine lv_iadd hx hb dX4_puts_27 ?_
  obtain ⟨hi, hf⟩ := ix_e hf
  refine t_ist C hV hT 2 _ rfl hi rfl (tast_3 d a t _ _) dX4_puts_28 (fun t_28 H locs et hT => ?_)
  have hf := lett_e et hf
  refine lv_aload_n hx hb dX4_puts_29 rfl (lv_at hl 0 rfl) ?_
  refine t_get C hV hT 4 (by decide) q1251 rfl dX4_puts_30 ?_
  refine lv_aload_n hx hb dX4_puts_33 rfl (lv_at hl 0 rfl) ?_
  refine t_get C hV hT 11 (by decide) q1258 rfl dX4_puts_34 ?_
  refine lv_dup2_11 hx hb dX4_puts_37 rfl rfl ?_
  obtain ⟨hi, hf⟩ := ix_e hf
  refine g_ild C hV hT 3 _ rfl hi rfl dX4_puts_38 ?_
  refine lv_iconst (v := 1) hx hb dX4_puts_39 (by decide) ?_
  refine lv_iadd hx hb dX4_puts_40 ?_
  obtain ⟨hi, hf⟩ := ix_e hf
  refine t_ist C hV hT 3 _ rfl hi rfl (tast_4 d a t_28 _ _) dX4_puts_41 (fun t_41 H locs et hT => ?_)
  have hf := lett_e et hf
  exact t_vret C hT hf hr hlocks dX4_puts_42
def fX4_wordHere (N : Nat) (t : TS) : Option (Int32 × TS) :=
  ((fX4_isWord N t (605220 : Int64)).bind fun w_4 => (if w_4.1 = 0 then ((fX4_isWord N w_4.2 (754996 : Int64)).bind fun w_16 => (if w_16.1 = 0 then ((fX4_isWord N w_16.2 (5969497 : Int64)).bind fun w_28 => (if w_28.1 = 0 then ((fX4_isWord N w_28.2 (525908 : Int64)).bind fun w_40 => (if w_40.1 = 0 then ((fX4_isWord N w_40.2 (641190052 : Int64)).bind fun w_52 => (if w_52.1 = 0 then ((fX4_isWord N w_52.2 (12468 : Int64)).bind fun w_64 => (if w_64.1 = 0 then ((fX4_isWord N w_64.2 (20436420 : Int64)).bind fun w_76 => (if w_76.1 = 0 then ((fX4_isWord N w_76.2 (20232293 : Int64)).bind fun w_89 => (if w_89.1 = 0 then ((fX4_isWord N w_89.2 (759252 : Int64)).bind fun w_102 => (if w_102.1 = 0 then ((fX4_isWord N w_102.2 (1420 : Int64)).bind fun w_115 => (if w_115.1 = 0 then ((fX4_isWord N w_115.2 (70708 : Int64)).bind fun w_128 => (if w_128.1 = 0 then ((fX4_isWord N w_128.2 (278194 : Int64)).bind fun w_143 => (if w_143.1 = 0 then (some ((-1 : Int32), w_143.2)) else (some ((11 : Int32), w_143.2)))) else (some ((10 : Int32), w_128.2)))) else (some ((9 : Int32), w_115.2)))) else (some ((8 : Int32), w_102.2)))) else (some ((7 : Int32), w_89.2)))) else (some ((6 : Int32), w_76.2)))) else (some ((5 : Int32), w_64.2)))) else (some ((4 : Int32), w_52.2)))) else (some ((3 : Int32), w_40.2)))) else (some ((2 : Int32), w_28.2)))) else (some ((1 : Int32), w_16.2)))) else (some ((0 : Int32), w_4.2))))
theorem hdX4_wordHere : yX4_wordHere.cls = RX4 ∧ yX4_wordHere.cls ≠ "java/lang/invoke/MethodHandle" ∧ yX4_wordHere.cls ≠ "java/lang/invoke/VarHandle" ∧ (parseMethodDescriptor yX4_wordHere.desc).map (fun d => d.parameters.length) = some 0 := by decide +kernel
set_option maxHeartbeats 4000000 in
theorem mX4_wordHere (l : Launch) (D : va_G) (d : Nat → ClassId) (a : Nat → Nat) (N : Nat) (t : TS) (w : Int32 × TS) (hf : fX4_wordHere N t = some w) (sz : Nat) : Met l yX4_wordHere (ws_ yX4_wordHere cX4_wordHere 1 (some .int)) (rm_ 2 46) (PcT D d a [] t sz) (QiT D d a w.1 w.2 sz) 0 0 (AT a sz) := by
  refine Met.ofW (cc := cX4_wordHere) (maxL := 1) (ret := (some .int)) plX4 rfl ?_
  intro p e s m args below meth c s₁ B hml hv
  obtain ⟨C, hV, hT, hr, hlocks, hargs, rfl⟩ := t_enter B hml rfl hv
  have hx := C.1
  have hb := C.2.1
  show W p l e (rm_ 2 46) s m args below meth c s.heap [] 0 0 (MQ below (QiT D d a w.1 w.2 s.heap.size) args s 0 0 (AT a s.heap.size)) _
  refine W.eq (by rw [hargs]) (t_in (vs := [.ref (a 42)]) (n := 1) (Nat.le_of_ble_eq_true rfl) (fun ls hl => ?_))
  have hl : lv_has ls 1 [(0, .ref (a 42))] := hl
  unfold fX4_wordHere at hf
  skip
  refine lv_aload_n hx hb dX4_wordHere_0 rfl (lv_at hl 0 rfl) ?_
  refine g_ldc2 (v := 605220) C q1416 dX4_wordHere_1 ?_
  obtain ⟨w_4, h_4, hf⟩ := bind_e hf
  refine t_calli (vs := [.long (605220 : Int64)]) (rest := []) C hV hT (fun sz => mX4_isWord l D d a N t (605220 : Int64) _ h_4 sz) (cwV 1 C.2.2.2.2 (lw_V q1408 q1410 qs49 q129 q1411) rfl rfl rfl hdX4_isWord ⟨Nat.le_of_ble_eq_true rfl, Nat.le_of_ble_eq_true rfl⟩) rfl hl.1 rfl (Nat.le_of_ble_eq_true rfl) dX4_wordHere_4 (fun H locs hT => ?_)
  refine lv_if_eq (tgt := 12) hx hb dX4_wordHere_7 (by decide) (fun hc => ?_) (fun hc => ?_)
  · have hf := ite_t hc hf
    refine lv_aload_n hx hb dX4_wordHere_12 rfl (lv_at hl 0 rfl) ?_
    refine g_ldc2 (v := 754996) C q1492 dX4_wordHere_13 ?_
    obtain ⟨w_16, h_16, hf⟩ := bind_e hf
    refine t_calli (vs := [.long (754996 : Int64)]) (rest := []) C hV hT (fun sz => mX4_isWord l D d a N w_4.2 (754996 : Int64) _ h_16 sz) (cwV 1 C.2.2.2.2 (lw_V q1408 q1410 qs49 q129 q1411) rfl rfl rfl hdX4_isWord ⟨Nat.le_of_ble_eq_true rfl, Nat.le_of_ble_eq_true rfl⟩) rfl hl.1 rfl (Nat.le_of_ble_eq_true rfl) dX4_wordHere_16 (fun H locs hT => ?_)
    refine lv_if_eq (tgt := 24) hx hb dX4_wordHere_19 (by decide) (fun hc => ?_) (fun hc => ?_)
    · have hf := ite_t hc hf
      refine lv_aload_n hx hb dX4_wordHere_24 rfl (lv_at hl 0 rfl) ?_
      refine g_ldc2 (v := 5969497) C q1493 dX4_wordHere_25 ?_
      obtain ⟨w_28, h_28, hf⟩ := bind_e hf
      refine t_calli (vs := [.long (5969497 : Int64)]) (rest := []) C hV hT (fun sz => mX4_isWord l D d a N w_16.2 (5969497 : Int64) _ h_28 sz) (cwV 1 C.2.2.2.2 (lw_V q1408 q1410 qs49 q129 q1411) rfl rfl rfl hdX4_isWord ⟨Nat.le_of_ble_eq_true rfl, Nat.le_of_ble_eq_true rfl⟩) rfl hl.1 rfl (Nat.le_of_ble_eq_true rfl) dX4_wordHere_28 (fun H locs hT => ?_)
      refine lv_if_eq (tgt := 36) hx hb dX4_wordHere_31 (by decide) (fun hc => ?_) (fun hc => ?_)
      · have hf := ite_t hc hf
        refine lv_aload_n hx hb dX4_wordHere_36 rfl (lv_at hl 0 rfl) ?_
        refine g_ldc2 (v := 525908) C q1494 dX4_wordHere_37 ?_
        obtain ⟨w_40, h_40, hf⟩ := bind_e hf
        refine t_calli (vs := [.long (525908 : Int64)]) (rest := []) C hV hT (fun sz => mX4_isWord l D d a N w_28.2 (525908 : Int64) _ h_40 sz) (cwV 1 C.2.2.2.2 (lw_V q1408 q1410 qs49 q129 q1411) rfl rfl rfl hdX4_isWord ⟨Nat.le_of_ble_eq_true rfl, Nat.le_of_ble_eq_true rfl⟩) rfl hl.1 rfl (Nat.le_of_ble_eq_true rfl) dX4_wordHere_40 (fun H locs hT => ?_)
        refine lv_if_eq (tgt := 48) hx hb dX4_wordHere_43 (by decide) (fun hc => ?_) (fun hc => ?_)
        · have hf := ite_t hc hf
          refine lv_aload_n hx hb dX4_wordHere_48 rfl (lv_at hl 0 rfl) ?_
          refine g_ldc2 (v := 641190052) C q1495 dX4_wordHere_49 ?_
          obtain ⟨w_52, h_52, hf⟩ := bind_e hf
          refine t_calli (vs := [.long (641190052 : Int64)]) (rest := []) C hV hT (fun sz => mX4_isWord l D d a N w_40.2 (641190052 : Int64) _ h_52 sz) (cwV 1 C.2.2.2.2 (lw_V q1408 q1410 qs49 q129 q1411) rfl rfl rfl hdX4_isWord ⟨Nat.le_of_ble_eq_true rfl, Nat.le_of_ble_eq_true rfl⟩) rfl hl.1 rfl (Nat.le_of_ble_eq_true rfl) dX4_wordHere_52 (fun H locs hT => ?_)
          refine lv_if_eq (tgt := 60) hx hb dX4_wordHere_55 (by decide) (fun hc => ?_) (fun hc => ?_)
          · have hf := ite_t hc hf
            refine lv_aload_n hx hb dX4_wordHere_60 rfl (lv_at hl 0 rfl) ?_
            refine g_ldc2 (v := 12468) C q1419 dX4_wordHere_61 ?_
            obtain ⟨w_64, h_64, hf⟩ := bind_e hf
            refine t_calli (vs := [.long (12468 : Int64)]) (rest := []) C hV hT (fun sz => mX4_isWord l D d a N w_52.2 (12468 : Int64) _ h_64 sz) (cwV 1 C.2.2.2.2 (lw_V q1408 q1410 qs49 q129 q1411) rfl rfl rfl hdX4_isWord ⟨Nat.le_of_ble_eq_true rfl, Nat.le_of_ble_eq_true rfl⟩) rfl hl.1 rfl (Nat.le_of_ble_eq_true rfl) dX4_wordHere_64 (fun H locs hT => ?_)
            refine lv_if_eq (tgt := 72) hx hb dX4_wordHere_67 (by decide) (fun hc => ?_) (fun hc => ?_)
            · have hf := ite_t hc hf
              refine lv_aload_n hx hb dX4_wordHere_72 rfl (lv_at hl 0 rfl) ?_
              refine g_ldc2 (v := 20436420) C q1496 dX4_wordHere_73 ?_
              obtain ⟨w_76, h_76, hf⟩ := bind_e hf
              refine t_calli (vs := [.long (20436420 : Int64)]) (rest := []) C hV hT (fun sz => mX4_isWord l D d a N w_64.2 (20436420 : Int64) _ h_76 sz) (cwV 1 C.2.2.2.2 (lw_V q1408 q1410 qs49 q129 q1411) rfl rfl rfl hdX4_isWord ⟨Nat.le_of_ble_eq_true rfl, Nat.le_of_ble_eq_true rfl⟩) rfl hl.1 rfl (Nat.le_of_ble_eq_true rfl) dX4_wordHere_76 (fun H locs hT => ?_)
              refine lv_if_eq (tgt := 85) hx hb dX4_wordHere_79 (by decide) (fun hc => ?_) (fun hc => ?_)
              · have hf := ite_t hc hf
                refine lv_aload_n hx hb dX4_wordHere_85 rfl (lv_at hl 0 rfl) ?_
                refine g_ldc2 (v := 20232293) C q1497 dX4_wordHere_86 ?_
                obtain ⟨w_89, h_89, hf⟩ := bind_e hf
                refine t_calli (vs := [.long (20232293 : Int64)]) (rest := []) C hV hT (fun sz => mX4_isWord l D d a N w_76.2 (20232293 : Int64) _ h_89 sz) (cwV 1 C.2.2.2.2 (lw_V q1408 q1410 qs49 q129 q1411) rfl rfl rfl hdX4_isWord ⟨Nat.le_of_ble_eq_true rfl, Nat.le_of_ble_eq_true rfl⟩) rfl hl.1 rfl (Nat.le_of_ble_eq_true rfl) dX4_wordHere_89 (fun H locs hT => ?_)
                refine lv_if_eq (tgt := 98) hx hb dX4_wordHere_92 (by decide) (fun hc => ?_) (fun hc => ?_)
                · have hf := ite_t hc hf
                  refine lv_aload_n hx hb dX4_wordHere_98 rfl (lv_at hl 0 rfl) ?_
                  refine g_ldc2 (v := 759252) C q1498 dX4_wordHere_99 ?_
                  obtain ⟨w_102, h_102, hf⟩ := bind_e hf
                  refine t_calli (vs := [.long (759252 : Int64)]) (rest := []) C hV hT (fun sz => mX4_isWord l D d a N w_89.2 (759252 : Int64) _ h_102 sz) (cwV 1 C.2.2.2.2 (lw_V q1408 q1410 qs49 q129 q1411) rfl rfl rfl hdX4_isWord ⟨Nat.le_of_ble_eq_true rfl, Nat.le_of_ble_eq_true rfl⟩) rfl hl.1 rfl (Nat.le_of_ble_eq_true rfl) dX4_wordHere_102 (fun H locs hT => ?_)
                  refine lv_if_eq (tgt := 111) hx hb dX4_wordHere_105 (by decide) (fun hc => ?_) (fun hc => ?_)
                  · have hf := ite_t hc hf
                    refine lv_aload_n hx hb dX4_wordHere_111 rfl (lv_at hl 0 rfl) ?_
                    refine g_ldc2 (v := 1420) C q1499 dX4_wordHere_112 ?_
                    obtain ⟨w_115, h_115, hf⟩ := bind_e hf
                    refine t_calli (vs := [.long (1420 : Int64)]) (rest := []) C hV hT (fun sz => mX4_isWord l D d a N w_102.2 (1420 : Int64) _ h_115 sz) (cwV 1 C.2.2.2.2 (lw_V q1408 q1410 qs49 q129 q1411) rfl rfl rfl hdX4_isWord ⟨Nat.le_of_ble_eq_true rfl, Nat.le_of_ble_eq_true rfl⟩) rfl hl.1 rfl (Nat.le_of_ble_eq_true rfl) dX4_wordHere_115 (fun H locs hT => ?_)
                    refine lv_if_eq (tgt := 124) hx hb dX4_wordHere_118 (by decide) (fun hc => ?_) (fun hc => ?_)
                    · have hf := ite_t hc hf
                      refine lv_aload_n hx hb dX4_wordHere_124 rfl (lv_at hl 0 rfl) ?_
                      refine g_ldc2 (v := 70708) C q1500 dX4_wordHere_125 ?_
                      obtain ⟨w_128, h_128, hf⟩ := bind_e hf
                      refine t_calli (vs := [.long (70708 : Int64)]) (rest := []) C hV hT (fun sz => mX4_isWord l D d a N w_115.2 (70708 : Int64) _ h_128 sz) (cwV 1 C.2.2.2.2 (lw_V q1408 q1410 qs49 q129 q1411) rfl rfl rfl hdX4_isWord ⟨Nat.le_of_ble_eq_true rfl, Nat.le_of_ble_eq_true rfl⟩) rfl hl.1 rfl (Nat.le_of_ble_eq_true rfl) dX4_wordHere_128 (fun H locs hT => ?_)
                      refine lv_if_eq (tgt := 139) hx hb dX4_wordHere_131 (by decide) (fun hc => ?_) (fun hc => ?_)
                      · have hf := ite_t hc hf
                        refine lv_aload_n hx hb dX4_wordHere_139 rfl (lv_at hl 0 rfl) ?_
                        refine g_ldc2 (v := 278194) C q1501 dX4_wordHere_140 ?_
                        obtain ⟨w_143, h_143, hf⟩ := bind_e hf
                        refine t_calli (vs := [.long (278194 : Int64)]) (rest := []) C hV hT (fun sz => mX4_isWord l D d a N w_128.2 (278194 : Int64) _ h_143 sz) (cwV 1 C.2.2.2.2 (lw_V q1408 q1410 qs49 q129 q1411) rfl rfl rfl hdX4_isWord ⟨Nat.le_of_ble_eq_true rfl, Nat.le_of_ble_eq_true rfl⟩) rfl hl.1 rfl (Nat.le_of_ble_eq_true rfl) dX4_wordHere_143 (fun H locs hT => ?_)
                        refine lv_if_eq (tgt := 154) hx hb dX4_wordHere_146 (by decide) (fun hc => ?_) (fun hc => ?_)
                        · have hf := ite_t hc hf
                          refine lv_iconst (v := -1) hx hb dX4_wordHere_154 (by decide) ?_
                          exact t_iret C hT hf hr hlocks dX4_wordHere_155
                        · have hf := ite_f hc hf
                          refine lv_bipush (v := 11) hx hb dX4_wordHere_149 (by decide) ?_
                          refine lv_goto (tgt := 155) hx hb dX4_wordHere_151 (by decide) ?_
                          exact t_iret C hT hf hr hlocks dX4_wordHere_155
                      · have hf := ite_f hc hf
                        refine lv_bipush (v := 10) hx hb dX4_wordHere_134 (by decide) ?_
                        refine lv_goto (tgt := 155) hx hb dX4_wordHere_136 (by decide) ?_
                        exact t_iret C hT hf hr hlocks dX4_wordHere_155
                    · have hf := ite_f hc hf
                      refine lv_bipush (v := 9) hx hb dX4_wordHere_121 (by decide) ?_
                      exact t_iret C hT hf hr hlocks dX4_wordHere_123
                  · have hf := ite_f hc hf
                    refine lv_bipush (v := 8) hx hb dX4_wordHere_108 (by decide) ?_
                    exact t_iret C hT hf hr hlocks dX4_wordHere_110
                · have hf := ite_f hc hf
                  refine lv_bipush (v := 7) hx hb dX4_wordHere_95 (by decide) ?_
                  exact t_iret C hT hf hr hlocks dX4_wordHere_97
              · have hf := ite_f hc hf
                refine lv_bipush (v := 6) hx hb dX4_wordHere_82 (by decide) ?_
                exact t_iret C hT hf hr hlocks dX4_wordHere_84
            · have hf := ite_f hc hf
              refine lv_iconst (v := 5) hx hb dX4_wordHere_70 (by decide) ?_
              exact t_iret C hT hf hr hlocks dX4_wordHere_71
          · have hf := ite_f hc hf
            refine lv_iconst (v := 4) hx hb dX4_wordHere_58 (by decide) ?_
            exact t_iret C hT hf hr hlocks dX4_wordHere_59
        · have hf := ite_f hc hf
          refine lv_iconst (v := 3) hx hb dX4_wordHere_46 (by decide) ?_
          exact t_iret C hT hf hr hlocks dX4_wordHere_47
      · have hf := ite_f hc hf
        refine lv_iconst (v := 2) hx hb dX4_wordHere_34 (by decide) ?_
        exact t_iret C hT hf hr hlocks dX4_wordHere_35
    · have hf := ite_f hc hf
      refine lv_iconst (v := 1) hx hb dX4_wordHere_22 (by decide) ?_
      exact t_iret C hT hf hr hlocks dX4_wordHere_23
  · have hf := ite_f hc hf
    refine lv_iconst (v := 0) hx hb dX4_wordHere_10 (by decide) ?_
    exact t_iret C hT hf hr hlocks dX4_wordHere_11
def fX4_value (N : Nat) (t : TS) : Option (Int32 × TS) :=
  ((fX4_see N t ).bind fun w_1 => (lett (w_1.2.1 8) fun x1_9 => ((fX4_isDigit N w_1.2 (w_1.2.1 8)).bind fun w_15 => (if w_15.1 = 0 then ((fX4_wordHere N w_15.2 ).bind fun w_53 => (if 0 ≤ w_53.1 then ((fX4_makes N w_53.2 x1_9).bind fun w_70 => (if ¬ w_70.1 = 0 then ((fX4_passWord N w_70.2 ).bind fun w_79 => ((fX4_puts N w_79 (1 : Int32) w_53.1).bind fun w_85 => (some ((1 : Int32), w_85)))) else (some ((0 : Int32), w_70.2)))) else ((fX4_fails N w_53.2 (0 : Int32) x1_9).bind fun w_64 => (ckz w_64.1 (some (w_64.1, w_64.2)))))) else ((fX4_numberHere N w_15.2 (0 : Int32) (99999 : Int32)).bind fun w_25 => (if w_25.1 = 0 then (some ((0 : Int32), w_25.2)) else ((fX4_makes N w_25.2 x1_9).bind fun w_33 => (if ¬ w_33.1 = 0 then ((fX4_puts N w_33.2 (0 : Int32) (w_33.2.1 10)).bind fun w_47 => (some ((1 : Int32), w_47))) else (some ((0 : Int32), w_33.2))))))))))
theorem hdX4_value : yX4_value.cls = RX4 ∧ yX4_value.cls ≠ "java/lang/invoke/MethodHandle" ∧ yX4_value.cls ≠ "java/lang/invoke/VarHandle" ∧ (parseMethodDescriptor yX4_value.desc).map (fun d => d.parameters.length) = some 0 := by decide +kernel
set_option maxHeartbeats 4000000 in
theorem mX4_value (l : Launch) (D : va_G) (d : Nat → ClassId) (a : Nat → Nat) (N : Nat) (t : TS) (w : Int32 × TS) (hf : fX4_value N t = some w) (sz : Nat) : Met l yX4_value (ws_ yX4_value cX4_value 3 (some .boolean)) (rm_ 3 66) (PcT D d a [] t sz) (QiT D d a w.1 w.2 sz) 0 0 (AT a sz) := by
  refine Met.ofW (cc := cX4_value) (maxL := 3) (ret := (some .boolean)) plX4 rfl ?_
  intro p e s m args below meth c s₁ B hml hv
  obtain ⟨C, hV, hT, hr, hlocks, hargs, rfl⟩ := t_enter B hml rfl hv
  have hx := C.1
  have hb := C.2.1
  show W p l e (rm_ 3 66) s m args below meth c s.heap [] 0 0 (MQ below (QiT D d a w.1 w.2 s.heap.size) args s 0 0 (AT a s.heap.size)) _
  refine W.eq (by rw [hargs]) (t_in (vs := [.ref (a 42)]) (n := 3) (Nat.le_of_ble_eq_true rfl) (fun ls hl => ?_))
  have hl : lv_has ls 3 [(0, .ref (a 42))] := hl
  unfold fX4_value at hf
  skip
  refine lv_aload_n hx hb dX4_value_0 rfl (lv_at hl 0 rfl) ?_
  obtain ⟨w_1, h_1, hf⟩ := bind_e hf
  refine t_calli (vs := []) (rest := []) C hV hT (fun sz => mX4_see l D d a N t  _ h_1 sz) (cwV 0 C.2.2.2.2 (lw_V q1399 q1401 qs47 q129 q1402) rfl rfl rfl hdX4_see ⟨Nat.le_of_ble_eq_true rfl, Nat.le_of_ble_eq_true rfl⟩) rfl hl.1 rfl (Nat.le_of_ble_eq_true rfl) dX4_value_1 (fun H locs hT => ?_)
  refine lv_pop hx hb dX4_value_4 rfl ?_
  refine lv_aload_n hx hb dX4_value_5 rfl (lv_at hl 0 rfl) ?_
  refine t_get C hV hT 8 (by decide) q1255 rfl dX4_value_6 ?_
  refine lv_topi (fun x1_9 ex => ?_)
  have hf := lett_e ex hf
  refine lv_istore_n (lv' := [(1, .int x1_9), (0, .ref (a 42))]) hx hb dX4_value_9 rfl hl (by decide) rfl (fun ls hl => ?_)
  refine lv_aload_n hx hb dX4_value_10 rfl (lv_at hl 1 rfl) ?_
  refine lv_aload_n hx hb dX4_value_11 rfl (lv_at hl 1 rfl) ?_
  refine t_get C hV hT 8 (by decide) q1255 rfl dX4_value_12 ?_
  obtain ⟨w_15, h_15, hf⟩ := bind_e hf
  refine t_calli (vs := [.int (w_1.2.1 8)]) (rest := []) C hV hT (fun sz => mX4_isDigit l D d a N w_1.2 (w_1.2.1 8) _ h_15 sz) (cwV 1 C.2.2.2.2 (lw_V q1444 q1446 qs57 q129 q1447) rfl rfl rfl hdX4_isDigit ⟨Nat.le_of_ble_eq_true rfl, Nat.le_of_ble_eq_true rfl⟩) rfl hl.1 rfl (Nat.le_of_ble_eq_true rfl) dX4_value_15 (fun H locs hT => ?_)
  refine lv_if_eq (tgt := 52) hx hb dX4_value_18 (by decide) (fun hc => ?_) (fun hc => ?_)
  · have hf := ite_t hc hf
    refine lv_aload_n hx hb dX4_value_52 rfl (lv_at hl 1 rfl) ?_
    obtain ⟨w_53, h_53, hf⟩ := bind_e hf
    refine t_calli (vs := []) (rest := []) C hV hT (fun sz => mX4_wordHere l D d a N w_15.2  _ h_53 sz) (cwV 0 C.2.2.2.2 (lw_V q1488 q1490 qs67 q129 q1491) rfl rfl rfl hdX4_wordHere ⟨Nat.le_of_ble_eq_true rfl, Nat.le_of_ble_eq_true rfl⟩) rfl hl.1 rfl (Nat.le_of_ble_eq_true rfl) dX4_value_53 (fun H locs hT => ?_)
    refine lv_istore_n (lv' := [(2, .int w_53.1), (1, .int x1_9), (0, .ref (a 42))]) hx hb dX4_value_56 rfl hl (by decide) rfl (fun ls hl => ?_)
    refine lv_iload_n hx hb dX4_value_57 rfl (lv_at hl 0 rfl) ?_
    refine lv_if_ge (tgt := 68) hx hb dX4_value_58 (by decide) (fun hc => ?_) (fun hc => ?_)
    · have hf := ite_t hc hf
      refine lv_aload_n hx hb dX4_value_68 rfl (lv_at hl 2 rfl) ?_
      refine lv_iload_n hx hb dX4_value_69 rfl (lv_at hl 1 rfl) ?_
      obtain ⟨w_70, h_70, hf⟩ := bind_e hf
      refine t_calli (vs := [.int x1_9]) (rest := []) C hV hT (fun sz => mX4_makes l D d a N w_53.2 x1_9 _ h_70 sz) (cwV 1 C.2.2.2.2 (lw_V q1480 q1482 qs65 q129 q1483) rfl rfl rfl hdX4_makes ⟨Nat.le_of_ble_eq_true rfl, Nat.le_of_ble_eq_true rfl⟩) rfl hl.1 rfl (Nat.le_of_ble_eq_true rfl) dX4_value_70 (fun H locs hT => ?_)
      refine lv_if_ne (tgt := 78) hx hb dX4_value_73 (by decide) (fun hc => ?_) (fun hc => ?_)
      · have hf := ite_t hc hf
        refine lv_aload_n hx hb dX4_value_78 rfl (lv_at hl 2 rfl) ?_
        obtain ⟨w_79, h_79, hf⟩ := bind_e hf
        refine t_callv (vs := []) (rest := []) C hV hT (fun sz => mX4_passWord l D d a N w_70.2  _ h_79 sz) (cwV 0 C.2.2.2.2 (lw_V q1432 q1434 qs54 q129 q1435) rfl rfl rfl hdX4_passWord ⟨Nat.le_of_ble_eq_true rfl, Nat.le_of_ble_eq_true rfl⟩) rfl hl.1 rfl (Nat.le_of_ble_eq_true rfl) dX4_value_79 (fun H locs hT => ?_)
        refine lv_aload_n hx hb dX4_value_82 rfl (lv_at hl 2 rfl) ?_
        refine lv_iconst (v := 1) hx hb dX4_value_83 (by decide) ?_
        refine lv_iload_n hx hb dX4_value_84 rfl (lv_at hl 0 rfl) ?_
        obtain ⟨w_85, h_85, hf⟩ := bind_e hf
        refine t_callv (vs := [.int (1 : Int32), .int w_53.1]) (rest := []) C hV hT (fun sz => mX4_puts l D d a N w_79 (1 : Int32) w_53.1 _ h_85 sz) (cwV 2 C.2.2.2.2 (lw_V q1484 q1486 qs66 q129 q1487) rfl rfl rfl hdX4_puts ⟨Nat.le_of_ble_eq_true rfl, Nat.le_of_ble_eq_true rfl⟩) rfl hl.1 rfl (Nat.le_of_ble_eq_true rfl) dX4_value_85 (fun H locs hT => ?_)
        refine lv_iconst (v := 1) hx hb dX4_value_88 (by decide) ?_
        exact t_zret C hT hf (Or.inr rfl) hr hlocks dX4_value_89
      · have hf := ite_f (fun q => q hc) hf
        refine lv_iconst (v := 0) hx hb dX4_value_76 (by decide) ?_
        exact t_zret C hT hf (Or.inl rfl) hr hlocks dX4_value_77
    · have hf := ite_f hc hf
      refine lv_aload_n hx hb dX4_value_61 rfl (lv_at hl 2 rfl) ?_
      refine lv_iconst (v := 0) hx hb dX4_value_62 (by decide) ?_
      refine lv_iload_n hx hb dX4_value_63 rfl (lv_at hl 1 rfl) ?_
      obtain ⟨w_64, h_64, hf⟩ := bind_e hf
      refine t_calli (vs := [.int (0 : Int32), .int x1_9]) (rest := []) C hV hT (fun sz => mX4_fails l D d a N w_53.2 (0 : Int32) x1_9 _ h_64 sz) (cwV 2 C.2.2.2.2 (lw_V q1420 q1422 qs51 q129 q1423) rfl rfl rfl hdX4_fails ⟨Nat.le_of_ble_eq_true rfl, Nat.le_of_ble_eq_true rfl⟩) rfl hl.1 rfl (Nat.le_of_ble_eq_true rfl) dX4_value_64 (fun H locs hT => ?_)
      obtain ⟨hz, hf⟩ := ckz_e hf
      exact t_zret C hT hf hz hr hlocks dX4_value_67
  · have hf := ite_f hc hf
    refine lv_aload_n hx hb dX4_value_21 rfl (lv_at hl 1 rfl) ?_
    refine lv_iconst (v := 0) hx hb dX4_value_22 (by decide) ?_
    refine g_ldc (v := 99999) C q1479 dX4_value_23 ?_
    obtain ⟨w_25, h_25, hf⟩ := bind_e hf
    refine t_calli (vs := [.int (0 : Int32), .int (99999 : Int32)]) (rest := []) C hV hT (fun sz => mX4_numberHere l D d a N w_15.2 (0 : Int32) (99999 : Int32) _ h_25 sz) (cwV 2 C.2.2.2.2 (lw_V q1440 q1442 qs56 q129 q1443) rfl rfl rfl hdX4_numberHere ⟨Nat.le_of_ble_eq_true rfl, Nat.le_of_ble_eq_true rfl⟩) rfl hl.1 rfl (Nat.le_of_ble_eq_true rfl) dX4_value_25 (fun H locs hT => ?_)
    refine lv_if_eq (tgt := 39) hx hb dX4_value_28 (by decide) (fun hc => ?_) (fun hc => ?_)
    · have hf := ite_t hc hf
      refine lv_iconst (v := 0) hx hb dX4_value_39 (by decide) ?_
      exact t_zret C hT hf (Or.inl rfl) hr hlocks dX4_value_40
    · have hf := ite_f hc hf
      refine lv_aload_n hx hb dX4_value_31 rfl (lv_at hl 1 rfl) ?_
      refine lv_iload_n hx hb dX4_value_32 rfl (lv_at hl 0 rfl) ?_
      obtain ⟨w_33, h_33, hf⟩ := bind_e hf
      refine t_calli (vs := [.int x1_9]) (rest := []) C hV hT (fun sz => mX4_makes l D d a N w_25.2 x1_9 _ h_33 sz) (cwV 1 C.2.2.2.2 (lw_V q1480 q1482 qs65 q129 q1483) rfl rfl rfl hdX4_makes ⟨Nat.le_of_ble_eq_true rfl, Nat.le_of_ble_eq_true rfl⟩) rfl hl.1 rfl (Nat.le_of_ble_eq_true rfl) dX4_value_33 (fun H locs hT => ?_)
      refine lv_if_ne (tgt := 41) hx hb dX4_value_36 (by decide) (fun hc => ?_) (fun hc => ?_)
      · have hf := ite_t hc hf
        refine lv_aload_n hx hb dX4_value_41 rfl (lv_at hl 1 rfl) ?_
        refine lv_iconst (v := 0) hx hb dX4_value_42 (by decide) ?_
        refine lv_aload_n hx hb dX4_value_43 rfl (lv_at hl 1 rfl) ?_
        refine t_get C hV hT 10 (by decide) q1257 rfl dX4_value_44 ?_
        obtain ⟨w_47, h_47, hf⟩ := bind_e hf
        refine t_callv (vs := [.int (0 : Int32), .int (w_33.2.1 10)]) (rest := []) C hV hT (fun sz => mX4_puts l D d a N w_33.2 (0 : Int32) (w_33.2.1 10) _ h_47 sz) (cwV 2 C.2.2.2.2 (lw_V q1484 q1486 qs66 q129 q1487) rfl rfl rfl hdX4_puts ⟨Nat.le_of_ble_eq_true rfl, Nat.le_of_ble_eq_true rfl⟩) rfl hl.1 rfl (Nat.le_of_ble_eq_true rfl) dX4_value_47 (fun H locs hT => ?_)
        refine lv_iconst (v := 1) hx hb dX4_value_50 (by decide) ?_
        exact t_zret C hT hf (Or.inr rfl) hr hlocks dX4_value_51
      · have hf := ite_f (fun q => q hc) hf
        refine lv_iconst (v := 0) hx hb dX4_value_39 (by decide) ?_
        exact t_zret C hT hf (Or.inl rfl) hr hlocks dX4_value_40
def fX4_term_J74 (N : Nat) (K : TS → Option (Int32 × TS)) (kb : TS → Option (Int32 × TS)) (t : TS) (s0 : Int32) : Option (Int32 × TS) :=
  (lett (tsI t 8 ((t.1 8) + (1 : Int32))) fun t_82 => ((fX4_value N t_82 ).bind fun w_86 => (if ¬ w_86.1 = 0 then ((fX4_puts N w_86.2 s0 (0 : Int32)).bind fun w_97 => (kb w_97)) else (some ((0 : Int32), w_86.2)))))
def fX4_term_J36 (N : Nat) (K : TS → Option (Int32 × TS)) (kb : TS → Option (Int32 × TS)) (t : TS) : Option (Int32 × TS) :=
  (ix (t.1 8) 400 (if ¬ (t.2.1 0 ((t.1 8)).toNatClampNeg) = (42 : Int32) then (ix (t.1 8) 400 (if ¬ (t.2.1 0 ((t.1 8)).toNatClampNeg) = (47 : Int32) then (fX4_term_J74 N K kb t (14 : Int32)) else (fX4_term_J74 N K kb t (5 : Int32)))) else (fX4_term_J74 N K kb t (4 : Int32))))
def fX4_term_B9 (N : Nat) (K : TS → Option (Int32 × TS)) (kb : TS → Option (Int32 × TS)) (t : TS) : Option (Int32 × TS) :=
  ((fX4_see N t ).bind fun w_10 => (if w_10.1 = (42 : Int32) then (fX4_term_J36 N K kb w_10.2) else ((fX4_see N w_10.2 ).bind fun w_19 => (if w_19.1 = (47 : Int32) then (fX4_term_J36 N K kb w_19.2) else ((fX4_see N w_19.2 ).bind fun w_28 => (if ¬ w_28.1 = (37 : Int32) then (K w_28.2) else (fX4_term_J36 N K kb w_28.2)))))))
def fX4_term_L9 (N : Nat) (K : TS → Option (Int32 × TS)) : Nat → TS → Option (Int32 × TS)
  | 0 => fun _ => none
  | n + 1 => fun t => fX4_term_B9 N K (fX4_term_L9 N K n) t
def fX4_term (N : Nat) (t : TS) : Option (Int32 × TS) :=
  ((fX4_value N t ).bind fun w_1 => (if ¬ w_1.1 = 0 then (fX4_term_L9 N (fun t => (some ((1 : Int32), t))) N w_1.2) else (some ((0 : Int32), w_1.2))))
theorem hdX4_term : yX4_term.cls = RX4 ∧ yX4_term.cls ≠ "java/lang/invoke/MethodHandle" ∧ yX4_term.cls ≠ "java/lang/invoke/VarHandle" ∧ (parseMethodDescriptor yX4_term.desc).map (fun d => d.parameters.length) = some 0 := by decide +kernel
set_option maxHeartbeats 4000000 in
theorem mX4_term (l : Launch) (D : va_G) (d : Nat → ClassId) (a : Nat → Nat) (N : Nat) (t : TS) (w : Int32 × TS) (hf : fX4_term N t = some w) (sz : Nat) : Met l yX4_term (ws_ yX4_term cX4_term 2 (some .boolean)) (rm_ 4 88) (PcT D d a [] t sz) (QiT D d a w.1 w.2 sz) 0 0 (AT a sz) := by
  refine Met.ofW (cc := cX4_term) (maxL := 2) (ret := (some .boolean)) plX4 rfl ?_
  intro p e s m args below meth c s₁ B hml hv
  obtain ⟨C, hV, hT, hr, hlocks, hargs, rfl⟩ := t_enter B hml rfl hv
  have hx := C.1
  have hb := C.2.1
  show W p l e (rm_ 4 88) s m args below meth c s.heap [] 0 0 (MQ below (QiT D d a w.1 w.2 s.heap.size) args s 0 0 (AT a s.heap.size)) _
  have hL9 : ∀ (K : TS → Option (Int32 × TS)), (∀ (t : TS) (H : Heap) (locs : List Loc) (ls : Array Slot), TH D (AT a s.heap.size) s.heap (wT d a t) H locs → lv_has ls 2 [] → K t = some w → W p l e (rm_ 4 88) s m args below meth c H locs 0 0 (MQ below (QiT D d a w.1 w.2 s.heap.size) args s 0 0 (AT a s.heap.size)) (F0 m 103 ls [])) → ∀ (n : Nat) (t : TS) (H : Heap) (locs : List Loc) (ls : Array Slot), TH D (AT a s.heap.size) s.heap (wT d a t) H locs → lv_has ls 2 [(0, .ref (a 42))] → fX4_term_L9 N K n t = some w → W p l e (rm_ 4 88) s m args below meth c H locs 0 0 (MQ below (QiT D d a w.1 w.2 s.heap.size) args s 0 0 (AT a s.heap.size)) (F0 m 9 ls []) := by
    intro K hE n
    induction n with
    | zero =>
      intro t H locs ls hT hl hf
      cases hf
    | succ n ih =>
      have hJ74 : ∀ (t : TS) (s0 : Int32) (H : Heap) (locs : List Loc) (ls : Array Slot), TH D (AT a s.heap.size) s.heap (wT d a t) H locs → lv_has ls 2 [(0, .ref (a 42))] → fX4_term_J74 N K (fX4_term_L9 N K n) t s0 = some w → W p l e (rm_ 4 88) s m args below meth c H locs 0 0 (MQ below (QiT D d a w.1 w.2 s.heap.size) args s 0 0 (AT a s.heap.size)) (F0 m 74 ls [.int s0]) := by
        intro t s0 H locs ls hT hl hf
        unfold fX4_term_J74 at hf
        refine lv_istore_n (lv' := [(1, .int s0), (0, .ref (a 42))]) hx hb dX4_term_74 rfl hl (by decide) rfl (fun ls hl => ?_)
        refine lv_aload_n hx hb dX4_term_75 rfl (lv_at hl 1 rfl) ?_
        refine lv_dup hx hb dX4_term_76 rfl ?_
        refine t_get C hV hT 8 (by decide) q1255 rfl dX4_term_77 ?_
        refine lv_iconst (v := 1) hx hb dX4_term_80 (by decide) ?_
        refine lv_iadd hx hb dX4_term_81 ?_
        refine t_put C hV hT 8 (by decide) q1255 (tset_8 a t _) rfl rfl dX4_term_82 (fun t_82 H locs et hT => ?_)
        have hf := lett_e et hf
        refine lv_aload_n hx hb dX4_term_85 rfl (lv_at hl 1 rfl) ?_
        obtain ⟨w_86, h_86, hf⟩ := bind_e hf
        refine t_calli (vs := []) (rest := []) C hV hT (fun sz => mX4_value l D d a N t_82  _ h_86 sz) (cwV 0 C.2.2.2.2 (lw_V q1475 q1477 qs64 q129 q1478) rfl rfl rfl hdX4_value ⟨Nat.le_of_ble_eq_true rfl, Nat.le_of_ble_eq_true rfl⟩) rfl hl.1 rfl (Nat.le_of_ble_eq_true rfl) dX4_term_86 (fun H locs hT => ?_)
        refine lv_if_ne (tgt := 94) hx hb dX4_term_89 (by decide) (fun hc => ?_) (fun hc => ?_)
        · have hf := ite_t hc hf
          refine lv_aload_n hx hb dX4_term_94 rfl (lv_at hl 1 rfl) ?_
          refine lv_iload_n hx hb dX4_term_95 rfl (lv_at hl 0 rfl) ?_
          refine lv_iconst (v := 0) hx hb dX4_term_96 (by decide) ?_
          obtain ⟨w_97, h_97, hf⟩ := bind_e hf
          refine t_callv (vs := [.int s0, .int (0 : Int32)]) (rest := []) C hV hT (fun sz => mX4_puts l D d a N w_86.2 s0 (0 : Int32) _ h_97 sz) (cwV 2 C.2.2.2.2 (lw_V q1484 q1486 qs66 q129 q1487) rfl rfl rfl hdX4_puts ⟨Nat.le_of_ble_eq_true rfl, Nat.le_of_ble_eq_true rfl⟩) rfl hl.1 rfl (Nat.le_of_ble_eq_true rfl) dX4_term_97 (fun H locs hT => ?_)
          refine lv_goto (tgt := 9) hx hb dX4_term_100 (by decide) ?_
          exact ih w_97 _ _ _ hT (lv_sub hl [1] rfl) hf
        · have hf := ite_f (fun q => q hc) hf
          refine lv_iconst (v := 0) hx hb dX4_term_92 (by decide) ?_
          exact t_zret C hT hf (Or.inl rfl) hr hlocks dX4_term_93
      have hJ36 : ∀ (t : TS) (H : Heap) (locs : List Loc) (ls : Array Slot), TH D (AT a s.heap.size) s.heap (wT d a t) H locs → lv_has ls 2 [(0, .ref (a 42))] → fX4_term_J36 N K (fX4_term_L9 N K n) t = some w → W p l e (rm_ 4 88) s m args below meth c H locs 0 0 (MQ below (QiT D d a w.1 w.2 s.heap.size) args s 0 0 (AT a s.heap.size)) (F0 m 36 ls []) := by
        intro t H locs ls hT hl hf
        unfold fX4_term_J36 at hf
        refine lv_aload_n hx hb dX4_term_36 rfl (lv_at hl 0 rfl) ?_
        refine t_get C hV hT 0 (by decide) q1247 rfl dX4_term_37 ?_
        refine lv_aload_n hx hb dX4_term_40 rfl (lv_at hl 0 rfl) ?_
        refine t_get C hV hT 8 (by decide) q1255 rfl dX4_term_41 ?_
        obtain ⟨hi, hf⟩ := ix_e hf
        refine g_bld C hV hT 1 _ rfl hi rfl dX4_term_44 ?_
        refine lv_bipush (v := 42) hx hb dX4_term_45 (by decide) ?_
        refine lv_icmp_ne (tgt := 54) hx hb dX4_term_47 (by decide) (fun hc => ?_) (fun hc => ?_)
        · have hf := ite_t hc hf
          refine lv_aload_n hx hb dX4_term_54 rfl (lv_at hl 0 rfl) ?_
          refine t_get C hV hT 0 (by decide) q1247 rfl dX4_term_55 ?_
          refine lv_aload_n hx hb dX4_term_58 rfl (lv_at hl 0 rfl) ?_
          refine t_get C hV hT 8 (by decide) q1255 rfl dX4_term_59 ?_
          obtain ⟨hi, hf⟩ := ix_e hf
          refine g_bld C hV hT 1 _ rfl hi rfl dX4_term_62 ?_
          refine lv_bipush (v := 47) hx hb dX4_term_63 (by decide) ?_
          refine lv_icmp_ne (tgt := 72) hx hb dX4_term_65 (by decide) (fun hc => ?_) (fun hc => ?_)
          · have hf := ite_t hc hf
            refine lv_bipush (v := 14) hx hb dX4_term_72 (by decide) ?_
            exact hJ74 t (14 : Int32) _ _ _ hT hl hf
          · have hf := ite_f (fun q => q hc) hf
            refine lv_iconst (v := 5) hx hb dX4_term_68 (by decide) ?_
            refine lv_goto (tgt := 74) hx hb dX4_term_69 (by decide) ?_
            exact hJ74 t (5 : Int32) _ _ _ hT hl hf
        · have hf := ite_f (fun q => q hc) hf
          refine lv_iconst (v := 4) hx hb dX4_term_50 (by decide) ?_
          refine lv_goto (tgt := 74) hx hb dX4_term_51 (by decide) ?_
          exact hJ74 t (4 : Int32) _ _ _ hT hl hf
      intro t H locs ls hT hl hf
      replace hf : fX4_term_B9 N K (fX4_term_L9 N K n) t = some w := hf
      unfold fX4_term_B9 at hf
      refine lv_aload_n hx hb dX4_term_9 rfl (lv_at hl 0 rfl) ?_
      obtain ⟨w_10, h_10, hf⟩ := bind_e hf
      refine t_calli (vs := []) (rest := []) C hV hT (fun sz => mX4_see l D d a N t  _ h_10 sz) (cwV 0 C.2.2.2.2 (lw_V q1399 q1401 qs47 q129 q1402) rfl rfl rfl hdX4_see ⟨Nat.le_of_ble_eq_true rfl, Nat.le_of_ble_eq_true rfl⟩) rfl hl.1 rfl (Nat.le_of_ble_eq_true rfl) dX4_term_10 (fun H locs hT => ?_)
      refine lv_bipush (v := 42) hx hb dX4_term_13 (by decide) ?_
      refine lv_icmp_eq (tgt := 36) hx hb dX4_term_15 (by decide) (fun hc => ?_) (fun hc => ?_)
      · have hf := ite_t hc hf
        exact hJ36 w_10.2 _ _ _ hT hl hf
      · have hf := ite_f hc hf
        refine lv_aload_n hx hb dX4_term_18 rfl (lv_at hl 0 rfl) ?_
        obtain ⟨w_19, h_19, hf⟩ := bind_e hf
        refine t_calli (vs := []) (rest := []) C hV hT (fun sz => mX4_see l D d a N w_10.2  _ h_19 sz) (cwV 0 C.2.2.2.2 (lw_V q1399 q1401 qs47 q129 q1402) rfl rfl rfl hdX4_see ⟨Nat.le_of_ble_eq_true rfl, Nat.le_of_ble_eq_true rfl⟩) rfl hl.1 rfl (Nat.le_of_ble_eq_true rfl) dX4_term_19 (fun H locs hT => ?_)
        refine lv_bipush (v := 47) hx hb dX4_term_22 (by decide) ?_
        refine lv_icmp_eq (tgt := 36) hx hb dX4_term_24 (by decide) (fun hc => ?_) (fun hc => ?_)
        · have hf := ite_t hc hf
          exact hJ36 w_19.2 _ _ _ hT hl hf
        · have hf := ite_f hc hf
          refine lv_aload_n hx hb dX4_term_27 rfl (lv_at hl 0 rfl) ?_
          obtain ⟨w_28, h_28, hf⟩ := bind_e hf
          refine t_calli (vs := []) (rest := []) C hV hT (fun sz => mX4_see l D d a N w_19.2  _ h_28 sz) (cwV 0 C.2.2.2.2 (lw_V q1399 q1401 qs47 q129 q1402) rfl rfl rfl hdX4_see ⟨Nat.le_of_ble_eq_true rfl, Nat.le_of_ble_eq_true rfl⟩) rfl hl.1 rfl (Nat.le_of_ble_eq_true rfl) dX4_term_28 (fun H locs hT => ?_)
          refine lv_bipush (v := 37) hx hb dX4_term_31 (by decide) ?_
          refine lv_icmp_ne (tgt := 103) hx hb dX4_term_33 (by decide) (fun hc => ?_) (fun hc => ?_)
          · have hf := ite_t hc hf
            exact hE w_28.2 _ _ _ hT (lv_sub hl [] rfl) hf
          · have hf := ite_f (fun q => q hc) hf
            exact hJ36 w_28.2 _ _ _ hT hl hf
  refine W.eq (by rw [hargs]) (t_in (vs := [.ref (a 42)]) (n := 2) (Nat.le_of_ble_eq_true rfl) (fun ls hl => ?_))
  have hl : lv_has ls 2 [(0, .ref (a 42))] := hl
  unfold fX4_term at hf
  skip
  refine lv_aload_n hx hb dX4_term_0 rfl (lv_at hl 0 rfl) ?_
  obtain ⟨w_1, h_1, hf⟩ := bind_e hf
  refine t_calli (vs := []) (rest := []) C hV hT (fun sz => mX4_value l D d a N t  _ h_1 sz) (cwV 0 C.2.2.2.2 (lw_V q1475 q1477 qs64 q129 q1478) rfl rfl rfl hdX4_value ⟨Nat.le_of_ble_eq_true rfl, Nat.le_of_ble_eq_true rfl⟩) rfl hl.1 rfl (Nat.le_of_ble_eq_true rfl) dX4_term_1 (fun H locs hT => ?_)
  refine lv_if_ne (tgt := 9) hx hb dX4_term_4 (by decide) (fun hc => ?_) (fun hc => ?_)
  · have hf := ite_t hc hf
    refine hL9 _ (fun t H locs ls hT hl hf => ?_) N w_1.2 _ _ _ hT hl hf
    refine lv_iconst (v := 1) hx hb dX4_term_103 (by decide) ?_
    exact t_zret C hT hf (Or.inr rfl) hr hlocks dX4_term_104
  · have hf := ite_f (fun q => q hc) hf
    refine lv_iconst (v := 0) hx hb dX4_term_7 (by decide) ?_
    exact t_zret C hT hf (Or.inl rfl) hr hlocks dX4_term_8
def fX4_sum_J46 (N : Nat) (K : TS → Option (Int32 × TS)) (kb : TS → Option (Int32 × TS)) (t : TS) (s0 : Int32) : Option (Int32 × TS) :=
  (lett (tsI t 8 ((t.1 8) + (1 : Int32))) fun t_54 => ((fX4_term N t_54 ).bind fun w_58 => (if ¬ w_58.1 = 0 then ((fX4_puts N w_58.2 s0 (0 : Int32)).bind fun w_69 => (kb w_69)) else (some ((0 : Int32), w_58.2)))))
def fX4_sum_J27 (N : Nat) (K : TS → Option (Int32 × TS)) (kb : TS → Option (Int32 × TS)) (t : TS) : Option (Int32 × TS) :=
  (ix (t.1 8) 400 (if ¬ (t.2.1 0 ((t.1 8)).toNatClampNeg) = (43 : Int32) then (fX4_sum_J46 N K kb t (3 : Int32)) else (fX4_sum_J46 N K kb t (2 : Int32))))
def fX4_sum_B9 (N : Nat) (K : TS → Option (Int32 × TS)) (kb : TS → Option (Int32 × TS)) (t : TS) : Option (Int32 × TS) :=
  ((fX4_see N t ).bind fun w_10 => (if w_10.1 = (43 : Int32) then (fX4_sum_J27 N K kb w_10.2) else ((fX4_see N w_10.2 ).bind fun w_19 => (if ¬ w_19.1 = (45 : Int32) then (K w_19.2) else (fX4_sum_J27 N K kb w_19.2)))))
def fX4_sum_L9 (N : Nat) (K : TS → Option (Int32 × TS)) : Nat → TS → Option (Int32 × TS)
  | 0 => fun _ => none
  | n + 1 => fun t => fX4_sum_B9 N K (fX4_sum_L9 N K n) t
def fX4_sum (N : Nat) (t : TS) : Option (Int32 × TS) :=
  ((fX4_term N t ).bind fun w_1 => (if ¬ w_1.1 = 0 then (fX4_sum_L9 N (fun t => (some ((1 : Int32), t))) N w_1.2) else (some ((0 : Int32), w_1.2))))
theorem hdX4_sum : yX4_sum.cls = RX4 ∧ yX4_sum.cls ≠ "java/lang/invoke/MethodHandle" ∧ yX4_sum.cls ≠ "java/lang/invoke/VarHandle" ∧ (parseMethodDescriptor yX4_sum.desc).map (fun d => d.parameters.length) = some 0 := by decide +kernel
set_option maxHeartbeats 4000000 in
theorem mX4_sum (l : Launch) (D : va_G) (d : Nat → ClassId) (a : Nat → Nat) (N : Nat) (t : TS) (w : Int32 × TS) (hf : fX4_sum N t = some w) (sz : Nat) : Met l yX4_sum (ws_ yX4_sum cX4_sum 2 (some .boolean)) (rm_ 5 109) (PcT D d a [] t sz) (QiT D d a w.1 w.2 sz) 0 0 (AT a sz) := by
  refine Met.ofW (cc := cX4_sum) (maxL := 2) (ret := (some .boolean)) plX4 rfl ?_
  intro p e s m args below meth c s₁ B hml hv
  obtain ⟨C, hV, hT, hr, hlocks, hargs, rfl⟩ := t_enter B hml rfl hv
  have hx := C.1
  have hb := C.2.1
  show W p l e (rm_ 5 109) s m args below meth c s.heap [] 0 0 (MQ below (QiT D d a w.1 w.2 s.heap.size) args s 0 0 (AT a s.heap.size)) _
  have hL9 : ∀ (K : TS → Option (Int32 × TS)), (∀ (t : TS) (H : Heap) (locs : List Loc) (ls : Array Slot), TH D (AT a s.heap.size) s.heap (wT d a t) H locs → lv_has ls 2 [] → K t = some w → W p l e (rm_ 5 109) s m args below meth c H locs 0 0 (MQ below (QiT D d a w.1 w.2 s.heap.size) args s 0 0 (AT a s.heap.size)) (F0 m 75 ls [])) → ∀ (n : Nat) (t : TS) (H : Heap) (locs : List Loc) (ls : Array Slot), TH D (AT a s.heap.size) s.heap (wT d a t) H locs → lv_has ls 2 [(0, .ref (a 42))] → fX4_sum_L9 N K n t = some w → W p l e (rm_ 5 109) s m args below meth c H locs 0 0 (MQ below (QiT D d a w.1 w.2 s.heap.size) args s 0 0 (AT a s.heap.size)) (F0 m 9 ls []) := by
    intro K hE n
    induction n with
    | zero =>
      intro t H locs ls hT hl hf
      cases hf
    | succ n ih =>
      have hJ46 : ∀ (t : TS) (s0 : Int32) (H : Heap) (locs : List Loc) (ls : Array Slot), TH D (AT a s.heap.size) s.heap (wT d a t) H locs → lv_has ls 2 [(0, .ref (a 42))] → fX4_sum_J46 N K (fX4_sum_L9 N K n) t s0 = some w → W p l e (rm_ 5 109) s m args below meth c H locs 0 0 (MQ below (QiT D d a w.1 w.2 s.heap.size) args s 0 0 (AT a s.heap.size)) (F0 m 46 ls [.int s0]) := by
        intro t s0 H locs ls hT hl hf
        unfold fX4_sum_J46 at hf
        refine lv_istore_n (lv' := [(1, .int s0), (0, .ref (a 42))]) hx hb dX4_sum_46 rfl hl (by decide) rfl (fun ls hl => ?_)
        refine lv_aload_n hx hb dX4_sum_47 rfl (lv_at hl 1 rfl) ?_
        refine lv_dup hx hb dX4_sum_48 rfl ?_
        refine t_get C hV hT 8 (by decide) q1255 rfl dX4_sum_49 ?_
        refine lv_iconst (v := 1) hx hb dX4_sum_52 (by decide) ?_
        refine lv_iadd hx hb dX4_sum_53 ?_
        refine t_put C hV hT 8 (by decide) q1255 (tset_8 a t _) rfl rfl dX4_sum_54 (fun t_54 H locs et hT => ?_)
        have hf := lett_e et hf
        refine lv_aload_n hx hb dX4_sum_57 rfl (lv_at hl 1 rfl) ?_
        obtain ⟨w_58, h_58, hf⟩ := bind_e hf
        refine t_calli (vs := []) (rest := []) C hV hT (fun sz => mX4_term l D d a N t_54  _ h_58 sz) (cwV 0 C.2.2.2.2 (lw_V q1471 q1473 qs63 q129 q1474) rfl rfl rfl hdX4_term ⟨Nat.le_of_ble_eq_true rfl, Nat.le_of_ble_eq_true rfl⟩) rfl hl.1 rfl (Nat.le_of_ble_eq_true rfl) dX4_sum_58 (fun H locs hT => ?_)
        refine lv_if_ne (tgt := 66) hx hb dX4_sum_61 (by decide) (fun hc => ?_) (fun hc => ?_)
        · have hf := ite_t hc hf
          refine lv_aload_n hx hb dX4_sum_66 rfl (lv_at hl 1 rfl) ?_
          refine lv_iload_n hx hb dX4_sum_67 rfl (lv_at hl 0 rfl) ?_
          refine lv_iconst (v := 0) hx hb dX4_sum_68 (by decide) ?_
          obtain ⟨w_69, h_69, hf⟩ := bind_e hf
          refine t_callv (vs := [.int s0, .int (0 : Int32)]) (rest := []) C hV hT (fun sz => mX4_puts l D d a N w_58.2 s0 (0 : Int32) _ h_69 sz) (cwV 2 C.2.2.2.2 (lw_V q1484 q1486 qs66 q129 q1487) rfl rfl rfl hdX4_puts ⟨Nat.le_of_ble_eq_true rfl, Nat.le_of_ble_eq_true rfl⟩) rfl hl.1 rfl (Nat.le_of_ble_eq_true rfl) dX4_sum_69 (fun H locs hT => ?_)
          refine lv_goto (tgt := 9) hx hb dX4_sum_72 (by decide) ?_
          exact ih w_69 _ _ _ hT (lv_sub hl [1] rfl) hf
        · have hf := ite_f (fun q => q hc) hf
          refine lv_iconst (v := 0) hx hb dX4_sum_64 (by decide) ?_
          exact t_zret C hT hf (Or.inl rfl) hr hlocks dX4_sum_65
      have hJ27 : ∀ (t : TS) (H : Heap) (locs : List Loc) (ls : Array Slot), TH D (AT a s.heap.size) s.heap (wT d a t) H locs → lv_has ls 2 [(0, .ref (a 42))] → fX4_sum_J27 N K (fX4_sum_L9 N K n) t = some w → W p l e (rm_ 5 109) s m args below meth c H locs 0 0 (MQ below (QiT D d a w.1 w.2 s.heap.size) args s 0 0 (AT a s.heap.size)) (F0 m 27 ls []) := by
        intro t H locs ls hT hl hf
        unfold fX4_sum_J27 at hf
        refine lv_aload_n hx hb dX4_sum_27 rfl (lv_at hl 0 rfl) ?_
        refine t_get C hV hT 0 (by decide) q1247 rfl dX4_sum_28 ?_
        refine lv_aload_n hx hb dX4_sum_31 rfl (lv_at hl 0 rfl) ?_
        refine t_get C hV hT 8 (by decide) q1255 rfl dX4_sum_32 ?_
        obtain ⟨hi, hf⟩ := ix_e hf
        refine g_bld C hV hT 1 _ rfl hi rfl dX4_sum_35 ?_
        refine lv_bipush (v := 43) hx hb dX4_sum_36 (by decide) ?_
        refine lv_icmp_ne (tgt := 45) hx hb dX4_sum_38 (by decide) (fun hc => ?_) (fun hc => ?_)
        · have hf := ite_t hc hf
          refine lv_iconst (v := 3) hx hb dX4_sum_45 (by decide) ?_
          exact hJ46 t (3 : Int32) _ _ _ hT hl hf
        · have hf := ite_f (fun q => q hc) hf
          refine lv_iconst (v := 2) hx hb dX4_sum_41 (by decide) ?_
          refine lv_goto (tgt := 46) hx hb dX4_sum_42 (by decide) ?_
          exact hJ46 t (2 : Int32) _ _ _ hT hl hf
      intro t H locs ls hT hl hf
      replace hf : fX4_sum_B9 N K (fX4_sum_L9 N K n) t = some w := hf
      unfold fX4_sum_B9 at hf
      refine lv_aload_n hx hb dX4_sum_9 rfl (lv_at hl 0 rfl) ?_
      obtain ⟨w_10, h_10, hf⟩ := bind_e hf
      refine t_calli (vs := []) (rest := []) C hV hT (fun sz => mX4_see l D d a N t  _ h_10 sz) (cwV 0 C.2.2.2.2 (lw_V q1399 q1401 qs47 q129 q1402) rfl rfl rfl hdX4_see ⟨Nat.le_of_ble_eq_true rfl, Nat.le_of_ble_eq_true rfl⟩) rfl hl.1 rfl (Nat.le_of_ble_eq_true rfl) dX4_sum_10 (fun H locs hT => ?_)
      refine lv_bipush (v := 43) hx hb dX4_sum_13 (by decide) ?_
      refine lv_icmp_eq (tgt := 27) hx hb dX4_sum_15 (by decide) (fun hc => ?_) (fun hc => ?_)
      · have hf := ite_t hc hf
        exact hJ27 w_10.2 _ _ _ hT hl hf
      · have hf := ite_f hc hf
        refine lv_aload_n hx hb dX4_sum_18 rfl (lv_at hl 0 rfl) ?_
        obtain ⟨w_19, h_19, hf⟩ := bind_e hf
        refine t_calli (vs := []) (rest := []) C hV hT (fun sz => mX4_see l D d a N w_10.2  _ h_19 sz) (cwV 0 C.2.2.2.2 (lw_V q1399 q1401 qs47 q129 q1402) rfl rfl rfl hdX4_see ⟨Nat.le_of_ble_eq_true rfl, Nat.le_of_ble_eq_true rfl⟩) rfl hl.1 rfl (Nat.le_of_ble_eq_true rfl) dX4_sum_19 (fun H locs hT => ?_)
        refine lv_bipush (v := 45) hx hb dX4_sum_22 (by decide) ?_
        refine lv_icmp_ne (tgt := 75) hx hb dX4_sum_24 (by decide) (fun hc => ?_) (fun hc => ?_)
        · have hf := ite_t hc hf
          exact hE w_19.2 _ _ _ hT (lv_sub hl [] rfl) hf
        · have hf := ite_f (fun q => q hc) hf
          exact hJ27 w_19.2 _ _ _ hT hl hf
  refine W.eq (by rw [hargs]) (t_in (vs := [.ref (a 42)]) (n := 2) (Nat.le_of_ble_eq_true rfl) (fun ls hl => ?_))
  have hl : lv_has ls 2 [(0, .ref (a 42))] := hl
  unfold fX4_sum at hf
  skip
  refine lv_aload_n hx hb dX4_sum_0 rfl (lv_at hl 0 rfl) ?_
  obtain ⟨w_1, h_1, hf⟩ := bind_e hf
  refine t_calli (vs := []) (rest := []) C hV hT (fun sz => mX4_term l D d a N t  _ h_1 sz) (cwV 0 C.2.2.2.2 (lw_V q1471 q1473 qs63 q129 q1474) rfl rfl rfl hdX4_term ⟨Nat.le_of_ble_eq_true rfl, Nat.le_of_ble_eq_true rfl⟩) rfl hl.1 rfl (Nat.le_of_ble_eq_true rfl) dX4_sum_1 (fun H locs hT => ?_)
  refine lv_if_ne (tgt := 9) hx hb dX4_sum_4 (by decide) (fun hc => ?_) (fun hc => ?_)
  · have hf := ite_t hc hf
    refine hL9 _ (fun t H locs ls hT hl hf => ?_) N w_1.2 _ _ _ hT hl hf
    refine lv_iconst (v := 1) hx hb dX4_sum_75 (by decide) ?_
    exact t_zret C hT hf (Or.inr rfl) hr hlocks dX4_sum_76
  · have hf := ite_f (fun q => q hc) hf
    refine lv_iconst (v := 0) hx hb dX4_sum_7 (by decide) ?_
    exact t_zret C hT hf (Or.inl rfl) hr hlocks dX4_sum_8
def fX4_takesWord (N : Nat) (t : TS) (x1 : Int64) : Option (Int32 × TS) :=
  ((fX4_isWord N t x1).bind fun w_2 => (if ¬ w_2.1 = 0 then ((fX4_passWord N w_2.2 ).bind fun w_11 => (some ((1 : Int32), w_11))) else (some ((0 : Int32), w_2.2))))
theorem hdX4_takesWord : yX4_takesWord.cls = RX4 ∧ yX4_takesWord.cls ≠ "java/lang/invoke/MethodHandle" ∧ yX4_takesWord.cls ≠ "java/lang/invoke/VarHandle" ∧ (parseMethodDescriptor yX4_takesWord.desc).map (fun d => d.parameters.length) = some 1 := by decide +kernel
set_option maxHeartbeats 4000000 in
theorem mX4_takesWord (l : Launch) (D : va_G) (d : Nat → ClassId) (a : Nat → Nat) (N : Nat) (t : TS) (x1 : Int64) (w : Int32 × TS) (hf : fX4_takesWord N t x1 = some w) (sz : Nat) : Met l yX4_takesWord (ws_ yX4_takesWord cX4_takesWord 3 (some .boolean)) (rm_ 2 46) (PcT D d a [.long x1] t sz) (QiT D d a w.1 w.2 sz) 0 0 (AT a sz) := by
  refine Met.ofW (cc := cX4_takesWord) (maxL := 3) (ret := (some .boolean)) plX4 rfl ?_
  intro p e s m args below meth c s₁ B hml hv
  obtain ⟨C, hV, hT, hr, hlocks, hargs, rfl⟩ := t_enter B hml rfl hv
  have hx := C.1
  have hb := C.2.1
  show W p l e (rm_ 2 46) s m args below meth c s.heap [] 0 0 (MQ below (QiT D d a w.1 w.2 s.heap.size) args s 0 0 (AT a s.heap.size)) _
  refine W.eq (by rw [hargs]) (t_in (vs := [.ref (a 42), .long x1]) (n := 3) (Nat.le_of_ble_eq_true rfl) (fun ls hl => ?_))
  have hl : lv_has ls 3 [(0, .ref (a 42)), (1, .long x1)] := hl
  unfold fX4_takesWord at hf
  skip
  refine lv_aload_n hx hb dX4_takesWord_0 rfl (lv_at hl 0 rfl) ?_
  refine lv_lload_n hx hb dX4_takesWord_1 rfl (lv_at hl 1 rfl) ?_
  obtain ⟨w_2, h_2, hf⟩ := bind_e hf
  refine t_calli (vs := [.long x1]) (rest := []) C hV hT (fun sz => mX4_isWord l D d a N t x1 _ h_2 sz) (cwV 1 C.2.2.2.2 (lw_V q1408 q1410 qs49 q129 q1411) rfl rfl rfl hdX4_isWord ⟨Nat.le_of_ble_eq_true rfl, Nat.le_of_ble_eq_true rfl⟩) rfl hl.1 rfl (Nat.le_of_ble_eq_true rfl) dX4_takesWord_2 (fun H locs hT => ?_)
  refine lv_if_ne (tgt := 10) hx hb dX4_takesWord_5 (by decide) (fun hc => ?_) (fun hc => ?_)
  · have hf := ite_t hc hf
    refine lv_aload_n hx hb dX4_takesWord_10 rfl (lv_at hl 0 rfl) ?_
    obtain ⟨w_11, h_11, hf⟩ := bind_e hf
    refine t_callv (vs := []) (rest := []) C hV hT (fun sz => mX4_passWord l D d a N w_2.2  _ h_11 sz) (cwV 0 C.2.2.2.2 (lw_V q1432 q1434 qs54 q129 q1435) rfl rfl rfl hdX4_passWord ⟨Nat.le_of_ble_eq_true rfl, Nat.le_of_ble_eq_true rfl⟩) rfl hl.1 rfl (Nat.le_of_ble_eq_true rfl) dX4_takesWord_11 (fun H locs hT => ?_)
    refine lv_iconst (v := 1) hx hb dX4_takesWord_14 (by decide) ?_
    exact t_zret C hT hf (Or.inr rfl) hr hlocks dX4_takesWord_15
  · have hf := ite_f (fun q => q hc) hf
    refine lv_iconst (v := 0) hx hb dX4_takesWord_8 (by decide) ?_
    exact t_zret C hT hf (Or.inl rfl) hr hlocks dX4_takesWord_9
def fX4_opens (N : Nat) (t : TS) (x1 : Int32) : Option (Int32 × TS) :=
  (if ¬ (t.1 13) = (10 : Int32) then (lett (tsI t 13 ((t.1 13) + (1 : Int32))) fun t_26 => (ix (t_26.1 16) 400 (lett (tsA t_26 15 ((t_26.1 16)).toNatClampNeg x1) fun t_38 => (lett (tsI t_38 16 ((t_38.1 16) + (1 : Int32))) fun t_46 => (some ((1 : Int32), t_46)))))) else ((fX4_fails N t (2 : Int32) (t.1 8)).bind fun w_15 => (ckz w_15.1 (some (w_15.1, w_15.2)))))
theorem hdX4_opens : yX4_opens.cls = RX4 ∧ yX4_opens.cls ≠ "java/lang/invoke/MethodHandle" ∧ yX4_opens.cls ≠ "java/lang/invoke/VarHandle" ∧ (parseMethodDescriptor yX4_opens.desc).map (fun d => d.parameters.length) = some 1 := by decide +kernel
set_option maxHeartbeats 4000000 in
theorem mX4_opens (l : Launch) (D : va_G) (d : Nat → ClassId) (a : Nat → Nat) (N : Nat) (t : TS) (x1 : Int32) (w : Int32 × TS) (hf : fX4_opens N t x1 = some w) (sz : Nat) : Met l yX4_opens (ws_ yX4_opens cX4_opens 2 (some .boolean)) (rm_ 1 22) (PcT D d a [.int x1] t sz) (QiT D d a w.1 w.2 sz) 0 0 (AT a sz) := by
  refine Met.ofW (cc := cX4_opens) (maxL := 2) (ret := (some .boolean)) plX4 rfl ?_
  intro p e s m args below meth c s₁ B hml hv
  obtain ⟨C, hV, hT, hr, hlocks, hargs, rfl⟩ := t_enter B hml rfl hv
  have hx := C.1
  have hb := C.2.1
  show W p l e (rm_ 1 22) s m args below meth c s.heap [] 0 0 (MQ below (QiT D d a w.1 w.2 s.heap.size) args s 0 0 (AT a s.heap.size)) _
  refine W.eq (by rw [hargs]) (t_in (vs := [.ref (a 42), .int x1]) (n := 2) (Nat.le_of_ble_eq_true rfl) (fun ls hl => ?_))
  have hl : lv_has ls 2 [(0, .ref (a 42)), (1, .int x1)] := hl
  unfold fX4_opens at hf
  skip
  refine lv_aload_n hx hb dX4_opens_0 rfl (lv_at hl 0 rfl) ?_
  refine t_get C hV hT 13 (by decide) q1260 rfl dX4_opens_1 ?_
  refine lv_bipush (v := 10) hx hb dX4_opens_4 (by decide) ?_
  refine lv_icmp_ne (tgt := 19) hx hb dX4_opens_6 (by decide) (fun hc => ?_) (fun hc => ?_)
  · have hf := ite_t hc hf
    refine lv_aload_n hx hb dX4_opens_19 rfl (lv_at hl 0 rfl) ?_
    refine lv_dup hx hb dX4_opens_20 rfl ?_
    refine t_get C hV hT 13 (by decide) q1260 rfl dX4_opens_21 ?_
    refine lv_iconst (v := 1) hx hb dX4_opens_24 (by decide) ?_
    refine lv_iadd hx hb dX4_opens_25 ?_
    refine t_put C hV hT 13 (by decide) q1260 (tset_13 a t _) rfl rfl dX4_opens_26 (fun t_26 H locs et hT => ?_)
    have hf := lett_e et hf
    refine lv_aload_n hx hb dX4_opens_29 rfl (lv_at hl 0 rfl) ?_
    refine t_get C hV hT 15 (by decide) q1262 rfl dX4_opens_30 ?_
    refine lv_aload_n hx hb dX4_opens_33 rfl (lv_at hl 0 rfl) ?_
    refine t_get C hV hT 16 (by decide) q1263 rfl dX4_opens_34 ?_
    refine lv_iload_n hx hb dX4_opens_37 rfl (lv_at hl 1 rfl) ?_
    obtain ⟨hi, hf⟩ := ix_e hf
    refine t_ist C hV hT 7 _ rfl hi rfl (tast_15 d a t_26 _ _) dX4_opens_38 (fun t_38 H locs et hT => ?_)
    have hf := lett_e et hf
    refine lv_aload_n hx hb dX4_opens_39 rfl (lv_at hl 0 rfl) ?_
    refine lv_dup hx hb dX4_opens_40 rfl ?_
    refine t_get C hV hT 16 (by decide) q1263 rfl dX4_opens_41 ?_
    refine lv_iconst (v := 1) hx hb dX4_opens_44 (by decide) ?_
    refine lv_iadd hx hb dX4_opens_45 ?_
    refine t_put C hV hT 16 (by decide) q1263 (tset_16 a t_38 _) rfl rfl dX4_opens_46 (fun t_46 H locs et hT => ?_)
    have hf := lett_e et hf
    refine lv_iconst (v := 1) hx hb dX4_opens_49 (by decide) ?_
    exact t_zret C hT hf (Or.inr rfl) hr hlocks dX4_opens_50
  · have hf := ite_f (fun q => q hc) hf
    refine lv_aload_n hx hb dX4_opens_9 rfl (lv_at hl 0 rfl) ?_
    refine lv_iconst (v := 2) hx hb dX4_opens_10 (by decide) ?_
    refine lv_aload_n hx hb dX4_opens_11 rfl (lv_at hl 0 rfl) ?_
    refine t_get C hV hT 8 (by decide) q1255 rfl dX4_opens_12 ?_
    obtain ⟨w_15, h_15, hf⟩ := bind_e hf
    refine t_calli (vs := [.int (2 : Int32), .int (t.1 8)]) (rest := []) C hV hT (fun sz => mX4_fails l D d a N t (2 : Int32) (t.1 8) _ h_15 sz) (cwV 2 C.2.2.2.2 (lw_V q1420 q1422 qs51 q129 q1423) rfl rfl rfl hdX4_fails ⟨Nat.le_of_ble_eq_true rfl, Nat.le_of_ble_eq_true rfl⟩) rfl hl.1 rfl (Nat.le_of_ble_eq_true rfl) dX4_opens_15 (fun H locs hT => ?_)
    obtain ⟨hz, hf⟩ := ckz_e hf
    exact t_zret C hT hf hz hr hlocks dX4_opens_18
def fX4_compare_J152 (N : Nat) (t : TS) (s0 : Int32) : Option (Int32 × TS) :=
  ((fX4_sum N t ).bind fun w_155 => (if ¬ w_155.1 = 0 then ((fX4_puts N w_155.2 ((6 : Int32) + s0) (0 : Int32)).bind fun w_170 => (some ((1 : Int32), w_170))) else (some ((0 : Int32), w_155.2))))
def fX4_compare_J105 (N : Nat) (t : TS) (x1 : Int32) (x2 : Int32) (x3 : Int32) : Option (Int32 × TS) :=
  ((fX4_makes N t x2).bind fun w_107 => (if ¬ w_107.1 = 0 then (if ¬ x1 = (60 : Int32) then (if ¬ x1 = (61 : Int32) then (if x3 = 0 then (fX4_compare_J152 N w_107.2 (4 : Int32)) else (fX4_compare_J152 N w_107.2 (3 : Int32))) else (fX4_compare_J152 N w_107.2 (2 : Int32))) else (if x3 = 0 then (fX4_compare_J152 N w_107.2 (0 : Int32)) else (fX4_compare_J152 N w_107.2 (1 : Int32)))) else (some ((0 : Int32), w_107.2))))
def fX4_compare_J90 (N : Nat) (t : TS) (x1 : Int32) (x2 : Int32) (s0 : Int32) : Option (Int32 × TS) :=
  (if s0 = 0 then (fX4_compare_J105 N t x1 x2 s0) else (lett (tsI t 8 ((t.1 8) + (1 : Int32))) fun t_102 => (fX4_compare_J105 N t_102 x1 x2 s0)))
def fX4_compare_J44 (N : Nat) (t : TS) (x1 : Int32) (x2 : Int32) : Option (Int32 × TS) :=
  (lett (tsI t 8 ((t.1 8) + (1 : Int32))) fun t_51 => (if x1 = (61 : Int32) then (fX4_compare_J90 N t_51 x1 x2 (0 : Int32)) else (if (t_51.1 1) ≤ (t_51.1 8) then (fX4_compare_J90 N t_51 x1 x2 (0 : Int32)) else (ix (t_51.1 8) 400 (if ¬ (t_51.2.1 0 ((t_51.1 8)).toNatClampNeg) = (61 : Int32) then (fX4_compare_J90 N t_51 x1 x2 (0 : Int32)) else (fX4_compare_J90 N t_51 x1 x2 (1 : Int32)))))))
def fX4_compare (N : Nat) (t : TS) : Option (Int32 × TS) :=
  ((fX4_sum N t ).bind fun w_1 => (if ¬ w_1.1 = 0 then ((fX4_see N w_1.2 ).bind fun w_10 => (lett (w_10.2.1 8) fun x2_18 => (if w_10.1 = (60 : Int32) then (fX4_compare_J44 N w_10.2 w_10.1 x2_18) else (if w_10.1 = (61 : Int32) then (fX4_compare_J44 N w_10.2 w_10.1 x2_18) else (if w_10.1 = (62 : Int32) then (fX4_compare_J44 N w_10.2 w_10.1 x2_18) else ((fX4_fails N w_10.2 (0 : Int32) x2_18).bind fun w_40 => (ckz w_40.1 (some (w_40.1, w_40.2))))))))) else (some ((0 : Int32), w_1.2))))
theorem hdX4_compare : yX4_compare.cls = RX4 ∧ yX4_compare.cls ≠ "java/lang/invoke/MethodHandle" ∧ yX4_compare.cls ≠ "java/lang/invoke/VarHandle" ∧ (parseMethodDescriptor yX4_compare.desc).map (fun d => d.parameters.length) = some 0 := by decide +kernel
set_option maxHeartbeats 4000000 in
theorem mX4_compare (l : Launch) (D : va_G) (d : Nat → ClassId) (a : Nat → Nat) (N : Nat) (t : TS) (w : Int32 × TS) (hf : fX4_compare N t = some w) (sz : Nat) : Met l yX4_compare (ws_ yX4_compare cX4_compare 5 (some .boolean)) (rm_ 6 130) (PcT D d a [] t sz) (QiT D d a w.1 w.2 sz) 0 0 (AT a sz) := by
  refine Met.ofW (cc := cX4_compare) (maxL := 5) (ret := (some .boolean)) plX4 rfl ?_
  intro p e s m args below meth c s₁ B hml hv
  obtain ⟨C, hV, hT, hr, hlocks, hargs, rfl⟩ := t_enter B hml rfl hv
  have hx := C.1
  have hb := C.2.1
  show W p l e (rm_ 6 130) s m args below meth c s.heap [] 0 0 (MQ below (QiT D d a w.1 w.2 s.heap.size) args s 0 0 (AT a s.heap.size)) _
  have hJ152 : ∀ (t : TS) (s0 : Int32) (H : Heap) (locs : List Loc) (ls : Array Slot), TH D (AT a s.heap.size) s.heap (wT d a t) H locs → lv_has ls 5 [(0, .ref (a 42))] → fX4_compare_J152 N t s0 = some w → W p l e (rm_ 6 130) s m args below meth c H locs 0 0 (MQ below (QiT D d a w.1 w.2 s.heap.size) args s 0 0 (AT a s.heap.size)) (F0 m 152 ls [.int s0]) := by
    intro t s0 H locs ls hT hl hf
    unfold fX4_compare_J152 at hf
    refine lv_istore (lv' := [(4, .int s0), (0, .ref (a 42))]) hx hb dX4_compare_152 hl (by decide) rfl (fun ls hl => ?_)
    refine lv_aload_n hx hb dX4_compare_154 rfl (lv_at hl 1 rfl) ?_
    obtain ⟨w_155, h_155, hf⟩ := bind_e hf
    refine t_calli (vs := []) (rest := []) C hV hT (fun sz => mX4_sum l D d a N t  _ h_155 sz) (cwV 0 C.2.2.2.2 (lw_V q1467 q1469 qs62 q129 q1470) rfl rfl rfl hdX4_sum ⟨Nat.le_of_ble_eq_true rfl, Nat.le_of_ble_eq_true rfl⟩) rfl hl.1 rfl (Nat.le_of_ble_eq_true rfl) dX4_compare_155 (fun H locs hT => ?_)
    refine lv_if_ne (tgt := 163) hx hb dX4_compare_158 (by decide) (fun hc => ?_) (fun hc => ?_)
    · have hf := ite_t hc hf
      refine lv_aload_n hx hb dX4_compare_163 rfl (lv_at hl 1 rfl) ?_
      refine lv_bipush (v := 6) hx hb dX4_compare_164 (by decide) ?_
      refine lv_iload hx hb dX4_compare_166 (lv_at hl 0 rfl) ?_
      refine lv_iadd hx hb dX4_compare_168 ?_
      refine lv_iconst (v := 0) hx hb dX4_compare_169 (by decide) ?_
      obtain ⟨w_170, h_170, hf⟩ := bind_e hf
      refine t_callv (vs := [.int ((6 : Int32) + s0), .int (0 : Int32)]) (rest := []) C hV hT (fun sz => mX4_puts l D d a N w_155.2 ((6 : Int32) + s0) (0 : Int32) _ h_170 sz) (cwV 2 C.2.2.2.2 (lw_V q1484 q1486 qs66 q129 q1487) rfl rfl rfl hdX4_puts ⟨Nat.le_of_ble_eq_true rfl, Nat.le_of_ble_eq_true rfl⟩) rfl hl.1 rfl (Nat.le_of_ble_eq_true rfl) dX4_compare_170 (fun H locs hT => ?_)
      refine lv_iconst (v := 1) hx hb dX4_compare_173 (by decide) ?_
      exact t_zret C hT hf (Or.inr rfl) hr hlocks dX4_compare_174
    · have hf := ite_f (fun q => q hc) hf
      refine lv_iconst (v := 0) hx hb dX4_compare_161 (by decide) ?_
      exact t_zret C hT hf (Or.inl rfl) hr hlocks dX4_compare_162
  have hJ105 : ∀ (t : TS) (x1 : Int32) (x2 : Int32) (x3 : Int32) (H : Heap) (locs : List Loc) (ls : Array Slot), TH D (AT a s.heap.size) s.heap (wT d a t) H locs → lv_has ls 5 [(0, .ref (a 42)), (1, .int x1), (2, .int x2), (3, .int x3)] → fX4_compare_J105 N t x1 x2 x3 = some w → W p l e (rm_ 6 130) s m args below meth c H locs 0 0 (MQ below (QiT D d a w.1 w.2 s.heap.size) args s 0 0 (AT a s.heap.size)) (F0 m 105 ls []) := by
    intro t x1 x2 x3 H locs ls hT hl hf
    unfold fX4_compare_J105 at hf
    refine lv_aload_n hx hb dX4_compare_105 rfl (lv_at hl 0 rfl) ?_
    refine lv_iload_n hx hb dX4_compare_106 rfl (lv_at hl 2 rfl) ?_
    obtain ⟨w_107, h_107, hf⟩ := bind_e hf
    refine t_calli (vs := [.int x2]) (rest := []) C hV hT (fun sz => mX4_makes l D d a N t x2 _ h_107 sz) (cwV 1 C.2.2.2.2 (lw_V q1480 q1482 qs65 q129 q1483) rfl rfl rfl hdX4_makes ⟨Nat.le_of_ble_eq_true rfl, Nat.le_of_ble_eq_true rfl⟩) rfl hl.1 rfl (Nat.le_of_ble_eq_true rfl) dX4_compare_107 (fun H locs hT => ?_)
    refine lv_if_ne (tgt := 115) hx hb dX4_compare_110 (by decide) (fun hc => ?_) (fun hc => ?_)
    · have hf := ite_t hc hf
      refine lv_iload_n hx hb dX4_compare_115 rfl (lv_at hl 1 rfl) ?_
      refine lv_bipush (v := 60) hx hb dX4_compare_116 (by decide) ?_
      refine lv_icmp_ne (tgt := 133) hx hb dX4_compare_118 (by decide) (fun hc => ?_) (fun hc => ?_)
      · have hf := ite_t hc hf
        refine lv_iload_n hx hb dX4_compare_133 rfl (lv_at hl 1 rfl) ?_
        refine lv_bipush (v := 61) hx hb dX4_compare_134 (by decide) ?_
        refine lv_icmp_ne (tgt := 143) hx hb dX4_compare_136 (by decide) (fun hc => ?_) (fun hc => ?_)
        · have hf := ite_t hc hf
          refine lv_iload_n hx hb dX4_compare_143 rfl (lv_at hl 3 rfl) ?_
          refine lv_if_eq (tgt := 151) hx hb dX4_compare_144 (by decide) (fun hc => ?_) (fun hc => ?_)
          · have hf := ite_t hc hf
            refine lv_iconst (v := 4) hx hb dX4_compare_151 (by decide) ?_
            exact hJ152 w_107.2 (4 : Int32) _ _ _ hT (lv_sub hl [0] rfl) hf
          · have hf := ite_f hc hf
            refine lv_iconst (v := 3) hx hb dX4_compare_147 (by decide) ?_
            refine lv_goto (tgt := 152) hx hb dX4_compare_148 (by decide) ?_
            exact hJ152 w_107.2 (3 : Int32) _ _ _ hT (lv_sub hl [0] rfl) hf
        · have hf := ite_f (fun q => q hc) hf
          refine lv_iconst (v := 2) hx hb dX4_compare_139 (by decide) ?_
          refine lv_goto (tgt := 152) hx hb dX4_compare_140 (by decide) ?_
          exact hJ152 w_107.2 (2 : Int32) _ _ _ hT (lv_sub hl [0] rfl) hf
      · have hf := ite_f (fun q => q hc) hf
        refine lv_iload_n hx hb dX4_compare_121 rfl (lv_at hl 3 rfl) ?_
        refine lv_if_eq (tgt := 129) hx hb dX4_compare_122 (by decide) (fun hc => ?_) (fun hc => ?_)
        · have hf := ite_t hc hf
          refine lv_iconst (v := 0) hx hb dX4_compare_129 (by decide) ?_
          refine lv_goto (tgt := 152) hx hb dX4_compare_130 (by decide) ?_
          exact hJ152 w_107.2 (0 : Int32) _ _ _ hT (lv_sub hl [0] rfl) hf
        · have hf := ite_f hc hf
          refine lv_iconst (v := 1) hx hb dX4_compare_125 (by decide) ?_
          refine lv_goto (tgt := 152) hx hb dX4_compare_126 (by decide) ?_
          exact hJ152 w_107.2 (1 : Int32) _ _ _ hT (lv_sub hl [0] rfl) hf
    · have hf := ite_f (fun q => q hc) hf
      refine lv_iconst (v := 0) hx hb dX4_compare_113 (by decide) ?_
      exact t_zret C hT hf (Or.inl rfl) hr hlocks dX4_compare_114
  have hJ90 : ∀ (t : TS) (x1 : Int32) (x2 : Int32) (s0 : Int32) (H : Heap) (locs : List Loc) (ls : Array Slot), TH D (AT a s.heap.size) s.heap (wT d a t) H locs → lv_has ls 5 [(0, .ref (a 42)), (1, .int x1), (2, .int x2)] → fX4_compare_J90 N t x1 x2 s0 = some w → W p l e (rm_ 6 130) s m args below meth c H locs 0 0 (MQ below (QiT D d a w.1 w.2 s.heap.size) args s 0 0 (AT a s.heap.size)) (F0 m 90 ls [.int s0]) := by
    intro t x1 x2 s0 H locs ls hT hl hf
    unfold fX4_compare_J90 at hf
    refine lv_istore_n (lv' := [(3, .int s0), (0, .ref (a 42)), (1, .int x1), (2, .int x2)]) hx hb dX4_compare_90 rfl hl (by decide) rfl (fun ls hl => ?_)
    refine lv_iload_n hx hb dX4_compare_91 rfl (lv_at hl 0 rfl) ?_
    refine lv_if_eq (tgt := 105) hx hb dX4_compare_92 (by decide) (fun hc => ?_) (fun hc => ?_)
    · have hf := ite_t hc hf
      exact hJ105 t x1 x2 s0 _ _ _ hT (lv_sub hl [1, 2, 3, 0] rfl) hf
    · have hf := ite_f hc hf
      refine lv_aload_n hx hb dX4_compare_95 rfl (lv_at hl 1 rfl) ?_
      refine lv_dup hx hb dX4_compare_96 rfl ?_
      refine t_get C hV hT 8 (by decide) q1255 rfl dX4_compare_97 ?_
      refine lv_iconst (v := 1) hx hb dX4_compare_100 (by decide) ?_
      refine lv_iadd hx hb dX4_compare_101 ?_
      refine t_put C hV hT 8 (by decide) q1255 (tset_8 a t _) rfl rfl dX4_compare_102 (fun t_102 H locs et hT => ?_)
      have hf := lett_e et hf
      exact hJ105 t_102 x1 x2 s0 _ _ _ hT (lv_sub hl [1, 2, 3, 0] rfl) hf
  have hJ44 : ∀ (t : TS) (x1 : Int32) (x2 : Int32) (H : Heap) (locs : List Loc) (ls : Array Slot), TH D (AT a s.heap.size) s.heap (wT d a t) H locs → lv_has ls 5 [(0, .ref (a 42)), (1, .int x1), (2, .int x2)] → fX4_compare_J44 N t x1 x2 = some w → W p l e (rm_ 6 130) s m args below meth c H locs 0 0 (MQ below (QiT D d a w.1 w.2 s.heap.size) args s 0 0 (AT a s.heap.size)) (F0 m 44 ls []) := by
    intro t x1 x2 H locs ls hT hl hf
    unfold fX4_compare_J44 at hf
    refine lv_aload_n hx hb dX4_compare_44 rfl (lv_at hl 0 rfl) ?_
    refine lv_dup hx hb dX4_compare_45 rfl ?_
    refine t_get C hV hT 8 (by decide) q1255 rfl dX4_compare_46 ?_
    refine lv_iconst (v := 1) hx hb dX4_compare_49 (by decide) ?_
    refine lv_iadd hx hb dX4_compare_50 ?_
    refine t_put C hV hT 8 (by decide) q1255 (tset_8 a t _) rfl rfl dX4_compare_51 (fun t_51 H locs et hT => ?_)
    have hf := lett_e et hf
    refine lv_iload_n hx hb dX4_compare_54 rfl (lv_at hl 1 rfl) ?_
    refine lv_bipush (v := 61) hx hb dX4_compare_55 (by decide) ?_
    refine lv_icmp_eq (tgt := 89) hx hb dX4_compare_57 (by decide) (fun hc => ?_) (fun hc => ?_)
    · have hf := ite_t hc hf
      refine lv_iconst (v := 0) hx hb dX4_compare_89 (by decide) ?_
      exact hJ90 t_51 x1 x2 (0 : Int32) _ _ _ hT hl hf
    · have hf := ite_f hc hf
      refine lv_aload_n hx hb dX4_compare_60 rfl (lv_at hl 0 rfl) ?_
      refine t_get C hV hT 8 (by decide) q1255 rfl dX4_compare_61 ?_
      refine lv_aload_n hx hb dX4_compare_64 rfl (lv_at hl 0 rfl) ?_
      refine t_get C hV hT 1 (by decide) q1248 rfl dX4_compare_65 ?_
      refine lv_icmp_ge (tgt := 89) hx hb dX4_compare_68 (by decide) (fun hc => ?_) (fun hc => ?_)
      · have hf := ite_t hc hf
        refine lv_iconst (v := 0) hx hb dX4_compare_89 (by decide) ?_
        exact hJ90 t_51 x1 x2 (0 : Int32) _ _ _ hT hl hf
      · have hf := ite_f hc hf
        refine lv_aload_n hx hb dX4_compare_71 rfl (lv_at hl 0 rfl) ?_
        refine t_get C hV hT 0 (by decide) q1247 rfl dX4_compare_72 ?_
        refine lv_aload_n hx hb dX4_compare_75 rfl (lv_at hl 0 rfl) ?_
        refine t_get C hV hT 8 (by decide) q1255 rfl dX4_compare_76 ?_
        obtain ⟨hi, hf⟩ := ix_e hf
        refine g_bld C hV hT 1 _ rfl hi rfl dX4_compare_79 ?_
        refine lv_bipush (v := 61) hx hb dX4_compare_80 (by decide) ?_
        refine lv_icmp_ne (tgt := 89) hx hb dX4_compare_82 (by decide) (fun hc => ?_) (fun hc => ?_)
        · have hf := ite_t hc hf
          refine lv_iconst (v := 0) hx hb dX4_compare_89 (by decide) ?_
          exact hJ90 t_51 x1 x2 (0 : Int32) _ _ _ hT hl hf
        · have hf := ite_f (fun q => q hc) hf
          refine lv_iconst (v := 1) hx hb dX4_compare_85 (by decide) ?_
          refine lv_goto (tgt := 90) hx hb dX4_compare_86 (by decide) ?_
          exact hJ90 t_51 x1 x2 (1 : Int32) _ _ _ hT hl hf
  refine W.eq (by rw [hargs]) (t_in (vs := [.ref (a 42)]) (n := 5) (Nat.le_of_ble_eq_true rfl) (fun ls hl => ?_))
  have hl : lv_has ls 5 [(0, .ref (a 42))] := hl
  unfold fX4_compare at hf
  skip
  refine lv_aload_n hx hb dX4_compare_0 rfl (lv_at hl 0 rfl) ?_
  obtain ⟨w_1, h_1, hf⟩ := bind_e hf
  refine t_calli (vs := []) (rest := []) C hV hT (fun sz => mX4_sum l D d a N t  _ h_1 sz) (cwV 0 C.2.2.2.2 (lw_V q1467 q1469 qs62 q129 q1470) rfl rfl rfl hdX4_sum ⟨Nat.le_of_ble_eq_true rfl, Nat.le_of_ble_eq_true rfl⟩) rfl hl.1 rfl (Nat.le_of_ble_eq_true rfl) dX4_compare_1 (fun H locs hT => ?_)
  refine lv_if_ne (tgt := 9) hx hb dX4_compare_4 (by decide) (fun hc => ?_) (fun hc => ?_)
  · have hf := ite_t hc hf
    refine lv_aload_n hx hb dX4_compare_9 rfl (lv_at hl 0 rfl) ?_
    obtain ⟨w_10, h_10, hf⟩ := bind_e hf
    refine t_calli (vs := []) (rest := []) C hV hT (fun sz => mX4_see l D d a N w_1.2  _ h_10 sz) (cwV 0 C.2.2.2.2 (lw_V q1399 q1401 qs47 q129 q1402) rfl rfl rfl hdX4_see ⟨Nat.le_of_ble_eq_true rfl, Nat.le_of_ble_eq_true rfl⟩) rfl hl.1 rfl (Nat.le_of_ble_eq_true rfl) dX4_compare_10 (fun H locs hT => ?_)
    refine lv_istore_n (lv' := [(1, .int w_10.1), (0, .ref (a 42))]) hx hb dX4_compare_13 rfl hl (by decide) rfl (fun ls hl => ?_)
    refine lv_aload_n hx hb dX4_compare_14 rfl (lv_at hl 1 rfl) ?_
    refine t_get C hV hT 8 (by decide) q1255 rfl dX4_compare_15 ?_
    refine lv_topi (fun x2_18 ex => ?_)
    have hf := lett_e ex hf
    refine lv_istore_n (lv' := [(2, .int x2_18), (1, .int w_10.1), (0, .ref (a 42))]) hx hb dX4_compare_18 rfl hl (by decide) rfl (fun ls hl => ?_)
    refine lv_iload_n hx hb dX4_compare_19 rfl (lv_at hl 1 rfl) ?_
    refine lv_bipush (v := 60) hx hb dX4_compare_20 (by decide) ?_
    refine lv_icmp_eq (tgt := 44) hx hb dX4_compare_22 (by decide) (fun hc => ?_) (fun hc => ?_)
    · have hf := ite_t hc hf
      exact hJ44 w_10.2 w_10.1 x2_18 _ _ _ hT (lv_sub hl [2, 1, 0] rfl) hf
    · have hf := ite_f hc hf
      refine lv_iload_n hx hb dX4_compare_25 rfl (lv_at hl 1 rfl) ?_
      refine lv_bipush (v := 61) hx hb dX4_compare_26 (by decide) ?_
      refine lv_icmp_eq (tgt := 44) hx hb dX4_compare_28 (by decide) (fun hc => ?_) (fun hc => ?_)
      · have hf := ite_t hc hf
        exact hJ44 w_10.2 w_10.1 x2_18 _ _ _ hT (lv_sub hl [2, 1, 0] rfl) hf
      · have hf := ite_f hc hf
        refine lv_iload_n hx hb dX4_compare_31 rfl (lv_at hl 1 rfl) ?_
        refine lv_bipush (v := 62) hx hb dX4_compare_32 (by decide) ?_
        refine lv_icmp_eq (tgt := 44) hx hb dX4_compare_34 (by decide) (fun hc => ?_) (fun hc => ?_)
        · have hf := ite_t hc hf
          exact hJ44 w_10.2 w_10.1 x2_18 _ _ _ hT (lv_sub hl [2, 1, 0] rfl) hf
        · have hf := ite_f hc hf
          refine lv_aload_n hx hb dX4_compare_37 rfl (lv_at hl 2 rfl) ?_
          refine lv_iconst (v := 0) hx hb dX4_compare_38 (by decide) ?_
          refine lv_iload_n hx hb dX4_compare_39 rfl (lv_at hl 0 rfl) ?_
          obtain ⟨w_40, h_40, hf⟩ := bind_e hf
          refine t_calli (vs := [.int (0 : Int32), .int x2_18]) (rest := []) C hV hT (fun sz => mX4_fails l D d a N w_10.2 (0 : Int32) x2_18 _ h_40 sz) (cwV 2 C.2.2.2.2 (lw_V q1420 q1422 qs51 q129 q1423) rfl rfl rfl hdX4_fails ⟨Nat.le_of_ble_eq_true rfl, Nat.le_of_ble_eq_true rfl⟩) rfl hl.1 rfl (Nat.le_of_ble_eq_true rfl) dX4_compare_40 (fun H locs hT => ?_)
          obtain ⟨hz, hf⟩ := ckz_e hf
          exact t_zret C hT hf hz hr hlocks dX4_compare_43
  · have hf := ite_f (fun q => q hc) hf
    refine lv_iconst (v := 0) hx hb dX4_compare_7 (by decide) ?_
    exact t_zret C hT hf (Or.inl rfl) hr hlocks dX4_compare_8
def fX4_fact_B2 (N : Nat) (K : TS → Option (Int32 × TS)) (kb : TS → Int32 → Option (Int32 × TS)) (t : TS) (x1 : Int32) : Option (Int32 × TS) :=
  (if x1 = 0 then (K t) else ((fX4_see N t ).bind fun w_9 => ((fX4_isWord N w_9.2 (14836 : Int64)).bind fun w_17 => (if w_17.1 = 0 then (if ¬ w_9.1 = (91 : Int32) then (kb w_17.2 (0 : Int32)) else ((fX4_opens N w_17.2 (91 : Int32)).bind fun w_52 => (if ¬ w_52.1 = 0 then (lett (tsI w_52.2 8 ((w_52.2.1 8) + (1 : Int32))) fun t_67 => (kb t_67 (1 : Int32))) else (some ((0 : Int32), w_52.2))))) else ((fX4_opens N w_17.2 (11 : Int32)).bind fun w_26 => (if ¬ w_26.1 = 0 then ((fX4_passWord N w_26.2 ).bind fun w_35 => (kb w_35 (1 : Int32))) else (some ((0 : Int32), w_26.2))))))))
def fX4_fact_L2 (N : Nat) (K : TS → Option (Int32 × TS)) : Nat → TS → Int32 → Option (Int32 × TS)
  | 0 => fun _ _ => none
  | n + 1 => fun t x1 => fX4_fact_B2 N K (fX4_fact_L2 N K n) t x1
def fX4_fact (N : Nat) (t : TS) : Option (Int32 × TS) :=
  (fX4_fact_L2 N (fun t => ((fX4_compare N t ).bind fun w_76 => (ckz w_76.1 (some (w_76.1, w_76.2))))) N t (1 : Int32))
theorem hdX4_fact : yX4_fact.cls = RX4 ∧ yX4_fact.cls ≠ "java/lang/invoke/MethodHandle" ∧ yX4_fact.cls ≠ "java/lang/invoke/VarHandle" ∧ (parseMethodDescriptor yX4_fact.desc).map (fun d => d.parameters.length) = some 0 := by decide +kernel
set_option maxHeartbeats 4000000 in
theorem mX4_fact (l : Launch) (D : va_G) (d : Nat → ClassId) (a : Nat → Nat) (N : Nat) (t : TS) (w : Int32 × TS) (hf : fX4_fact N t = some w) (sz : Nat) : Met l yX4_fact (ws_ yX4_fact cX4_fact 3 (some .boolean)) (rm_ 7 154) (PcT D d a [] t sz) (QiT D d a w.1 w.2 sz) 0 0 (AT a sz) := by
  refine Met.ofW (cc := cX4_fact) (maxL := 3) (ret := (some .boolean)) plX4 rfl ?_
  intro p e s m args below meth c s₁ B hml hv
  obtain ⟨C, hV, hT, hr, hlocks, hargs, rfl⟩ := t_enter B hml rfl hv
  have hx := C.1
  have hb := C.2.1
  show W p l e (rm_ 7 154) s m args below meth c s.heap [] 0 0 (MQ below (QiT D d a w.1 w.2 s.heap.size) args s 0 0 (AT a s.heap.size)) _
  have hL2 : ∀ (K : TS → Option (Int32 × TS)), (∀ (t : TS) (H : Heap) (locs : List Loc) (ls : Array Slot), TH D (AT a s.heap.size) s.heap (wT d a t) H locs → lv_has ls 3 [(0, .ref (a 42))] → K t = some w → W p l e (rm_ 7 154) s m args below meth c H locs 0 0 (MQ below (QiT D d a w.1 w.2 s.heap.size) args s 0 0 (AT a s.heap.size)) (F0 m 75 ls [])) → ∀ (n : Nat) (t : TS) (x1 : Int32) (H : Heap) (locs : List Loc) (ls : Array Slot), TH D (AT a s.heap.size) s.heap (wT d a t) H locs → lv_has ls 3 [(0, .ref (a 42)), (1, .int x1)] → fX4_fact_L2 N K n t x1 = some w → W p l e (rm_ 7 154) s m args below meth c H locs 0 0 (MQ below (QiT D d a w.1 w.2 s.heap.size) args s 0 0 (AT a s.heap.size)) (F0 m 2 ls []) := by
    intro K hE n
    induction n with
    | zero =>
      intro t x1 H locs ls hT hl hf
      cases hf
    | succ n ih =>
      intro t x1 H locs ls hT hl hf
      replace hf : fX4_fact_B2 N K (fX4_fact_L2 N K n) t x1 = some w := hf
      unfold fX4_fact_B2 at hf
      refine lv_iload_n hx hb dX4_fact_2 rfl (lv_at hl 1 rfl) ?_
      refine lv_if_eq (tgt := 75) hx hb dX4_fact_3 (by decide) (fun hc => ?_) (fun hc => ?_)
      · have hf := ite_t hc hf
        exact hE t _ _ _ hT (lv_sub hl [0] rfl) hf
      · have hf := ite_f hc hf
        refine lv_iconst (v := 0) hx hb dX4_fact_6 (by decide) ?_
        refine lv_istore_n (lv' := [(1, .int (0 : Int32)), (0, .ref (a 42))]) hx hb dX4_fact_7 rfl hl (by decide) rfl (fun ls hl => ?_)
        refine lv_aload_n hx hb dX4_fact_8 rfl (lv_at hl 1 rfl) ?_
        obtain ⟨w_9, h_9, hf⟩ := bind_e hf
        refine t_calli (vs := []) (rest := []) C hV hT (fun sz => mX4_see l D d a N t  _ h_9 sz) (cwV 0 C.2.2.2.2 (lw_V q1399 q1401 qs47 q129 q1402) rfl rfl rfl hdX4_see ⟨Nat.le_of_ble_eq_true rfl, Nat.le_of_ble_eq_true rfl⟩) rfl hl.1 rfl (Nat.le_of_ble_eq_true rfl) dX4_fact_9 (fun H locs hT => ?_)
        refine lv_istore_n (lv' := [(2, .int w_9.1), (1, .int (0 : Int32)), (0, .ref (a 42))]) hx hb dX4_fact_12 rfl hl (by decide) rfl (fun ls hl => ?_)
        refine lv_aload_n hx hb dX4_fact_13 rfl (lv_at hl 2 rfl) ?_
        refine g_ldc2 (v := 14836) C q1515 dX4_fact_14 ?_
        obtain ⟨w_17, h_17, hf⟩ := bind_e hf
        refine t_calli (vs := [.long (14836 : Int64)]) (rest := []) C hV hT (fun sz => mX4_isWord l D d a N w_9.2 (14836 : Int64) _ h_17 sz) (cwV 1 C.2.2.2.2 (lw_V q1408 q1410 qs49 q129 q1411) rfl rfl rfl hdX4_isWord ⟨Nat.le_of_ble_eq_true rfl, Nat.le_of_ble_eq_true rfl⟩) rfl hl.1 rfl (Nat.le_of_ble_eq_true rfl) dX4_fact_17 (fun H locs hT => ?_)
        refine lv_if_eq (tgt := 43) hx hb dX4_fact_20 (by decide) (fun hc => ?_) (fun hc => ?_)
        · have hf := ite_t hc hf
          refine lv_iload_n hx hb dX4_fact_43 rfl (lv_at hl 0 rfl) ?_
          refine lv_bipush (v := 91) hx hb dX4_fact_44 (by decide) ?_
          refine lv_icmp_ne (tgt := 72) hx hb dX4_fact_46 (by decide) (fun hc => ?_) (fun hc => ?_)
          · have hf := ite_t hc hf
            refine lv_goto (tgt := 2) hx hb dX4_fact_72 (by decide) ?_
            exact ih w_17.2 (0 : Int32) _ _ _ hT (lv_sub hl [2, 1] rfl) hf
          · have hf := ite_f (fun q => q hc) hf
            refine lv_aload_n hx hb dX4_fact_49 rfl (lv_at hl 2 rfl) ?_
            refine lv_bipush (v := 91) hx hb dX4_fact_50 (by decide) ?_
            obtain ⟨w_52, h_52, hf⟩ := bind_e hf
            refine t_calli (vs := [.int (91 : Int32)]) (rest := []) C hV hT (fun sz => mX4_opens l D d a N w_17.2 (91 : Int32) _ h_52 sz) (cwV 1 C.2.2.2.2 (lw_V q1516 q1518 qs71 q129 q1519) rfl rfl rfl hdX4_opens ⟨Nat.le_of_ble_eq_true rfl, Nat.le_of_ble_eq_true rfl⟩) rfl hl.1 rfl (Nat.le_of_ble_eq_true rfl) dX4_fact_52 (fun H locs hT => ?_)
            refine lv_if_ne (tgt := 60) hx hb dX4_fact_55 (by decide) (fun hc => ?_) (fun hc => ?_)
            · have hf := ite_t hc hf
              refine lv_aload_n hx hb dX4_fact_60 rfl (lv_at hl 2 rfl) ?_
              refine lv_dup hx hb dX4_fact_61 rfl ?_
              refine t_get C hV hT 8 (by decide) q1255 rfl dX4_fact_62 ?_
              refine lv_iconst (v := 1) hx hb dX4_fact_65 (by decide) ?_
              refine lv_iadd hx hb dX4_fact_66 ?_
              refine t_put C hV hT 8 (by decide) q1255 (tset_8 a w_52.2 _) rfl rfl dX4_fact_67 (fun t_67 H locs et hT => ?_)
              have hf := lett_e et hf
              refine lv_iconst (v := 1) hx hb dX4_fact_70 (by decide) ?_
              refine lv_istore_n (lv' := [(1, .int (1 : Int32)), (2, .int w_9.1), (0, .ref (a 42))]) hx hb dX4_fact_71 rfl hl (by decide) rfl (fun ls hl => ?_)
              refine lv_goto (tgt := 2) hx hb dX4_fact_72 (by decide) ?_
              exact ih t_67 (1 : Int32) _ _ _ hT (lv_sub hl [2, 0] rfl) hf
            · have hf := ite_f (fun q => q hc) hf
              refine lv_iconst (v := 0) hx hb dX4_fact_58 (by decide) ?_
              exact t_zret C hT hf (Or.inl rfl) hr hlocks dX4_fact_59
        · have hf := ite_f hc hf
          refine lv_aload_n hx hb dX4_fact_23 rfl (lv_at hl 2 rfl) ?_
          refine lv_bipush (v := 11) hx hb dX4_fact_24 (by decide) ?_
          obtain ⟨w_26, h_26, hf⟩ := bind_e hf
          refine t_calli (vs := [.int (11 : Int32)]) (rest := []) C hV hT (fun sz => mX4_opens l D d a N w_17.2 (11 : Int32) _ h_26 sz) (cwV 1 C.2.2.2.2 (lw_V q1516 q1518 qs71 q129 q1519) rfl rfl rfl hdX4_opens ⟨Nat.le_of_ble_eq_true rfl, Nat.le_of_ble_eq_true rfl⟩) rfl hl.1 rfl (Nat.le_of_ble_eq_true rfl) dX4_fact_26 (fun H locs hT => ?_)
          refine lv_if_ne (tgt := 34) hx hb dX4_fact_29 (by decide) (fun hc => ?_) (fun hc => ?_)
          · have hf := ite_t hc hf
            refine lv_aload_n hx hb dX4_fact_34 rfl (lv_at hl 2 rfl) ?_
            obtain ⟨w_35, h_35, hf⟩ := bind_e hf
            refine t_callv (vs := []) (rest := []) C hV hT (fun sz => mX4_passWord l D d a N w_26.2  _ h_35 sz) (cwV 0 C.2.2.2.2 (lw_V q1432 q1434 qs54 q129 q1435) rfl rfl rfl hdX4_passWord ⟨Nat.le_of_ble_eq_true rfl, Nat.le_of_ble_eq_true rfl⟩) rfl hl.1 rfl (Nat.le_of_ble_eq_true rfl) dX4_fact_35 (fun H locs hT => ?_)
            refine lv_iconst (v := 1) hx hb dX4_fact_38 (by decide) ?_
            refine lv_istore_n (lv' := [(1, .int (1 : Int32)), (2, .int w_9.1), (0, .ref (a 42))]) hx hb dX4_fact_39 rfl hl (by decide) rfl (fun ls hl => ?_)
            refine lv_goto (tgt := 72) hx hb dX4_fact_40 (by decide) ?_
            refine lv_goto (tgt := 2) hx hb dX4_fact_72 (by decide) ?_
            exact ih w_35 (1 : Int32) _ _ _ hT (lv_sub hl [2, 0] rfl) hf
          · have hf := ite_f (fun q => q hc) hf
            refine lv_iconst (v := 0) hx hb dX4_fact_32 (by decide) ?_
            exact t_zret C hT hf (Or.inl rfl) hr hlocks dX4_fact_33
  refine W.eq (by rw [hargs]) (t_in (vs := [.ref (a 42)]) (n := 3) (Nat.le_of_ble_eq_true rfl) (fun ls hl => ?_))
  have hl : lv_has ls 3 [(0, .ref (a 42))] := hl
  unfold fX4_fact at hf
  skip
  refine lv_iconst (v := 1) hx hb dX4_fact_0 (by decide) ?_
  refine lv_istore_n (lv' := [(1, .int (1 : Int32)), (0, .ref (a 42))]) hx hb dX4_fact_1 rfl hl (by decide) rfl (fun ls hl => ?_)
  refine hL2 _ (fun t H locs ls hT hl hf => ?_) N t (1 : Int32) _ _ _ hT (lv_sub hl [1, 0] rfl) hf
  refine lv_aload_n hx hb dX4_fact_75 rfl (lv_at hl 0 rfl) ?_
  obtain ⟨w_76, h_76, hf⟩ := bind_e hf
  refine t_calli (vs := []) (rest := []) C hV hT (fun sz => mX4_compare l D d a N t  _ h_76 sz) (cwV 0 C.2.2.2.2 (lw_V q1520 q1522 qs72 q129 q1523) rfl rfl rfl hdX4_compare ⟨Nat.le_of_ble_eq_true rfl, Nat.le_of_ble_eq_true rfl⟩) rfl hl.1 rfl (Nat.le_of_ble_eq_true rfl) dX4_fact_76 (fun H locs hT => ?_)
  obtain ⟨hz, hf⟩ := ckz_e hf
  exact t_zret C hT hf hz hr hlocks dX4_fact_79
def fX4_strength (N : Nat) (x0 : Int32) : Option (Int32) :=
  (if ¬ x0 = (13 : Int32) then (if ¬ x0 = (12 : Int32) then (if ¬ x0 = (11 : Int32) then (some (0 : Int32)) else (some (3 : Int32))) else (some (2 : Int32))) else (some (1 : Int32)))
theorem hdX4_strength : yX4_strength.cls ≠ "java/lang/invoke/MethodHandle" ∧ yX4_strength.cls ≠ "java/lang/invoke/VarHandle" ∧ (parseMethodDescriptor yX4_strength.desc).map (fun d => d.parameters.length) = some 1 := by decide +kernel
set_option maxHeartbeats 4000000 in
theorem mX4_strength (l : Launch) (N : Nat) (x0 : Int32) (w : Int32) (hf : fX4_strength N x0 = some w) (sz : Nat) : Met l yX4_strength (ws_ yX4_strength cX4_strength 1 (some .int)) (rm_ 0 0) (PcS [.int x0] sz) (QiS w sz) 0 0 (fun q => sz ≤ q) := by
  refine Met.ofW (cc := cX4_strength) (maxL := 1) (ret := (some .int)) plX4 rfl ?_
  intro p e s m args below meth c s₁ B hml hv
  obtain ⟨C, hT, hr, hlocks, hargs, rfl⟩ := s_enter (D := db_D0) (own := RX4) B hml rfl hv
  have hx := C.1
  have hb := C.2.1
  show W p l e (rm_ 0 0) s m args below meth c s.heap [] 0 0 (MQ below (QiS w s.heap.size) args s 0 0 (fun q => s.heap.size ≤ q)) _
  refine W.eq (by rw [hargs]) (t_in (vs := [.int x0]) (n := 1) (Nat.le_of_ble_eq_true rfl) (fun ls hl => ?_))
  have hl : lv_has ls 1 [(0, .int x0)] := hl
  unfold fX4_strength at hf
  refine lv_iload_n hx hb dX4_strength_0 rfl (lv_at hl 0 rfl) ?_
  refine lv_bipush (v := 13) hx hb dX4_strength_1 (by decide) ?_
  refine lv_icmp_ne (tgt := 10) hx hb dX4_strength_3 (by decide) (fun hc => ?_) (fun hc => ?_)
  · have hf := ite_t hc hf
    refine lv_iload_n hx hb dX4_strength_10 rfl (lv_at hl 0 rfl) ?_
    refine lv_bipush (v := 12) hx hb dX4_strength_11 (by decide) ?_
    refine lv_icmp_ne (tgt := 20) hx hb dX4_strength_13 (by decide) (fun hc => ?_) (fun hc => ?_)
    · have hf := ite_t hc hf
      refine lv_iload_n hx hb dX4_strength_20 rfl (lv_at hl 0 rfl) ?_
      refine lv_bipush (v := 11) hx hb dX4_strength_21 (by decide) ?_
      refine lv_icmp_ne (tgt := 30) hx hb dX4_strength_23 (by decide) (fun hc => ?_) (fun hc => ?_)
      · have hf := ite_t hc hf
        refine lv_iconst (v := 0) hx hb dX4_strength_30 (by decide) ?_
        exact s_iret C hT hf hr hlocks dX4_strength_31
      · have hf := ite_f (fun q => q hc) hf
        refine lv_iconst (v := 3) hx hb dX4_strength_26 (by decide) ?_
        refine lv_goto (tgt := 31) hx hb dX4_strength_27 (by decide) ?_
        exact s_iret C hT hf hr hlocks dX4_strength_31
    · have hf := ite_f (fun q => q hc) hf
      refine lv_iconst (v := 2) hx hb dX4_strength_16 (by decide) ?_
      refine lv_goto (tgt := 31) hx hb dX4_strength_17 (by decide) ?_
      exact s_iret C hT hf hr hlocks dX4_strength_31
  · have hf := ite_f (fun q => q hc) hf
    refine lv_iconst (v := 1) hx hb dX4_strength_6 (by decide) ?_
    refine lv_goto (tgt := 31) hx hb dX4_strength_7 (by decide) ?_
    exact s_iret C hT hf hr hlocks dX4_strength_31
def fX4_layDown_B0 (N : Nat) (K : TS → Option (TS)) (kb : TS → Int32 → Option (TS)) (t : TS) (x1 : Int32) : Option (TS) :=
  (if (t.1 16) ≤ 0 then (K t) else (ix ((t.1 16) - (1 : Int32)) 400 ((fX4_strength N (t.2.1 15 (((t.1 16) - (1 : Int32))).toNatClampNeg)).bind fun w_18 => (if w_18 < x1 then (K t) else (lett (tsI t 16 ((t.1 16) - (1 : Int32))) fun t_32 => (ix (t_32.1 16) 400 ((fX4_puts N t_32 (t_32.2.1 15 ((t_32.1 16)).toNatClampNeg) (0 : Int32)).bind fun w_46 => (ix (w_46.1 16) 400 (if ¬ (w_46.2.1 15 ((w_46.1 16)).toNatClampNeg) = (11 : Int32) then (kb w_46 x1) else (lett (tsI w_46 13 ((w_46.1 13) - (1 : Int32))) fun t_70 => (kb t_70 x1)))))))))))
def fX4_layDown_L0 (N : Nat) (K : TS → Option (TS)) : Nat → TS → Int32 → Option (TS)
  | 0 => fun _ _ => none
  | n + 1 => fun t x1 => fX4_layDown_B0 N K (fX4_layDown_L0 N K n) t x1
def fX4_layDown (N : Nat) (t : TS) (x1 : Int32) : Option (TS) :=
  (fX4_layDown_L0 N (fun t => (some t)) N t x1)
theorem hdX4_layDown : yX4_layDown.cls = RX4 ∧ yX4_layDown.cls ≠ "java/lang/invoke/MethodHandle" ∧ yX4_layDown.cls ≠ "java/lang/invoke/VarHandle" ∧ (parseMethodDescriptor yX4_layDown.desc).map (fun d => d.parameters.length) = some 1 := by decide +kernel
set_option maxHeartbeats 4000000 in
theorem mX4_layDown (l : Launch) (D : va_G) (d : Nat → ClassId) (a : Nat → Nat) (N : Nat) (t : TS) (x1 : Int32) (w : TS) (hf : fX4_layDown N t x1 = some w) (sz : Nat) : Met l yX4_layDown (ws_ yX4_layDown cX4_layDown 2 none) (rm_ 1 22) (PcT D d a [.int x1] t sz) (QvT D d a w sz) 0 0 (AT a sz) := by
  refine Met.ofW (cc := cX4_layDown) (maxL := 2) (ret := none) plX4 rfl ?_
  intro p e s m args below meth c s₁ B hml hv
  obtain ⟨C, hV, hT, hr, hlocks, hargs, rfl⟩ := t_enter B hml rfl hv
  have hx := C.1
  have hb := C.2.1
  show W p l e (rm_ 1 22) s m args below meth c s.heap [] 0 0 (MQ below (QvT D d a w s.heap.size) args s 0 0 (AT a s.heap.size)) _
  have hL0 : ∀ (K : TS → Option (TS)), (∀ (t : TS) (H : Heap) (locs : List Loc) (ls : Array Slot), TH D (AT a s.heap.size) s.heap (wT d a t) H locs → lv_has ls 2 [] → K t = some w → W p l e (rm_ 1 22) s m args below meth c H locs 0 0 (MQ below (QvT D d a w s.heap.size) args s 0 0 (AT a s.heap.size)) (F0 m 76 ls [])) → ∀ (n : Nat) (t : TS) (x1 : Int32) (H : Heap) (locs : List Loc) (ls : Array Slot), TH D (AT a s.heap.size) s.heap (wT d a t) H locs → lv_has ls 2 [(0, .ref (a 42)), (1, .int x1)] → fX4_layDown_L0 N K n t x1 = some w → W p l e (rm_ 1 22) s m args below meth c H locs 0 0 (MQ below (QvT D d a w s.heap.size) args s 0 0 (AT a s.heap.size)) (F0 m 0 ls []) := by
    intro K hE n
    induction n with
    | zero =>
      intro t x1 H locs ls hT hl hf
      cases hf
    | succ n ih =>
      intro t x1 H locs ls hT hl hf
      replace hf : fX4_layDown_B0 N K (fX4_layDown_L0 N K n) t x1 = some w := hf
      unfold fX4_layDown_B0 at hf
      refine lv_aload_n hx hb dX4_layDown_0 rfl (lv_at hl 0 rfl) ?_
      refine t_get C hV hT 16 (by decide) q1263 rfl dX4_layDown_1 ?_
      refine lv_if_le (tgt := 76) hx hb dX4_layDown_4 (by decide) (fun hc => ?_) (fun hc => ?_)
      · have hf := ite_t hc hf
        exact hE t _ _ _ hT (lv_sub hl [] rfl) hf
      · have hf := ite_f hc hf
        refine lv_aload_n hx hb dX4_layDown_7 rfl (lv_at hl 0 rfl) ?_
        refine t_get C hV hT 15 (by decide) q1262 rfl dX4_layDown_8 ?_
        refine lv_aload_n hx hb dX4_layDown_11 rfl (lv_at hl 0 rfl) ?_
        refine t_get C hV hT 16 (by decide) q1263 rfl dX4_layDown_12 ?_
        refine lv_iconst (v := 1) hx hb dX4_layDown_15 (by decide) ?_
        refine lv_isub hx hb dX4_layDown_16 ?_
        obtain ⟨hi, hf⟩ := ix_e hf
        refine g_ild C hV hT 7 _ rfl hi rfl dX4_layDown_17 ?_
        obtain ⟨w_18, h_18, hf⟩ := bind_e hf
        refine s_calli (vs := [.int (t.2.1 15 (((t.1 16) - (1 : Int32))).toNatClampNeg)]) (rest := []) C (fun q h => Or.inr h) hT (fun sz => mX4_strength l N (t.2.1 15 (((t.1 16) - (1 : Int32))).toNatClampNeg) _ h_18 sz) (va_cwS 1 C.2.2.2.2 (lw_S q1532 q1533 q129 q1534) rfl rfl rfl hdX4_strength ⟨Nat.le_of_ble_eq_true rfl, Nat.le_of_ble_eq_true rfl⟩) rfl hl.1 rfl (Nat.le_of_ble_eq_true rfl) dX4_layDown_18 ⟨Nat.zero_le _, Nat.zero_le _⟩ (fun H locs hT => ?_)
        refine lv_iload_n hx hb dX4_layDown_21 rfl (lv_at hl 1 rfl) ?_
        refine lv_icmp_lt (tgt := 76) hx hb dX4_layDown_22 (by decide) (fun hc => ?_) (fun hc => ?_)
        · have hf := ite_t hc hf
          exact hE t _ _ _ hT (lv_sub hl [] rfl) hf
        · have hf := ite_f hc hf
          refine lv_aload_n hx hb dX4_layDown_25 rfl (lv_at hl 0 rfl) ?_
          refine lv_dup hx hb dX4_layDown_26 rfl ?_
          refine t_get C hV hT 16 (by decide) q1263 rfl dX4_layDown_27 ?_
          refine lv_iconst (v := 1) hx hb dX4_layDown_30 (by decide) ?_
          refine lv_isub hx hb dX4_layDown_31 ?_
          refine t_put C hV hT 16 (by decide) q1263 (tset_16 a t _) rfl rfl dX4_layDown_32 (fun t_32 H locs et hT => ?_)
          have hf := lett_e et hf
          refine lv_aload_n hx hb dX4_layDown_35 rfl (lv_at hl 0 rfl) ?_
          refine lv_aload_n hx hb dX4_layDown_36 rfl (lv_at hl 0 rfl) ?_
          refine t_get C hV hT 15 (by decide) q1262 rfl dX4_layDown_37 ?_
          refine lv_aload_n hx hb dX4_layDown_40 rfl (lv_at hl 0 rfl) ?_
          refine t_get C hV hT 16 (by decide) q1263 rfl dX4_layDown_41 ?_
          obtain ⟨hi, hf⟩ := ix_e hf
          refine g_ild C hV hT 7 _ rfl hi rfl dX4_layDown_44 ?_
          refine lv_iconst (v := 0) hx hb dX4_layDown_45 (by decide) ?_
          obtain ⟨w_46, h_46, hf⟩ := bind_e hf
          refine t_callv (vs := [.int (t_32.2.1 15 ((t_32.1 16)).toNatClampNeg), .int (0 : Int32)]) (rest := []) C hV hT (fun sz => mX4_puts l D d a N t_32 (t_32.2.1 15 ((t_32.1 16)).toNatClampNeg) (0 : Int32) _ h_46 sz) (cwV 2 C.2.2.2.2 (lw_V q1484 q1486 qs66 q129 q1487) rfl rfl rfl hdX4_puts ⟨Nat.le_of_ble_eq_true rfl, Nat.le_of_ble_eq_true rfl⟩) rfl hl.1 rfl (Nat.le_of_ble_eq_true rfl) dX4_layDown_46 (fun H locs hT => ?_)
          refine lv_aload_n hx hb dX4_layDown_49 rfl (lv_at hl 0 rfl) ?_
          refine t_get C hV hT 15 (by decide) q1262 rfl dX4_layDown_50 ?_
          refine lv_aload_n hx hb dX4_layDown_53 rfl (lv_at hl 0 rfl) ?_
          refine t_get C hV hT 16 (by decide) q1263 rfl dX4_layDown_54 ?_
          obtain ⟨hi, hf⟩ := ix_e hf
          refine g_ild C hV hT 7 _ rfl hi rfl dX4_layDown_57 ?_
          refine lv_bipush (v := 11) hx hb dX4_layDown_58 (by decide) ?_
          refine lv_icmp_ne (tgt := 0) hx hb dX4_layDown_60 (by decide) (fun hc => ?_) (fun hc => ?_)
          · have hf := ite_t hc hf
            exact ih w_46 x1 _ _ _ hT hl hf
          · have hf := ite_f (fun q => q hc) hf
            refine lv_aload_n hx hb dX4_layDown_63 rfl (lv_at hl 0 rfl) ?_
            refine lv_dup hx hb dX4_layDown_64 rfl ?_
            refine t_get C hV hT 13 (by decide) q1260 rfl dX4_layDown_65 ?_
            refine lv_iconst (v := 1) hx hb dX4_layDown_68 (by decide) ?_
            refine lv_isub hx hb dX4_layDown_69 ?_
            refine t_put C hV hT 13 (by decide) q1260 (tset_13 a w_46 _) rfl rfl dX4_layDown_70 (fun t_70 H locs et hT => ?_)
            have hf := lett_e et hf
            refine lv_goto (tgt := 0) hx hb dX4_layDown_73 (by decide) ?_
            exact ih t_70 x1 _ _ _ hT hl hf
  refine W.eq (by rw [hargs]) (t_in (vs := [.ref (a 42), .int x1]) (n := 2) (Nat.le_of_ble_eq_true rfl) (fun ls hl => ?_))
  have hl : lv_has ls 2 [(0, .ref (a 42)), (1, .int x1)] := hl
  unfold fX4_layDown at hf
  skip
  refine hL0 _ (fun t H locs ls hT hl hf => ?_) N t x1 _ _ _ hT hl hf
  exact t_vret C hT hf hr hlocks dX4_layDown_76
