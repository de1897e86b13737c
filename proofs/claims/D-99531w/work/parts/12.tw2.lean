set_option maxRecDepth 100000
def fX4_isInside_B2 (N : Nat) (K : TS → Option (Int32 × TS)) (kb : TS → Int32 → Option (Int32 × TS)) (t : TS) (x1 : Int32) : Option (Int32 × TS) :=
  (if (t.1 16) ≤ x1 then (K t) else (ix x1 400 (if ¬ (t.2.1 15 (x1).toNatClampNeg) = (91 : Int32) then (lett (x1 + (1 : Int32)) fun x1_23 => (kb t x1_23)) else (some ((1 : Int32), t)))))
def fX4_isInside_L2 (N : Nat) (K : TS → Option (Int32 × TS)) : Nat → TS → Int32 → Option (Int32 × TS)
  | 0 => fun _ _ => none
  | n + 1 => fun t x1 => fX4_isInside_B2 N K (fX4_isInside_L2 N K n) t x1
def fX4_isInside (N : Nat) (t : TS) : Option (Int32 × TS) :=
  (fX4_isInside_L2 N (fun t => (some ((0 : Int32), t))) N t (0 : Int32))
theorem hdX4_isInside : yX4_isInside.cls = RX4 ∧ yX4_isInside.cls ≠ "java/lang/invoke/MethodHandle" ∧ yX4_isInside.cls ≠ "java/lang/invoke/VarHandle" ∧ (parseMethodDescriptor yX4_isInside.desc).map (fun d => d.parameters.length) = some 0 := by decide +kernel
set_option maxHeartbeats 4000000 in
theorem mX4_isInside (l : Launch) (D : va_G) (d : Nat → ClassId) (a : Nat → Nat) (N : Nat) (t : TS) (w : Int32 × TS) (hf : fX4_isInside N t = some w) (sz : Nat) : Met l yX4_isInside (ws_ yX4_isInside cX4_isInside 2 (some .boolean)) (rm_ 0 0) (PcT D d a [] t sz) (QiT D d a w.1 w.2 sz) 0 0 (AT a sz) := by
  refine Met.ofW (cc := cX4_isInside) (maxL := 2) (ret := (some .boolean)) plX4 rfl ?_
  intro p e s m args below meth c s₁ B hml hv
  obtain ⟨C, hV, hT, hr, hlocks, hargs, rfl⟩ := t_enter B hml rfl hv
  have hx := C.1
  have hb := C.2.1
  show W p l e (rm_ 0 0) s m args below meth c s.heap [] 0 0 (MQ below (QiT D d a w.1 w.2 s.heap.size) args s 0 0 (AT a s.heap.size)) _
  have hL2 : ∀ (K : TS → Option (Int32 × TS)), (∀ (t : TS) (H : Heap) (locs : List Loc) (ls : Array Slot), TH D (AT a s.heap.size) s.heap (wT d a t) H locs → lv_has ls 2 [] → K t = some w → W p l e (rm_ 0 0) s m args below meth c H locs 0 0 (MQ below (QiT D d a w.1 w.2 s.heap.size) args s 0 0 (AT a s.heap.size)) (F0 m 29 ls [])) → ∀ (n : Nat) (t : TS) (x1 : Int32) (H : Heap) (locs : List Loc) (ls : Array Slot), TH D (AT a s.heap.size) s.heap (wT d a t) H locs → lv_has ls 2 [(0, .ref (a 42)), (1, .int x1)] → fX4_isInside_L2 N K n t x1 = some w → W p l e (rm_ 0 0) s m args below meth c H locs 0 0 (MQ below (QiT D d a w.1 w.2 s.heap.size) args s 0 0 (AT a s.heap.size)) (F0 m 2 ls []) := by
    intro K hE n
    induction n with
    | zero =>
      intro t x1 H locs ls hT hl hf
      cases hf
    | succ n ih =>
      intro t x1 H locs ls hT hl hf
      replace hf : fX4_isInside_B2 N K (fX4_isInside_L2 N K n) t x1 = some w := hf
      unfold fX4_isInside_B2 at hf
      refine lv_iload_n hx hb dX4_isInside_2 rfl (lv_at hl 1 rfl) ?_
      refine lv_aload_n hx hb dX4_isInside_3 rfl (lv_at hl 0 rfl) ?_
      refine t_get C hV hT 16 (by decide) q1263 rfl dX4_isInside_4 ?_
      refine lv_icmp_ge (tgt := 29) hx hb dX4_isInside_7 (by decide) (fun hc => ?_) (fun hc => ?_)
      · have hf := ite_t hc hf
        exact hE t _ _ _ hT (lv_sub hl [] rfl) hf
      · have hf := ite_f hc hf
        refine lv_aload_n hx hb dX4_isInside_10 rfl (lv_at hl 0 rfl) ?_
        refine t_get C hV hT 15 (by decide) q1262 rfl dX4_isInside_11 ?_
        refine lv_iload_n hx hb dX4_isInside_14 rfl (lv_at hl 1 rfl) ?_
        obtain ⟨hi, hf⟩ := ix_e hf
        refine g_ild C hV hT 7 _ rfl hi rfl dX4_isInside_15 ?_
        refine lv_bipush (v := 91) hx hb dX4_isInside_16 (by decide) ?_
        refine lv_icmp_ne (tgt := 23) hx hb dX4_isInside_18 (by decide) (fun hc => ?_) (fun hc => ?_)
        · have hf := ite_t hc hf
          obtain ⟨x1_23, ex⟩ : ∃ y : Int32, y = (x1 + (1 : Int32)) := ⟨_, rfl⟩
          have hf := lett_e ex hf
          refine lv_iinc (v := x1_23) (lv' := [(1, .int x1_23), (0, .ref (a 42))]) hx hb dX4_isInside_23 hl (k := 1) rfl (by rw [ex]; rfl) (by decide) rfl (fun ls hl => ?_)
          refine lv_goto (tgt := 2) hx hb dX4_isInside_26 (by decide) ?_
          exact ih t x1_23 _ _ _ hT (lv_sub hl [1, 0] rfl) hf
        · have hf := ite_f (fun q => q hc) hf
          refine lv_iconst (v := 1) hx hb dX4_isInside_21 (by decide) ?_
          exact t_zret C hT hf (Or.inr rfl) hr hlocks dX4_isInside_22
  refine W.eq (by rw [hargs]) (t_in (vs := [.ref (a 42)]) (n := 2) (Nat.le_of_ble_eq_true rfl) (fun ls hl => ?_))
  have hl : lv_has ls 2 [(0, .ref (a 42))] := hl
  unfold fX4_isInside at hf
  skip
  refine lv_iconst (v := 0) hx hb dX4_isInside_0 (by decide) ?_
  refine lv_istore_n (lv' := [(1, .int (0 : Int32)), (0, .ref (a 42))]) hx hb dX4_isInside_1 rfl hl (by decide) rfl (fun ls hl => ?_)
  refine hL2 _ (fun t H locs ls hT hl hf => ?_) N t (0 : Int32) _ _ _ hT (lv_sub hl [1, 0] rfl) hf
  refine lv_iconst (v := 0) hx hb dX4_isInside_29 (by decide) ?_
  exact t_zret C hT hf (Or.inl rfl) hr hlocks dX4_isInside_30
def fX4_closes_B5 (N : Nat) (K : TS → Option (TS)) (kb : TS → Option (TS)) (t : TS) : Option (TS) :=
  ((fX4_see N t ).bind fun w_6 => (if ¬ w_6.1 = (93 : Int32) then (K w_6.2) else ((fX4_isInside N w_6.2 ).bind fun w_15 => (if w_15.1 = 0 then (K w_15.2) else ((fX4_layDown N w_15.2 (1 : Int32)).bind fun w_23 => (lett (tsI w_23 16 ((w_23.1 16) - (1 : Int32))) fun t_33 => (lett (tsI t_33 13 ((t_33.1 13) - (1 : Int32))) fun t_43 => (lett (tsI t_43 8 ((t_43.1 8) + (1 : Int32))) fun t_53 => ((fX4_layDown N t_53 (3 : Int32)).bind fun w_58 => (kb w_58))))))))))
def fX4_closes_L5 (N : Nat) (K : TS → Option (TS)) : Nat → TS → Option (TS)
  | 0 => fun _ => none
  | n + 1 => fun t => fX4_closes_B5 N K (fX4_closes_L5 N K n) t
def fX4_closes (N : Nat) (t : TS) : Option (TS) :=
  ((fX4_layDown N t (3 : Int32)).bind fun w_2 => (fX4_closes_L5 N (fun t => (some t)) N w_2))
theorem hdX4_closes : yX4_closes.cls = RX4 ∧ yX4_closes.cls ≠ "java/lang/invoke/MethodHandle" ∧ yX4_closes.cls ≠ "java/lang/invoke/VarHandle" ∧ (parseMethodDescriptor yX4_closes.desc).map (fun d => d.parameters.length) = some 0 := by decide +kernel
set_option maxHeartbeats 4000000 in
theorem mX4_closes (l : Launch) (D : va_G) (d : Nat → ClassId) (a : Nat → Nat) (N : Nat) (t : TS) (w : TS) (hf : fX4_closes N t = some w) (sz : Nat) : Met l yX4_closes (ws_ yX4_closes cX4_closes 1 none) (rm_ 2 43) (PcT D d a [] t sz) (QvT D d a w sz) 0 0 (AT a sz) := by
  refine Met.ofW (cc := cX4_closes) (maxL := 1) (ret := none) plX4 rfl ?_
  intro p e s m args below meth c s₁ B hml hv
  obtain ⟨C, hV, hT, hr, hlocks, hargs, rfl⟩ := t_enter B hml rfl hv
  have hx := C.1
  have hb := C.2.1
  show W p l e (rm_ 2 43) s m args below meth c s.heap [] 0 0 (MQ below (QvT D d a w s.heap.size) args s 0 0 (AT a s.heap.size)) _
  have hL5 : ∀ (K : TS → Option (TS)), (∀ (t : TS) (H : Heap) (locs : List Loc) (ls : Array Slot), TH D (AT a s.heap.size) s.heap (wT d a t) H locs → lv_has ls 1 [] → K t = some w → W p l e (rm_ 2 43) s m args below meth c H locs 0 0 (MQ below (QvT D d a w s.heap.size) args s 0 0 (AT a s.heap.size)) (F0 m 64 ls [])) → ∀ (n : Nat) (t : TS) (H : Heap) (locs : List Loc) (ls : Array Slot), TH D (AT a s.heap.size) s.heap (wT d a t) H locs → lv_has ls 1 [(0, .ref (a 42))] → fX4_closes_L5 N K n t = some w → W p l e (rm_ 2 43) s m args below meth c H locs 0 0 (MQ below (QvT D d a w s.heap.size) args s 0 0 (AT a s.heap.size)) (F0 m 5 ls []) := by
    intro K hE n
    induction n with
    | zero =>
      intro t H locs ls hT hl hf
      cases hf
    | succ n ih =>
      intro t H locs ls hT hl hf
      replace hf : fX4_closes_B5 N K (fX4_closes_L5 N K n) t = some w := hf
      unfold fX4_closes_B5 at hf
      refine lv_aload_n hx hb dX4_closes_5 rfl (lv_at hl 0 rfl) ?_
      obtain ⟨w_6, h_6, hf⟩ := bind_e hf
      refine t_calli (vs := []) (rest := []) C hV hT (fun sz => mX4_see l D d a N t  _ h_6 sz) (cwV 0 C.2.2.2.2 (lw_V q1399 q1401 qs47 q129 q1402) rfl rfl rfl hdX4_see ⟨Nat.le_of_ble_eq_true rfl, Nat.le_of_ble_eq_true rfl⟩) rfl hl.1 rfl (Nat.le_of_ble_eq_true rfl) dX4_closes_6 (fun H locs hT => ?_)
      refine lv_bipush (v := 93) hx hb dX4_closes_9 (by decide) ?_
      refine lv_icmp_ne (tgt := 64) hx hb dX4_closes_11 (by decide) (fun hc => ?_) (fun hc => ?_)
      · have hf := ite_t hc hf
        exact hE w_6.2 _ _ _ hT (lv_sub hl [] rfl) hf
      · have hf := ite_f (fun q => q hc) hf
        refine lv_aload_n hx hb dX4_closes_14 rfl (lv_at hl 0 rfl) ?_
        obtain ⟨w_15, h_15, hf⟩ := bind_e hf
        refine t_calli (vs := []) (rest := []) C hV hT (fun sz => mX4_isInside l D d a N w_6.2  _ h_15 sz) (cwV 0 C.2.2.2.2 (lw_V q1535 q1537 qs75 q129 q1538) rfl rfl rfl hdX4_isInside ⟨Nat.le_of_ble_eq_true rfl, Nat.le_of_ble_eq_true rfl⟩) rfl hl.1 rfl (Nat.le_of_ble_eq_true rfl) dX4_closes_15 (fun H locs hT => ?_)
        refine lv_if_eq (tgt := 64) hx hb dX4_closes_18 (by decide) (fun hc => ?_) (fun hc => ?_)
        · have hf := ite_t hc hf
          exact hE w_15.2 _ _ _ hT (lv_sub hl [] rfl) hf
        · have hf := ite_f hc hf
          refine lv_aload_n hx hb dX4_closes_21 rfl (lv_at hl 0 rfl) ?_
          refine lv_iconst (v := 1) hx hb dX4_closes_22 (by decide) ?_
          obtain ⟨w_23, h_23, hf⟩ := bind_e hf
          refine t_callv (vs := [.int (1 : Int32)]) (rest := []) C hV hT (fun sz => mX4_layDown l D d a N w_15.2 (1 : Int32) _ h_23 sz) (cwV 1 C.2.2.2.2 (lw_V q1528 q1530 qs74 q129 q1531) rfl rfl rfl hdX4_layDown ⟨Nat.le_of_ble_eq_true rfl, Nat.le_of_ble_eq_true rfl⟩) rfl hl.1 rfl (Nat.le_of_ble_eq_true rfl) dX4_closes_23 (fun H locs hT => ?_)
          refine lv_aload_n hx hb dX4_closes_26 rfl (lv_at hl 0 rfl) ?_
          refine lv_dup hx hb dX4_closes_27 rfl ?_
          refine t_get C hV hT 16 (by decide) q1263 rfl dX4_closes_28 ?_
          refine lv_iconst (v := 1) hx hb dX4_closes_31 (by decide) ?_
          refine lv_isub hx hb dX4_closes_32 ?_
          refine t_put C hV hT 16 (by decide) q1263 (tset_16 a w_23 _) rfl rfl dX4_closes_33 (fun t_33 H locs et hT => ?_)
          have hf := lett_e et hf
          refine lv_aload_n hx hb dX4_closes_36 rfl (lv_at hl 0 rfl) ?_
          refine lv_dup hx hb dX4_closes_37 rfl ?_
          refine t_get C hV hT 13 (by decide) q1260 rfl dX4_closes_38 ?_
          refine lv_iconst (v := 1) hx hb dX4_closes_41 (by decide) ?_
          refine lv_isub hx hb dX4_closes_42 ?_
          refine t_put C hV hT 13 (by decide) q1260 (tset_13 a t_33 _) rfl rfl dX4_closes_43 (fun t_43 H locs et hT => ?_)
          have hf := lett_e et hf
          refine lv_aload_n hx hb dX4_closes_46 rfl (lv_at hl 0 rfl) ?_
          refine lv_dup hx hb dX4_closes_47 rfl ?_
          refine t_get C hV hT 8 (by decide) q1255 rfl dX4_closes_48 ?_
          refine lv_iconst (v := 1) hx hb dX4_closes_51 (by decide) ?_
          refine lv_iadd hx hb dX4_closes_52 ?_
          refine t_put C hV hT 8 (by decide) q1255 (tset_8 a t_43 _) rfl rfl dX4_closes_53 (fun t_53 H locs et hT => ?_)
          have hf := lett_e et hf
          refine lv_aload_n hx hb dX4_closes_56 rfl (lv_at hl 0 rfl) ?_
          refine lv_iconst (v := 3) hx hb dX4_closes_57 (by decide) ?_
          obtain ⟨w_58, h_58, hf⟩ := bind_e hf
          refine t_callv (vs := [.int (3 : Int32)]) (rest := []) C hV hT (fun sz => mX4_layDown l D d a N t_53 (3 : Int32) _ h_58 sz) (cwV 1 C.2.2.2.2 (lw_V q1528 q1530 qs74 q129 q1531) rfl rfl rfl hdX4_layDown ⟨Nat.le_of_ble_eq_true rfl, Nat.le_of_ble_eq_true rfl⟩) rfl hl.1 rfl (Nat.le_of_ble_eq_true rfl) dX4_closes_58 (fun H locs hT => ?_)
          refine lv_goto (tgt := 5) hx hb dX4_closes_61 (by decide) ?_
          exact ih w_58 _ _ _ hT hl hf
  refine W.eq (by rw [hargs]) (t_in (vs := [.ref (a 42)]) (n := 1) (Nat.le_of_ble_eq_true rfl) (fun ls hl => ?_))
  have hl : lv_has ls 1 [(0, .ref (a 42))] := hl
  unfold fX4_closes at hf
  skip
  refine lv_aload_n hx hb dX4_closes_0 rfl (lv_at hl 0 rfl) ?_
  refine lv_iconst (v := 3) hx hb dX4_closes_1 (by decide) ?_
  obtain ⟨w_2, h_2, hf⟩ := bind_e hf
  refine t_callv (vs := [.int (3 : Int32)]) (rest := []) C hV hT (fun sz => mX4_layDown l D d a N t (3 : Int32) _ h_2 sz) (cwV 1 C.2.2.2.2 (lw_V q1528 q1530 qs74 q129 q1531) rfl rfl rfl hdX4_layDown ⟨Nat.le_of_ble_eq_true rfl, Nat.le_of_ble_eq_true rfl⟩) rfl hl.1 rfl (Nat.le_of_ble_eq_true rfl) dX4_closes_2 (fun H locs hT => ?_)
  refine hL5 _ (fun t H locs ls hT hl hf => ?_) N w_2 _ _ _ hT hl hf
  exact t_vret C hT hf hr hlocks dX4_closes_64
def fX4_tested_J76 (N : Nat) (K : TS → Option (Int32 × TS)) (kb : TS → Int32 → Option (Int32 × TS)) (t : TS) (x1 : Int32) (s0 : Int32) : Option (Int32 × TS) :=
  ((fX4_passWord N t ).bind fun w_78 => ((fX4_strength N s0).bind fun w_83 => ((fX4_layDown N w_78 w_83).bind fun w_86 => (ix (w_86.1 16) 400 (lett (tsA w_86 15 ((w_86.1 16)).toNatClampNeg s0) fun t_98 => (lett (tsI t_98 16 ((t_98.1 16) + (1 : Int32))) fun t_106 => (kb t_106 x1)))))))
def fX4_tested_J54 (N : Nat) (K : TS → Option (Int32 × TS)) (kb : TS → Int32 → Option (Int32 × TS)) (t : TS) (s0 : Int32) : Option (Int32 × TS) :=
  (if s0 = 0 then (kb t s0) else ((fX4_isWord N t (1476 : Int64)).bind fun w_63 => (if w_63.1 = 0 then (fX4_tested_J76 N K kb w_63.2 s0 (13 : Int32)) else (fX4_tested_J76 N K kb w_63.2 s0 (12 : Int32)))))
def fX4_tested_B12 (N : Nat) (K : TS → Option (Int32 × TS)) (kb : TS → Int32 → Option (Int32 × TS)) (t : TS) (x1 : Int32) : Option (Int32 × TS) :=
  (if x1 = 0 then (K t) else ((fX4_fact N t ).bind fun w_17 => (if ¬ w_17.1 = 0 then ((fX4_closes N w_17.2 ).bind fun w_26 => ((fX4_isWord N w_26 (1476 : Int64)).bind fun w_33 => (if ¬ w_33.1 = 0 then (fX4_tested_J54 N K kb w_33.2 (1 : Int32)) else ((fX4_isWord N w_33.2 (498 : Int64)).bind fun w_43 => (if w_43.1 = 0 then (fX4_tested_J54 N K kb w_43.2 (0 : Int32)) else (fX4_tested_J54 N K kb w_43.2 (1 : Int32))))))) else (some ((0 : Int32), w_17.2)))))
def fX4_tested_L12 (N : Nat) (K : TS → Option (Int32 × TS)) : Nat → TS → Int32 → Option (Int32 × TS)
  | 0 => fun _ _ => none
  | n + 1 => fun t x1 => fX4_tested_B12 N K (fX4_tested_L12 N K n) t x1
def fX4_tested (N : Nat) (t : TS) : Option (Int32 × TS) :=
  (lett (tsI t 16 (0 : Int32)) fun t_2 => (lett (tsI t_2 13 (0 : Int32)) fun t_7 => (fX4_tested_L12 N (fun t => ((fX4_isInside N t ).bind fun w_113 => (if w_113.1 = 0 then ((fX4_layDown N w_113.2 (1 : Int32)).bind fun w_136 => (some ((1 : Int32), w_136))) else ((fX4_see N w_113.2 ).bind fun w_120 => ((fX4_fails N w_120.2 (0 : Int32) (w_120.2.1 8)).bind fun w_130 => (ckz w_130.1 (some (w_130.1, w_130.2)))))))) N t_7 (1 : Int32))))
theorem hdX4_tested : yX4_tested.cls = RX4 ∧ yX4_tested.cls ≠ "java/lang/invoke/MethodHandle" ∧ yX4_tested.cls ≠ "java/lang/invoke/VarHandle" ∧ (parseMethodDescriptor yX4_tested.desc).map (fun d => d.parameters.length) = some 0 := by decide +kernel
set_option maxHeartbeats 4000000 in
theorem mX4_tested (l : Launch) (D : va_G) (d : Nat → ClassId) (a : Nat → Nat) (N : Nat) (t : TS) (w : Int32 × TS) (hf : fX4_tested N t = some w) (sz : Nat) : Met l yX4_tested (ws_ yX4_tested cX4_tested 3 (some .boolean)) (rm_ 8 176) (PcT D d a [] t sz) (QiT D d a w.1 w.2 sz) 0 0 (AT a sz) := by
  refine Met.ofW (cc := cX4_tested) (maxL := 3) (ret := (some .boolean)) plX4 rfl ?_
  intro p e s m args below meth c s₁ B hml hv
  obtain ⟨C, hV, hT, hr, hlocks, hargs, rfl⟩ := t_enter B hml rfl hv
  have hx := C.1
  have hb := C.2.1
  show W p l e (rm_ 8 176) s m args below meth c s.heap [] 0 0 (MQ below (QiT D d a w.1 w.2 s.heap.size) args s 0 0 (AT a s.heap.size)) _
  have hL12 : ∀ (K : TS → Option (Int32 × TS)), (∀ (t : TS) (H : Heap) (locs : List Loc) (ls : Array Slot), TH D (AT a s.heap.size) s.heap (wT d a t) H locs → lv_has ls 3 [(0, .ref (a 42))] → K t = some w → W p l e (rm_ 8 176) s m args below meth c H locs 0 0 (MQ below (QiT D d a w.1 w.2 s.heap.size) args s 0 0 (AT a s.heap.size)) (F0 m 112 ls [])) → ∀ (n : Nat) (t : TS) (x1 : Int32) (H : Heap) (locs : List Loc) (ls : Array Slot), TH D (AT a s.heap.size) s.heap (wT d a t) H locs → lv_has ls 3 [(0, .ref (a 42)), (1, .int x1)] → fX4_tested_L12 N K n t x1 = some w → W p l e (rm_ 8 176) s m args below meth c H locs 0 0 (MQ below (QiT D d a w.1 w.2 s.heap.size) args s 0 0 (AT a s.heap.size)) (F0 m 12 ls []) := by
    intro K hE n
    induction n with
    | zero =>
      intro t x1 H locs ls hT hl hf
      cases hf
    | succ n ih =>
      have hJ76 : ∀ (t : TS) (x1 : Int32) (s0 : Int32) (H : Heap) (locs : List Loc) (ls : Array Slot), TH D (AT a s.heap.size) s.heap (wT d a t) H locs → lv_has ls 3 [(0, .ref (a 42)), (1, .int x1)] → fX4_tested_J76 N K (fX4_tested_L12 N K n) t x1 s0 = some w → W p l e (rm_ 8 176) s m args below meth c H locs 0 0 (MQ below (QiT D d a w.1 w.2 s.heap.size) args s 0 0 (AT a s.heap.size)) (F0 m 76 ls [.int s0]) := by
        intro t x1 s0 H locs ls hT hl hf
        unfold fX4_tested_J76 at hf
        refine lv_istore_n (lv' := [(2, .int s0), (0, .ref (a 42)), (1, .int x1)]) hx hb dX4_tested_76 rfl hl (by decide) rfl (fun ls hl => ?_)
        refine lv_aload_n hx hb dX4_tested_77 rfl (lv_at hl 1 rfl) ?_
        obtain ⟨w_78, h_78, hf⟩ := bind_e hf
        refine t_callv (vs := []) (rest := []) C hV hT (fun sz => mX4_passWord l D d a N t  _ h_78 sz) (cwV 0 C.2.2.2.2 (lw_V q1432 q1434 qs54 q129 q1435) rfl rfl rfl hdX4_passWord ⟨Nat.le_of_ble_eq_true rfl, Nat.le_of_ble_eq_true rfl⟩) rfl hl.1 rfl (Nat.le_of_ble_eq_true rfl) dX4_tested_78 (fun H locs hT => ?_)
        refine lv_aload_n hx hb dX4_tested_81 rfl (lv_at hl 1 rfl) ?_
        refine lv_iload_n hx hb dX4_tested_82 rfl (lv_at hl 0 rfl) ?_
        obtain ⟨w_83, h_83, hf⟩ := bind_e hf
        refine s_calli (vs := [.int s0]) (rest := [.ref (a 42)]) C (fun q h => Or.inr h) hT (fun sz => mX4_strength l N s0 _ h_83 sz) (va_cwS 1 C.2.2.2.2 (lw_S q1532 q1533 q129 q1534) rfl rfl rfl hdX4_strength ⟨Nat.le_of_ble_eq_true rfl, Nat.le_of_ble_eq_true rfl⟩) rfl hl.1 rfl (Nat.le_of_ble_eq_true rfl) dX4_tested_83 ⟨Nat.zero_le _, Nat.zero_le _⟩ (fun H locs hT => ?_)
        obtain ⟨w_86, h_86, hf⟩ := bind_e hf
        refine t_callv (vs := [.int w_83]) (rest := []) C hV hT (fun sz => mX4_layDown l D d a N w_78 w_83 _ h_86 sz) (cwV 1 C.2.2.2.2 (lw_V q1528 q1530 qs74 q129 q1531) rfl rfl rfl hdX4_layDown ⟨Nat.le_of_ble_eq_true rfl, Nat.le_of_ble_eq_true rfl⟩) rfl hl.1 rfl (Nat.le_of_ble_eq_true rfl) dX4_tested_86 (fun H locs hT => ?_)
        refine lv_aload_n hx hb dX4_tested_89 rfl (lv_at hl 1 rfl) ?_
        refine t_get C hV hT 15 (by decide) q1262 rfl dX4_tested_90 ?_
        refine lv_aload_n hx hb dX4_tested_93 rfl (lv_at hl 1 rfl) ?_
        refine t_get C hV hT 16 (by decide) q1263 rfl dX4_tested_94 ?_
        refine lv_iload_n hx hb dX4_tested_97 rfl (lv_at hl 0 rfl) ?_
        obtain ⟨hi, hf⟩ := ix_e hf
        refine t_ist C hV hT 7 _ rfl hi rfl (tast_15 d a w_86 _ _) dX4_tested_98 (fun t_98 H locs et hT => ?_)
        have hf := lett_e et hf
        refine lv_aload_n hx hb dX4_tested_99 rfl (lv_at hl 1 rfl) ?_
        refine lv_dup hx hb dX4_tested_100 rfl ?_
        refine t_get C hV hT 16 (by decide) q1263 rfl dX4_tested_101 ?_
        refine lv_iconst (v := 1) hx hb dX4_tested_104 (by decide) ?_
        refine lv_iadd hx hb dX4_tested_105 ?_
        refine t_put C hV hT 16 (by decide) q1263 (tset_16 a t_98 _) rfl rfl dX4_tested_106 (fun t_106 H locs et hT => ?_)
        have hf := lett_e et hf
        refine lv_goto (tgt := 12) hx hb dX4_tested_109 (by decide) ?_
        exact ih t_106 x1 _ _ _ hT (lv_sub hl [1, 2] rfl) hf
      have hJ54 : ∀ (t : TS) (s0 : Int32) (H : Heap) (locs : List Loc) (ls : Array Slot), TH D (AT a s.heap.size) s.heap (wT d a t) H locs → lv_has ls 3 [(0, .ref (a 42))] → fX4_tested_J54 N K (fX4_tested_L12 N K n) t s0 = some w → W p l e (rm_ 8 176) s m args below meth c H locs 0 0 (MQ below (QiT D d a w.1 w.2 s.heap.size) args s 0 0 (AT a s.heap.size)) (F0 m 54 ls [.int s0]) := by
        intro t s0 H locs ls hT hl hf
        unfold fX4_tested_J54 at hf
        refine lv_istore_n (lv' := [(1, .int s0), (0, .ref (a 42))]) hx hb dX4_tested_54 rfl hl (by decide) rfl (fun ls hl => ?_)
        refine lv_iload_n hx hb dX4_tested_55 rfl (lv_at hl 0 rfl) ?_
        refine lv_if_eq (tgt := 12) hx hb dX4_tested_56 (by decide) (fun hc => ?_) (fun hc => ?_)
        · have hf := ite_t hc hf
          exact ih t s0 _ _ _ hT (lv_sub hl [1, 0] rfl) hf
        · have hf := ite_f hc hf
          refine lv_aload_n hx hb dX4_tested_59 rfl (lv_at hl 1 rfl) ?_
          refine g_ldc2 (v := 1476) C q1539 dX4_tested_60 ?_
          obtain ⟨w_63, h_63, hf⟩ := bind_e hf
          refine t_calli (vs := [.long (1476 : Int64)]) (rest := []) C hV hT (fun sz => mX4_isWord l D d a N t (1476 : Int64) _ h_63 sz) (cwV 1 C.2.2.2.2 (lw_V q1408 q1410 qs49 q129 q1411) rfl rfl rfl hdX4_isWord ⟨Nat.le_of_ble_eq_true rfl, Nat.le_of_ble_eq_true rfl⟩) rfl hl.1 rfl (Nat.le_of_ble_eq_true rfl) dX4_tested_63 (fun H locs hT => ?_)
          refine lv_if_eq (tgt := 74) hx hb dX4_tested_66 (by decide) (fun hc => ?_) (fun hc => ?_)
          · have hf := ite_t hc hf
            refine lv_bipush (v := 13) hx hb dX4_tested_74 (by decide) ?_
            exact hJ76 w_63.2 s0 (13 : Int32) _ _ _ hT (lv_sub hl [1, 0] rfl) hf
          · have hf := ite_f hc hf
            refine lv_bipush (v := 12) hx hb dX4_tested_69 (by decide) ?_
            refine lv_goto (tgt := 76) hx hb dX4_tested_71 (by decide) ?_
            exact hJ76 w_63.2 s0 (12 : Int32) _ _ _ hT (lv_sub hl [1, 0] rfl) hf
      intro t x1 H locs ls hT hl hf
      replace hf : fX4_tested_B12 N K (fX4_tested_L12 N K n) t x1 = some w := hf
      unfold fX4_tested_B12 at hf
      refine lv_iload_n hx hb dX4_tested_12 rfl (lv_at hl 1 rfl) ?_
      refine lv_if_eq (tgt := 112) hx hb dX4_tested_13 (by decide) (fun hc => ?_) (fun hc => ?_)
      · have hf := ite_t hc hf
        exact hE t _ _ _ hT (lv_sub hl [0] rfl) hf
      · have hf := ite_f hc hf
        refine lv_aload_n hx hb dX4_tested_16 rfl (lv_at hl 0 rfl) ?_
        obtain ⟨w_17, h_17, hf⟩ := bind_e hf
        refine t_calli (vs := []) (rest := []) C hV hT (fun sz => mX4_fact l D d a N t  _ h_17 sz) (cwV 0 C.2.2.2.2 (lw_V q1511 q1513 qs70 q129 q1514) rfl rfl rfl hdX4_fact ⟨Nat.le_of_ble_eq_true rfl, Nat.le_of_ble_eq_true rfl⟩) rfl hl.1 rfl (Nat.le_of_ble_eq_true rfl) dX4_tested_17 (fun H locs hT => ?_)
        refine lv_if_ne (tgt := 25) hx hb dX4_tested_20 (by decide) (fun hc => ?_) (fun hc => ?_)
        · have hf := ite_t hc hf
          refine lv_aload_n hx hb dX4_tested_25 rfl (lv_at hl 0 rfl) ?_
          obtain ⟨w_26, h_26, hf⟩ := bind_e hf
          refine t_callv (vs := []) (rest := []) C hV hT (fun sz => mX4_closes l D d a N w_17.2  _ h_26 sz) (cwV 0 C.2.2.2.2 (lw_V q1524 q1526 qs73 q129 q1527) rfl rfl rfl hdX4_closes ⟨Nat.le_of_ble_eq_true rfl, Nat.le_of_ble_eq_true rfl⟩) rfl hl.1 rfl (Nat.le_of_ble_eq_true rfl) dX4_tested_26 (fun H locs hT => ?_)
          refine lv_aload_n hx hb dX4_tested_29 rfl (lv_at hl 0 rfl) ?_
          refine g_ldc2 (v := 1476) C q1539 dX4_tested_30 ?_
          obtain ⟨w_33, h_33, hf⟩ := bind_e hf
          refine t_calli (vs := [.long (1476 : Int64)]) (rest := []) C hV hT (fun sz => mX4_isWord l D d a N w_26 (1476 : Int64) _ h_33 sz) (cwV 1 C.2.2.2.2 (lw_V q1408 q1410 qs49 q129 q1411) rfl rfl rfl hdX4_isWord ⟨Nat.le_of_ble_eq_true rfl, Nat.le_of_ble_eq_true rfl⟩) rfl hl.1 rfl (Nat.le_of_ble_eq_true rfl) dX4_tested_33 (fun H locs hT => ?_)
          refine lv_if_ne (tgt := 49) hx hb dX4_tested_36 (by decide) (fun hc => ?_) (fun hc => ?_)
          · have hf := ite_t hc hf
            refine lv_iconst (v := 1) hx hb dX4_tested_49 (by decide) ?_
            refine lv_goto (tgt := 54) hx hb dX4_tested_50 (by decide) ?_
            exact hJ54 w_33.2 (1 : Int32) _ _ _ hT (lv_sub hl [0] rfl) hf
          · have hf := ite_f (fun q => q hc) hf
            refine lv_aload_n hx hb dX4_tested_39 rfl (lv_at hl 0 rfl) ?_
            refine g_ldc2 (v := 498) C q1540 dX4_tested_40 ?_
            obtain ⟨w_43, h_43, hf⟩ := bind_e hf
            refine t_calli (vs := [.long (498 : Int64)]) (rest := []) C hV hT (fun sz => mX4_isWord l D d a N w_33.2 (498 : Int64) _ h_43 sz) (cwV 1 C.2.2.2.2 (lw_V q1408 q1410 qs49 q129 q1411) rfl rfl rfl hdX4_isWord ⟨Nat.le_of_ble_eq_true rfl, Nat.le_of_ble_eq_true rfl⟩) rfl hl.1 rfl (Nat.le_of_ble_eq_true rfl) dX4_tested_43 (fun H locs hT => ?_)
            refine lv_if_eq (tgt := 53) hx hb dX4_tested_46 (by decide) (fun hc => ?_) (fun hc => ?_)
            · have hf := ite_t hc hf
              refine lv_iconst (v := 0) hx hb dX4_tested_53 (by decide) ?_
              exact hJ54 w_43.2 (0 : Int32) _ _ _ hT (lv_sub hl [0] rfl) hf
            · have hf := ite_f hc hf
              refine lv_iconst (v := 1) hx hb dX4_tested_49 (by decide) ?_
              refine lv_goto (tgt := 54) hx hb dX4_tested_50 (by decide) ?_
              exact hJ54 w_43.2 (1 : Int32) _ _ _ hT (lv_sub hl [0] rfl) hf
        · have hf := ite_f (fun q => q hc) hf
          refine lv_iconst (v := 0) hx hb dX4_tested_23 (by decide) ?_
          exact t_zret C hT hf (Or.inl rfl) hr hlocks dX4_tested_24
  refine W.eq (by rw [hargs]) (t_in (vs := [.ref (a 42)]) (n := 3) (Nat.le_of_ble_eq_true rfl) (fun ls hl => ?_))
  have hl : lv_has ls 3 [(0, .ref (a 42))] := hl
  unfold fX4_tested at hf
  skip
  refine lv_aload_n hx hb dX4_tested_0 rfl (lv_at hl 0 rfl) ?_
  refine lv_iconst (v := 0) hx hb dX4_tested_1 (by decide) ?_
  refine t_put C hV hT 16 (by decide) q1263 (tset_16 a t _) rfl rfl dX4_tested_2 (fun t_2 H locs et hT => ?_)
  have hf := lett_e et hf
  refine lv_aload_n hx hb dX4_tested_5 rfl (lv_at hl 0 rfl) ?_
  refine lv_iconst (v := 0) hx hb dX4_tested_6 (by decide) ?_
  refine t_put C hV hT 13 (by decide) q1260 (tset_13 a t_2 _) rfl rfl dX4_tested_7 (fun t_7 H locs et hT => ?_)
  have hf := lett_e et hf
  refine lv_iconst (v := 1) hx hb dX4_tested_10 (by decide) ?_
  refine lv_istore_n (lv' := [(1, .int (1 : Int32)), (0, .ref (a 42))]) hx hb dX4_tested_11 rfl hl (by decide) rfl (fun ls hl => ?_)
  refine hL12 _ (fun t H locs ls hT hl hf => ?_) N t_7 (1 : Int32) _ _ _ hT (lv_sub hl [1, 0] rfl) hf
  refine lv_aload_n hx hb dX4_tested_112 rfl (lv_at hl 0 rfl) ?_
  obtain ⟨w_113, h_113, hf⟩ := bind_e hf
  refine t_calli (vs := []) (rest := []) C hV hT (fun sz => mX4_isInside l D d a N t  _ h_113 sz) (cwV 0 C.2.2.2.2 (lw_V q1535 q1537 qs75 q129 q1538) rfl rfl rfl hdX4_isInside ⟨Nat.le_of_ble_eq_true rfl, Nat.le_of_ble_eq_true rfl⟩) rfl hl.1 rfl (Nat.le_of_ble_eq_true rfl) dX4_tested_113 (fun H locs hT => ?_)
  refine lv_if_eq (tgt := 134) hx hb dX4_tested_116 (by decide) (fun hc => ?_) (fun hc => ?_)
  · have hf := ite_t hc hf
    refine lv_aload_n hx hb dX4_tested_134 rfl (lv_at hl 0 rfl) ?_
    refine lv_iconst (v := 1) hx hb dX4_tested_135 (by decide) ?_
    obtain ⟨w_136, h_136, hf⟩ := bind_e hf
    refine t_callv (vs := [.int (1 : Int32)]) (rest := []) C hV hT (fun sz => mX4_layDown l D d a N w_113.2 (1 : Int32) _ h_136 sz) (cwV 1 C.2.2.2.2 (lw_V q1528 q1530 qs74 q129 q1531) rfl rfl rfl hdX4_layDown ⟨Nat.le_of_ble_eq_true rfl, Nat.le_of_ble_eq_true rfl⟩) rfl hl.1 rfl (Nat.le_of_ble_eq_true rfl) dX4_tested_136 (fun H locs hT => ?_)
    refine lv_iconst (v := 1) hx hb dX4_tested_139 (by decide) ?_
    exact t_zret C hT hf (Or.inr rfl) hr hlocks dX4_tested_140
  · have hf := ite_f hc hf
    refine lv_aload_n hx hb dX4_tested_119 rfl (lv_at hl 0 rfl) ?_
    obtain ⟨w_120, h_120, hf⟩ := bind_e hf
    refine t_calli (vs := []) (rest := []) C hV hT (fun sz => mX4_see l D d a N w_113.2  _ h_120 sz) (cwV 0 C.2.2.2.2 (lw_V q1399 q1401 qs47 q129 q1402) rfl rfl rfl hdX4_see ⟨Nat.le_of_ble_eq_true rfl, Nat.le_of_ble_eq_true rfl⟩) rfl hl.1 rfl (Nat.le_of_ble_eq_true rfl) dX4_tested_120 (fun H locs hT => ?_)
    refine lv_pop hx hb dX4_tested_123 rfl ?_
    refine lv_aload_n hx hb dX4_tested_124 rfl (lv_at hl 0 rfl) ?_
    refine lv_iconst (v := 0) hx hb dX4_tested_125 (by decide) ?_
    refine lv_aload_n hx hb dX4_tested_126 rfl (lv_at hl 0 rfl) ?_
    refine t_get C hV hT 8 (by decide) q1255 rfl dX4_tested_127 ?_
    obtain ⟨w_130, h_130, hf⟩ := bind_e hf
    refine t_calli (vs := [.int (0 : Int32), .int (w_120.2.1 8)]) (rest := []) C hV hT (fun sz => mX4_fails l D d a N w_120.2 (0 : Int32) (w_120.2.1 8) _ h_130 sz) (cwV 2 C.2.2.2.2 (lw_V q1420 q1422 qs51 q129 q1423) rfl rfl rfl hdX4_fails ⟨Nat.le_of_ble_eq_true rfl, Nat.le_of_ble_eq_true rfl⟩) rfl hl.1 rfl (Nat.le_of_ble_eq_true rfl) dX4_tested_130 (fun H locs hT => ?_)
    obtain ⟨hz, hf⟩ := ckz_e hf
    exact t_zret C hT hf hz hr hlocks dX4_tested_133
def fX4_isLetHere_J110 (N : Nat) (t : TS) (x1 : Int32) : Option (Int32 × TS) :=
  (ix (t.1 11) 7 (ix (x1 + (3 : Int32)) 288 (lett (tsA t 5 ((x1 + (3 : Int32))).toNatClampNeg (t.2.1 4 ((t.1 11)).toNatClampNeg)) fun t_126 => (ix (t_126.1 11) 6 (ix (t_126.1 11) 6 (lett (tsA t_126 6 ((t_126.1 11)).toNatClampNeg ((t_126.2.1 6 ((t_126.1 11)).toNatClampNeg) + (1 : Int32))) fun t_139 => (some ((1 : Int32), t_139))))))))
def fX4_isLetHere (N : Nat) (t : TS) : Option (Int32 × TS) :=
  ((fX4_passWord N t ).bind fun w_1 => (ix (w_1.1 11) 6 (lett (((48 : Int32) * (w_1.1 11)) + ((4 : Int32) * (w_1.2.1 6 ((w_1.1 11)).toNatClampNeg))) fun x1_23 => (ix (w_1.1 11) 7 (ix x1_23 288 (lett (tsA w_1 5 (x1_23).toNatClampNeg (w_1.2.1 4 ((w_1.1 11)).toNatClampNeg)) fun t_38 => ((fX4_sum N t_38 ).bind fun w_40 => (if ¬ w_40.1 = 0 then (ix (w_40.2.1 11) 7 (ix (x1_23 + (1 : Int32)) 288 (lett (tsA w_40.2 5 ((x1_23 + (1 : Int32))).toNatClampNeg (w_40.2.2.1 4 ((w_40.2.1 11)).toNatClampNeg)) fun t_64 => (ix (x1_23 + (2 : Int32)) 288 (lett (tsA t_64 5 ((x1_23 + (2 : Int32))).toNatClampNeg (-1 : Int32)) fun t_73 => ((fX4_takesWord N t_73 (294 : Int64)).bind fun w_78 => (if w_78.1 = 0 then (fX4_isLetHere_J110 N w_78.2 x1_23) else (ix (w_78.2.1 11) 7 (ix (x1_23 + (2 : Int32)) 288 (lett (tsA w_78.2 5 ((x1_23 + (2 : Int32))).toNatClampNeg (w_78.2.2.1 4 ((w_78.2.1 11)).toNatClampNeg)) fun t_100 => ((fX4_tested N t_100 ).bind fun w_102 => (if ¬ w_102.1 = 0 then (fX4_isLetHere_J110 N w_102.2 x1_23) else (some ((0 : Int32), w_102.2)))))))))))))) else (some ((0 : Int32), w_40.2))))))))))
theorem hdX4_isLetHere : yX4_isLetHere.cls = RX4 ∧ yX4_isLetHere.cls ≠ "java/lang/invoke/MethodHandle" ∧ yX4_isLetHere.cls ≠ "java/lang/invoke/VarHandle" ∧ (parseMethodDescriptor yX4_isLetHere.desc).map (fun d => d.parameters.length) = some 0 := by decide +kernel
set_option maxHeartbeats 4000000 in
theorem mX4_isLetHere (l : Launch) (D : va_G) (d : Nat → ClassId) (a : Nat → Nat) (N : Nat) (t : TS) (w : Int32 × TS) (hf : fX4_isLetHere N t = some w) (sz : Nat) : Met l yX4_isLetHere (ws_ yX4_isLetHere cX4_isLetHere 2 (some .boolean)) (rm_ 9 198) (PcT D d a [] t sz) (QiT D d a w.1 w.2 sz) 0 0 (AT a sz) := by
  refine Met.ofW (cc := cX4_isLetHere) (maxL := 2) (ret := (some .boolean)) plX4 rfl ?_
  intro p e s m args below meth c s₁ B hml hv
  obtain ⟨C, hV, hT, hr, hlocks, hargs, rfl⟩ := t_enter B hml rfl hv
  have hx := C.1
  have hb := C.2.1
  show W p l e (rm_ 9 198) s m args below meth c s.heap [] 0 0 (MQ below (QiT D d a w.1 w.2 s.heap.size) args s 0 0 (AT a s.heap.size)) _
  have hJ110 : ∀ (t : TS) (x1 : Int32) (H : Heap) (locs : List Loc) (ls : Array Slot), TH D (AT a s.heap.size) s.heap (wT d a t) H locs → lv_has ls 2 [(0, .ref (a 42)), (1, .int x1)] → fX4_isLetHere_J110 N t x1 = some w → W p l e (rm_ 9 198) s m args below meth c H locs 0 0 (MQ below (QiT D d a w.1 w.2 s.heap.size) args s 0 0 (AT a s.heap.size)) (F0 m 110 ls []) := by
    intro t x1 H locs ls hT hl hf
    unfold fX4_isLetHere_J110 at hf
    refine lv_aload_n hx hb dX4_isLetHere_110 rfl (lv_at hl 0 rfl) ?_
    refine t_get C hV hT 5 (by decide) q1252 rfl dX4_isLetHere_111 ?_
    refine lv_iload_n hx hb dX4_isLetHere_114 rfl (lv_at hl 1 rfl) ?_
    refine lv_iconst (v := 3) hx hb dX4_isLetHere_115 (by decide) ?_
    refine lv_iadd hx hb dX4_isLetHere_116 ?_
    refine lv_aload_n hx hb dX4_isLetHere_117 rfl (lv_at hl 0 rfl) ?_
    refine t_get C hV hT 4 (by decide) q1251 rfl dX4_isLetHere_118 ?_
    refine lv_aload_n hx hb dX4_isLetHere_121 rfl (lv_at hl 0 rfl) ?_
    refine t_get C hV hT 11 (by decide) q1258 rfl dX4_isLetHere_122 ?_
    obtain ⟨hi, hf⟩ := ix_e hf
    refine g_ild C hV hT 3 _ rfl hi rfl dX4_isLetHere_125 ?_
    obtain ⟨hi, hf⟩ := ix_e hf
    refine t_ist C hV hT 4 _ rfl hi rfl (tast_5 d a t _ _) dX4_isLetHere_126 (fun t_126 H locs et hT => ?_)
    have hf := lett_e et hf
    refine lv_aload_n hx hb dX4_isLetHere_127 rfl (lv_at hl 0 rfl) ?_
    refine t_get C hV hT 6 (by decide) q1253 rfl dX4_isLetHere_128 ?_
    refine lv_aload_n hx hb dX4_isLetHere_131 rfl (lv_at hl 0 rfl) ?_
    refine t_get C hV hT 11 (by decide) q1258 rfl dX4_isLetHere_132 ?_
    refine lv_dup2_11 hx hb dX4_isLetHere_135 rfl rfl ?_
    obtain ⟨hi, hf⟩ := ix_e hf
    refine g_ild C hV hT 5 _ rfl hi rfl dX4_isLetHere_136 ?_
    refine lv_iconst (v := 1) hx hb dX4_isLetHere_137 (by decide) ?_
    refine lv_iadd hx hb dX4_isLetHere_138 ?_
    obtain ⟨hi, hf⟩ := ix_e hf
    refine t_ist C hV hT 5 _ rfl hi rfl (tast_6 d a t_126 _ _) dX4_isLetHere_139 (fun t_139 H locs et hT => ?_)
    have hf := lett_e et hf
    refine lv_iconst (v := 1) hx hb dX4_isLetHere_140 (by decide) ?_
    exact t_zret C hT hf (Or.inr rfl) hr hlocks dX4_isLetHere_141
  refine W.eq (by rw [hargs]) (t_in (vs := [.ref (a 42)]) (n := 2) (Nat.le_of_ble_eq_true rfl) (fun ls hl => ?_))
  have hl : lv_has ls 2 [(0, .ref (a 42))] := hl
  unfold fX4_isLetHere at hf
  skip
  refine lv_aload_n hx hb dX4_isLetHere_0 rfl (lv_at hl 0 rfl) ?_
  obtain ⟨w_1, h_1, hf⟩ := bind_e hf
  refine t_callv (vs := []) (rest := []) C hV hT (fun sz => mX4_passWord l D d a N t  _ h_1 sz) (cwV 0 C.2.2.2.2 (lw_V q1432 q1434 qs54 q129 q1435) rfl rfl rfl hdX4_passWord ⟨Nat.le_of_ble_eq_true rfl, Nat.le_of_ble_eq_true rfl⟩) rfl hl.1 rfl (Nat.le_of_ble_eq_true rfl) dX4_isLetHere_1 (fun H locs hT => ?_)
  refine lv_bipush (v := 48) hx hb dX4_isLetHere_4 (by decide) ?_
  refine lv_aload_n hx hb dX4_isLetHere_6 rfl (lv_at hl 0 rfl) ?_
  refine t_get C hV hT 11 (by decide) q1258 rfl dX4_isLetHere_7 ?_
  refine lv_imul hx hb dX4_isLetHere_10 ?_
  refine lv_iconst (v := 4) hx hb dX4_isLetHere_11 (by decide) ?_
  refine lv_aload_n hx hb dX4_isLetHere_12 rfl (lv_at hl 0 rfl) ?_
  refine t_get C hV hT 6 (by decide) q1253 rfl dX4_isLetHere_13 ?_
  refine lv_aload_n hx hb dX4_isLetHere_16 rfl (lv_at hl 0 rfl) ?_
  refine t_get C hV hT 11 (by decide) q1258 rfl dX4_isLetHere_17 ?_
  obtain ⟨hi, hf⟩ := ix_e hf
  refine g_ild C hV hT 5 _ rfl hi rfl dX4_isLetHere_20 ?_
  refine lv_imul hx hb dX4_isLetHere_21 ?_
  refine lv_iadd hx hb dX4_isLetHere_22 ?_
  refine lv_topi (fun x1_23 ex => ?_)
  have hf := lett_e ex hf
  refine lv_istore_n (lv' := [(1, .int x1_23), (0, .ref (a 42))]) hx hb dX4_isLetHere_23 rfl hl (by decide) rfl (fun ls hl => ?_)
  refine lv_aload_n hx hb dX4_isLetHere_24 rfl (lv_at hl 1 rfl) ?_
  refine t_get C hV hT 5 (by decide) q1252 rfl dX4_isLetHere_25 ?_
  refine lv_iload_n hx hb dX4_isLetHere_28 rfl (lv_at hl 0 rfl) ?_
  refine lv_aload_n hx hb dX4_isLetHere_29 rfl (lv_at hl 1 rfl) ?_
  refine t_get C hV hT 4 (by decide) q1251 rfl dX4_isLetHere_30 ?_
  refine lv_aload_n hx hb dX4_isLetHere_33 rfl (lv_at hl 1 rfl) ?_
  refine t_get C hV hT 11 (by decide) q1258 rfl dX4_isLetHere_34 ?_
  obtain ⟨hi, hf⟩ := ix_e hf
  refine g_ild C hV hT 3 _ rfl hi rfl dX4_isLetHere_37 ?_
  obtain ⟨hi, hf⟩ := ix_e hf
  refine t_ist C hV hT 4 _ rfl hi rfl (tast_5 d a w_1 _ _) dX4_isLetHere_38 (fun t_38 H locs et hT => ?_)
  have hf := lett_e et hf
  refine lv_aload_n hx hb dX4_isLetHere_39 rfl (lv_at hl 1 rfl) ?_
  obtain ⟨w_40, h_40, hf⟩ := bind_e hf
  refine t_calli (vs := []) (rest := []) C hV hT (fun sz => mX4_sum l D d a N t_38  _ h_40 sz) (cwV 0 C.2.2.2.2 (lw_V q1467 q1469 qs62 q129 q1470) rfl rfl rfl hdX4_sum ⟨Nat.le_of_ble_eq_true rfl, Nat.le_of_ble_eq_true rfl⟩) rfl hl.1 rfl (Nat.le_of_ble_eq_true rfl) dX4_isLetHere_40 (fun H locs hT => ?_)
  refine lv_if_ne (tgt := 48) hx hb dX4_isLetHere_43 (by decide) (fun hc => ?_) (fun hc => ?_)
  · have hf := ite_t hc hf
    refine lv_aload_n hx hb dX4_isLetHere_48 rfl (lv_at hl 1 rfl) ?_
    refine t_get C hV hT 5 (by decide) q1252 rfl dX4_isLetHere_49 ?_
    refine lv_iload_n hx hb dX4_isLetHere_52 rfl (lv_at hl 0 rfl) ?_
    refine lv_iconst (v := 1) hx hb dX4_isLetHere_53 (by decide) ?_
    refine lv_iadd hx hb dX4_isLetHere_54 ?_
    refine lv_aload_n hx hb dX4_isLetHere_55 rfl (lv_at hl 1 rfl) ?_
    refine t_get C hV hT 4 (by decide) q1251 rfl dX4_isLetHere_56 ?_
    refine lv_aload_n hx hb dX4_isLetHere_59 rfl (lv_at hl 1 rfl) ?_
    refine t_get C hV hT 11 (by decide) q1258 rfl dX4_isLetHere_60 ?_
    obtain ⟨hi, hf⟩ := ix_e hf
    refine g_ild C hV hT 3 _ rfl hi rfl dX4_isLetHere_63 ?_
    obtain ⟨hi, hf⟩ := ix_e hf
    refine t_ist C hV hT 4 _ rfl hi rfl (tast_5 d a w_40.2 _ _) dX4_isLetHere_64 (fun t_64 H locs et hT => ?_)
    have hf := lett_e et hf
    refine lv_aload_n hx hb dX4_isLetHere_65 rfl (lv_at hl 1 rfl) ?_
    refine t_get C hV hT 5 (by decide) q1252 rfl dX4_isLetHere_66 ?_
    refine lv_iload_n hx hb dX4_isLetHere_69 rfl (lv_at hl 0 rfl) ?_
    refine lv_iconst (v := 2) hx hb dX4_isLetHere_70 (by decide) ?_
    refine lv_iadd hx hb dX4_isLetHere_71 ?_
    refine lv_iconst (v := -1) hx hb dX4_isLetHere_72 (by decide) ?_
    obtain ⟨hi, hf⟩ := ix_e hf
    refine t_ist C hV hT 4 _ rfl hi rfl (tast_5 d a t_64 _ _) dX4_isLetHere_73 (fun t_73 H locs et hT => ?_)
    have hf := lett_e et hf
    refine lv_aload_n hx hb dX4_isLetHere_74 rfl (lv_at hl 1 rfl) ?_
    refine g_ldc2 (v := 294) C q1502 dX4_isLetHere_75 ?_
    obtain ⟨w_78, h_78, hf⟩ := bind_e hf
    refine t_calli (vs := [.long (294 : Int64)]) (rest := []) C hV hT (fun sz => mX4_takesWord l D d a N t_73 (294 : Int64) _ h_78 sz) (cwV 1 C.2.2.2.2 (lw_V q1503 q1505 qs68 q129 q1506) rfl rfl rfl hdX4_takesWord ⟨Nat.le_of_ble_eq_true rfl, Nat.le_of_ble_eq_true rfl⟩) rfl hl.1 rfl (Nat.le_of_ble_eq_true rfl) dX4_isLetHere_78 (fun H locs hT => ?_)
    refine lv_if_eq (tgt := 110) hx hb dX4_isLetHere_81 (by decide) (fun hc => ?_) (fun hc => ?_)
    · have hf := ite_t hc hf
      exact hJ110 w_78.2 x1_23 _ _ _ hT (lv_sub hl [1, 0] rfl) hf
    · have hf := ite_f hc hf
      refine lv_aload_n hx hb dX4_isLetHere_84 rfl (lv_at hl 1 rfl) ?_
      refine t_get C hV hT 5 (by decide) q1252 rfl dX4_isLetHere_85 ?_
      refine lv_iload_n hx hb dX4_isLetHere_88 rfl (lv_at hl 0 rfl) ?_
      refine lv_iconst (v := 2) hx hb dX4_isLetHere_89 (by decide) ?_
      refine lv_iadd hx hb dX4_isLetHere_90 ?_
      refine lv_aload_n hx hb dX4_isLetHere_91 rfl (lv_at hl 1 rfl) ?_
      refine t_get C hV hT 4 (by decide) q1251 rfl dX4_isLetHere_92 ?_
      refine lv_aload_n hx hb dX4_isLetHere_95 rfl (lv_at hl 1 rfl) ?_
      refine t_get C hV hT 11 (by decide) q1258 rfl dX4_isLetHere_96 ?_
      obtain ⟨hi, hf⟩ := ix_e hf
      refine g_ild C hV hT 3 _ rfl hi rfl dX4_isLetHere_99 ?_
      obtain ⟨hi, hf⟩ := ix_e hf
      refine t_ist C hV hT 4 _ rfl hi rfl (tast_5 d a w_78.2 _ _) dX4_isLetHere_100 (fun t_100 H locs et hT => ?_)
      have hf := lett_e et hf
      refine lv_aload_n hx hb dX4_isLetHere_101 rfl (lv_at hl 1 rfl) ?_
      obtain ⟨w_102, h_102, hf⟩ := bind_e hf
      refine t_calli (vs := []) (rest := []) C hV hT (fun sz => mX4_tested l D d a N t_100  _ h_102 sz) (cwV 0 C.2.2.2.2 (lw_V q1507 q1509 qs69 q129 q1510) rfl rfl rfl hdX4_tested ⟨Nat.le_of_ble_eq_true rfl, Nat.le_of_ble_eq_true rfl⟩) rfl hl.1 rfl (Nat.le_of_ble_eq_true rfl) dX4_isLetHere_102 (fun H locs hT => ?_)
      refine lv_if_ne (tgt := 110) hx hb dX4_isLetHere_105 (by decide) (fun hc => ?_) (fun hc => ?_)
      · have hf := ite_t hc hf
        exact hJ110 w_102.2 x1_23 _ _ _ hT (lv_sub hl [1, 0] rfl) hf
      · have hf := ite_f (fun q => q hc) hf
        refine lv_iconst (v := 0) hx hb dX4_isLetHere_108 (by decide) ?_
        exact t_zret C hT hf (Or.inl rfl) hr hlocks dX4_isLetHere_109
  · have hf := ite_f (fun q => q hc) hf
    refine lv_iconst (v := 0) hx hb dX4_isLetHere_46 (by decide) ?_
    exact t_zret C hT hf (Or.inl rfl) hr hlocks dX4_isLetHere_47
def fX4_clauseHere_J71 (N : Nat) (t : TS) (x1 : Int32) (x2 : Int32) (s0 : Int32) (s1 : Int32) : Option (Int32 × TS) :=
  (if ¬ s1 = s0 then (lett (tsI t 14 ((t.1 14) + (1 : Int32))) fun t_88 => (if x2 = 0 then ((fX4_isLetHere N t_88 ).bind fun w_104 => (ckz w_104.1 (some (w_104.1, w_104.2)))) else ((fX4_junctionLineHere N t_88 x1).bind fun w_97 => (ckz w_97.1 (some (w_97.1, w_97.2)))))) else ((fX4_fails N t (4 : Int32) x1).bind fun w_77 => (ckz w_77.1 (some (w_77.1, w_77.2)))))
def fX4_clauseHere_J56 (N : Nat) (t : TS) (x1 : Int32) (x2 : Int32) : Option (Int32 × TS) :=
  (if x2 = 0 then (fX4_clauseHere_J71 N t x1 x2 (12 : Int32) (t.1 14)) else (fX4_clauseHere_J71 N t x1 x2 (40 : Int32) (t.1 14)))
def fX4_clauseHere_J49 (N : Nat) (t : TS) (x1 : Int32) : Option (Int32 × TS) :=
  ((fX4_fails N t (0 : Int32) x1).bind fun w_52 => (ckz w_52.1 (some (w_52.1, w_52.2))))
def fX4_clauseHere_J24 (N : Nat) (t : TS) (x1 : Int32) (s0 : Int32) : Option (Int32 × TS) :=
  (if s0 = 0 then ((fX4_isWord N t (12468 : Int64)).bind fun w_43 => (if ¬ w_43.1 = 0 then (fX4_clauseHere_J56 N w_43.2 x1 s0) else (fX4_clauseHere_J49 N w_43.2 x1))) else ((fX4_isJunctionWord N t ).bind fun w_30 => (if ¬ w_30.1 = 0 then (fX4_clauseHere_J56 N w_30.2 x1 s0) else (fX4_clauseHere_J49 N w_30.2 x1))))
def fX4_clauseHere (N : Nat) (t : TS) : Option (Int32 × TS) :=
  ((fX4_see N t ).bind fun w_1 => (lett (w_1.2.1 8) fun x1_9 => (if ¬ (w_1.2.1 11) = (6 : Int32) then (fX4_clauseHere_J24 N w_1.2 x1_9 (0 : Int32)) else (fX4_clauseHere_J24 N w_1.2 x1_9 (1 : Int32)))))
theorem hdX4_clauseHere : yX4_clauseHere.cls = RX4 ∧ yX4_clauseHere.cls ≠ "java/lang/invoke/MethodHandle" ∧ yX4_clauseHere.cls ≠ "java/lang/invoke/VarHandle" ∧ (parseMethodDescriptor yX4_clauseHere.desc).map (fun d => d.parameters.length) = some 0 := by decide +kernel
set_option maxHeartbeats 4000000 in
theorem mX4_clauseHere (l : Launch) (D : va_G) (d : Nat → ClassId) (a : Nat → Nat) (N : Nat) (t : TS) (w : Int32 × TS) (hf : fX4_clauseHere N t = some w) (sz : Nat) : Met l yX4_clauseHere (ws_ yX4_clauseHere cX4_clauseHere 3 (some .boolean)) (rm_ 10 219) (PcT D d a [] t sz) (QiT D d a w.1 w.2 sz) 0 0 (AT a sz) := by
  refine Met.ofW (cc := cX4_clauseHere) (maxL := 3) (ret := (some .boolean)) plX4 rfl ?_
  intro p e s m args below meth c s₁ B hml hv
  obtain ⟨C, hV, hT, hr, hlocks, hargs, rfl⟩ := t_enter B hml rfl hv
  have hx := C.1
  have hb := C.2.1
  show W p l e (rm_ 10 219) s m args below meth c s.heap [] 0 0 (MQ below (QiT D d a w.1 w.2 s.heap.size) args s 0 0 (AT a s.heap.size)) _
  have hJ71 : ∀ (t : TS) (x1 : Int32) (x2 : Int32) (s0 : Int32) (s1 : Int32) (H : Heap) (locs : List Loc) (ls : Array Slot), TH D (AT a s.heap.size) s.heap (wT d a t) H locs → lv_has ls 3 [(0, .ref (a 42)), (1, .int x1), (2, .int x2)] → fX4_clauseHere_J71 N t x1 x2 s0 s1 = some w → W p l e (rm_ 10 219) s m args below meth c H locs 0 0 (MQ below (QiT D d a w.1 w.2 s.heap.size) args s 0 0 (AT a s.heap.size)) (F0 m 71 ls [.int s0, .int s1]) := by
    intro t x1 x2 s0 s1 H locs ls hT hl hf
    unfold fX4_clauseHere_J71 at hf
    refine lv_icmp_ne (tgt := 81) hx hb dX4_clauseHere_71 (by decide) (fun hc => ?_) (fun hc => ?_)
    · have hf := ite_t hc hf
      refine lv_aload_n hx hb dX4_clauseHere_81 rfl (lv_at hl 0 rfl) ?_
      refine lv_dup hx hb dX4_clauseHere_82 rfl ?_
      refine t_get C hV hT 14 (by decide) q1261 rfl dX4_clauseHere_83 ?_
      refine lv_iconst (v := 1) hx hb dX4_clauseHere_86 (by decide) ?_
      refine lv_iadd hx hb dX4_clauseHere_87 ?_
      refine t_put C hV hT 14 (by decide) q1261 (tset_14 a t _) rfl rfl dX4_clauseHere_88 (fun t_88 H locs et hT => ?_)
      have hf := lett_e et hf
      refine lv_iload_n hx hb dX4_clauseHere_91 rfl (lv_at hl 2 rfl) ?_
      refine lv_if_eq (tgt := 103) hx hb dX4_clauseHere_92 (by decide) (fun hc => ?_) (fun hc => ?_)
      · have hf := ite_t hc hf
        refine lv_aload_n hx hb dX4_clauseHere_103 rfl (lv_at hl 0 rfl) ?_
        obtain ⟨w_104, h_104, hf⟩ := bind_e hf
        refine t_calli (vs := []) (rest := []) C hV hT (fun sz => mX4_isLetHere l D d a N t_88  _ h_104 sz) (cwV 0 C.2.2.2.2 (lw_V q1463 q1465 qs61 q129 q1466) rfl rfl rfl hdX4_isLetHere ⟨Nat.le_of_ble_eq_true rfl, Nat.le_of_ble_eq_true rfl⟩) rfl hl.1 rfl (Nat.le_of_ble_eq_true rfl) dX4_clauseHere_104 (fun H locs hT => ?_)
        obtain ⟨hz, hf⟩ := ckz_e hf
        exact t_zret C hT hf hz hr hlocks dX4_clauseHere_107
      · have hf := ite_f hc hf
        refine lv_aload_n hx hb dX4_clauseHere_95 rfl (lv_at hl 0 rfl) ?_
        refine lv_iload_n hx hb dX4_clauseHere_96 rfl (lv_at hl 1 rfl) ?_
        obtain ⟨w_97, h_97, hf⟩ := bind_e hf
        refine t_calli (vs := [.int x1]) (rest := []) C hV hT (fun sz => mX4_junctionLineHere l D d a N t_88 x1 _ h_97 sz) (cwV 1 C.2.2.2.2 (lw_V q1424 q1426 qs52 q129 q1427) rfl rfl rfl hdX4_junctionLineHere ⟨Nat.le_of_ble_eq_true rfl, Nat.le_of_ble_eq_true rfl⟩) rfl hl.1 rfl (Nat.le_of_ble_eq_true rfl) dX4_clauseHere_97 (fun H locs hT => ?_)
        refine lv_goto (tgt := 107) hx hb dX4_clauseHere_100 (by decide) ?_
        obtain ⟨hz, hf⟩ := ckz_e hf
        exact t_zret C hT hf hz hr hlocks dX4_clauseHere_107
    · have hf := ite_f (fun q => q hc) hf
      refine lv_aload_n hx hb dX4_clauseHere_74 rfl (lv_at hl 0 rfl) ?_
      refine lv_iconst (v := 4) hx hb dX4_clauseHere_75 (by decide) ?_
      refine lv_iload_n hx hb dX4_clauseHere_76 rfl (lv_at hl 1 rfl) ?_
      obtain ⟨w_77, h_77, hf⟩ := bind_e hf
      refine t_calli (vs := [.int (4 : Int32), .int x1]) (rest := []) C hV hT (fun sz => mX4_fails l D d a N t (4 : Int32) x1 _ h_77 sz) (cwV 2 C.2.2.2.2 (lw_V q1420 q1422 qs51 q129 q1423) rfl rfl rfl hdX4_fails ⟨Nat.le_of_ble_eq_true rfl, Nat.le_of_ble_eq_true rfl⟩) rfl hl.1 rfl (Nat.le_of_ble_eq_true rfl) dX4_clauseHere_77 (fun H locs hT => ?_)
      obtain ⟨hz, hf⟩ := ckz_e hf
      exact t_zret C hT hf hz hr hlocks dX4_clauseHere_80
  have hJ56 : ∀ (t : TS) (x1 : Int32) (x2 : Int32) (H : Heap) (locs : List Loc) (ls : Array Slot), TH D (AT a s.heap.size) s.heap (wT d a t) H locs → lv_has ls 3 [(0, .ref (a 42)), (1, .int x1), (2, .int x2)] → fX4_clauseHere_J56 N t x1 x2 = some w → W p l e (rm_ 10 219) s m args below meth c H locs 0 0 (MQ below (QiT D d a w.1 w.2 s.heap.size) args s 0 0 (AT a s.heap.size)) (F0 m 56 ls []) := by
    intro t x1 x2 H locs ls hT hl hf
    unfold fX4_clauseHere_J56 at hf
    refine lv_aload_n hx hb dX4_clauseHere_56 rfl (lv_at hl 0 rfl) ?_
    refine t_get C hV hT 14 (by decide) q1261 rfl dX4_clauseHere_57 ?_
    refine lv_iload_n hx hb dX4_clauseHere_60 rfl (lv_at hl 2 rfl) ?_
    refine lv_if_eq (tgt := 69) hx hb dX4_clauseHere_61 (by decide) (fun hc => ?_) (fun hc => ?_)
    · have hf := ite_t hc hf
      refine lv_bipush (v := 12) hx hb dX4_clauseHere_69 (by decide) ?_
      exact hJ71 t x1 x2 (12 : Int32) (t.1 14) _ _ _ hT hl hf
    · have hf := ite_f hc hf
      refine lv_bipush (v := 40) hx hb dX4_clauseHere_64 (by decide) ?_
      refine lv_goto (tgt := 71) hx hb dX4_clauseHere_66 (by decide) ?_
      exact hJ71 t x1 x2 (40 : Int32) (t.1 14) _ _ _ hT hl hf
  have hJ49 : ∀ (t : TS) (x1 : Int32) (H : Heap) (locs : List Loc) (ls : Array Slot), TH D (AT a s.heap.size) s.heap (wT d a t) H locs → lv_has ls 3 [(0, .ref (a 42)), (1, .int x1)] → fX4_clauseHere_J49 N t x1 = some w → W p l e (rm_ 10 219) s m args below meth c H locs 0 0 (MQ below (QiT D d a w.1 w.2 s.heap.size) args s 0 0 (AT a s.heap.size)) (F0 m 49 ls []) := by
    intro t x1 H locs ls hT hl hf
    unfold fX4_clauseHere_J49 at hf
    refine lv_aload_n hx hb dX4_clauseHere_49 rfl (lv_at hl 0 rfl) ?_
    refine lv_iconst (v := 0) hx hb dX4_clauseHere_50 (by decide) ?_
    refine lv_iload_n hx hb dX4_clauseHere_51 rfl (lv_at hl 1 rfl) ?_
    obtain ⟨w_52, h_52, hf⟩ := bind_e hf
    refine t_calli (vs := [.int (0 : Int32), .int x1]) (rest := []) C hV hT (fun sz => mX4_fails l D d a N t (0 : Int32) x1 _ h_52 sz) (cwV 2 C.2.2.2.2 (lw_V q1420 q1422 qs51 q129 q1423) rfl rfl rfl hdX4_fails ⟨Nat.le_of_ble_eq_true rfl, Nat.le_of_ble_eq_true rfl⟩) rfl hl.1 rfl (Nat.le_of_ble_eq_true rfl) dX4_clauseHere_52 (fun H locs hT => ?_)
    obtain ⟨hz, hf⟩ := ckz_e hf
    exact t_zret C hT hf hz hr hlocks dX4_clauseHere_55
  have hJ24 : ∀ (t : TS) (x1 : Int32) (s0 : Int32) (H : Heap) (locs : List Loc) (ls : Array Slot), TH D (AT a s.heap.size) s.heap (wT d a t) H locs → lv_has ls 3 [(0, .ref (a 42)), (1, .int x1)] → fX4_clauseHere_J24 N t x1 s0 = some w → W p l e (rm_ 10 219) s m args below meth c H locs 0 0 (MQ below (QiT D d a w.1 w.2 s.heap.size) args s 0 0 (AT a s.heap.size)) (F0 m 24 ls [.int s0]) := by
    intro t x1 s0 H locs ls hT hl hf
    unfold fX4_clauseHere_J24 at hf
    refine lv_istore_n (lv' := [(2, .int s0), (0, .ref (a 42)), (1, .int x1)]) hx hb dX4_clauseHere_24 rfl hl (by decide) rfl (fun ls hl => ?_)
    refine lv_iload_n hx hb dX4_clauseHere_25 rfl (lv_at hl 0 rfl) ?_
    refine lv_if_eq (tgt := 39) hx hb dX4_clauseHere_26 (by decide) (fun hc => ?_) (fun hc => ?_)
    · have hf := ite_t hc hf
      refine lv_aload_n hx hb dX4_clauseHere_39 rfl (lv_at hl 1 rfl) ?_
      refine g_ldc2 (v := 12468) C q1419 dX4_clauseHere_40 ?_
      obtain ⟨w_43, h_43, hf⟩ := bind_e hf
      refine t_calli (vs := [.long (12468 : Int64)]) (rest := []) C hV hT (fun sz => mX4_isWord l D d a N t (12468 : Int64) _ h_43 sz) (cwV 1 C.2.2.2.2 (lw_V q1408 q1410 qs49 q129 q1411) rfl rfl rfl hdX4_isWord ⟨Nat.le_of_ble_eq_true rfl, Nat.le_of_ble_eq_true rfl⟩) rfl hl.1 rfl (Nat.le_of_ble_eq_true rfl) dX4_clauseHere_43 (fun H locs hT => ?_)
      refine lv_if_ne (tgt := 56) hx hb dX4_clauseHere_46 (by decide) (fun hc => ?_) (fun hc => ?_)
      · have hf := ite_t hc hf
        exact hJ56 w_43.2 x1 s0 _ _ _ hT (lv_sub hl [1, 2, 0] rfl) hf
      · have hf := ite_f (fun q => q hc) hf
        exact hJ49 w_43.2 x1 _ _ _ hT (lv_sub hl [1, 2] rfl) hf
    · have hf := ite_f hc hf
      refine lv_aload_n hx hb dX4_clauseHere_29 rfl (lv_at hl 1 rfl) ?_
      obtain ⟨w_30, h_30, hf⟩ := bind_e hf
      refine t_calli (vs := []) (rest := []) C hV hT (fun sz => mX4_isJunctionWord l D d a N t  _ h_30 sz) (cwV 0 C.2.2.2.2 (lw_V q1403 q1405 qs48 q129 q1406) rfl rfl rfl hdX4_isJunctionWord ⟨Nat.le_of_ble_eq_true rfl, Nat.le_of_ble_eq_true rfl⟩) rfl hl.1 rfl (Nat.le_of_ble_eq_true rfl) dX4_clauseHere_30 (fun H locs hT => ?_)
      refine lv_if_ne (tgt := 56) hx hb dX4_clauseHere_33 (by decide) (fun hc => ?_) (fun hc => ?_)
      · have hf := ite_t hc hf
        exact hJ56 w_30.2 x1 s0 _ _ _ hT (lv_sub hl [1, 2, 0] rfl) hf
      · have hf := ite_f (fun q => q hc) hf
        refine lv_goto (tgt := 49) hx hb dX4_clauseHere_36 (by decide) ?_
        exact hJ49 w_30.2 x1 _ _ _ hT (lv_sub hl [1, 2] rfl) hf
  refine W.eq (by rw [hargs]) (t_in (vs := [.ref (a 42)]) (n := 3) (Nat.le_of_ble_eq_true rfl) (fun ls hl => ?_))
  have hl : lv_has ls 3 [(0, .ref (a 42))] := hl
  unfold fX4_clauseHere at hf
  skip
  refine lv_aload_n hx hb dX4_clauseHere_0 rfl (lv_at hl 0 rfl) ?_
  obtain ⟨w_1, h_1, hf⟩ := bind_e hf
  refine t_calli (vs := []) (rest := []) C hV hT (fun sz => mX4_see l D d a N t  _ h_1 sz) (cwV 0 C.2.2.2.2 (lw_V q1399 q1401 qs47 q129 q1402) rfl rfl rfl hdX4_see ⟨Nat.le_of_ble_eq_true rfl, Nat.le_of_ble_eq_true rfl⟩) rfl hl.1 rfl (Nat.le_of_ble_eq_true rfl) dX4_clauseHere_1 (fun H locs hT => ?_)
  refine lv_pop hx hb dX4_clauseHere_4 rfl ?_
  refine lv_aload_n hx hb dX4_clauseHere_5 rfl (lv_at hl 0 rfl) ?_
  refine t_get C hV hT 8 (by decide) q1255 rfl dX4_clauseHere_6 ?_
  refine lv_topi (fun x1_9 ex => ?_)
  have hf := lett_e ex hf
  refine lv_istore_n (lv' := [(1, .int x1_9), (0, .ref (a 42))]) hx hb dX4_clauseHere_9 rfl hl (by decide) rfl (fun ls hl => ?_)
  refine lv_aload_n hx hb dX4_clauseHere_10 rfl (lv_at hl 1 rfl) ?_
  refine t_get C hV hT 11 (by decide) q1258 rfl dX4_clauseHere_11 ?_
  refine lv_bipush (v := 6) hx hb dX4_clauseHere_14 (by decide) ?_
  refine lv_icmp_ne (tgt := 23) hx hb dX4_clauseHere_16 (by decide) (fun hc => ?_) (fun hc => ?_)
  · have hf := ite_t hc hf
    refine lv_iconst (v := 0) hx hb dX4_clauseHere_23 (by decide) ?_
    exact hJ24 w_1.2 x1_9 (0 : Int32) _ _ _ hT (lv_sub hl [1, 0] rfl) hf
  · have hf := ite_f (fun q => q hc) hf
    refine lv_iconst (v := 1) hx hb dX4_clauseHere_19 (by decide) ?_
    refine lv_goto (tgt := 24) hx hb dX4_clauseHere_20 (by decide) ?_
    exact hJ24 w_1.2 x1_9 (1 : Int32) _ _ _ hT (lv_sub hl [1, 0] rfl) hf
def fX4_readsAll_B35 (N : Nat) (K : TS → Int32 → Option (Int32 × TS)) (kb : TS → Int32 → Option (Int32 × TS)) (t : TS) (x1 : Int32) : Option (Int32 × TS) :=
  (if x1 = 0 then (K t x1) else ((fX4_see N t ).bind fun w_40 => (if ¬ w_40.1 = (59 : Int32) then (K w_40.2 x1) else (lett (tsI w_40.2 8 ((w_40.2.1 8) + (1 : Int32))) fun t_55 => ((fX4_clauseHere N t_55 ).bind fun w_59 => (kb w_59.2 w_59.1))))))
def fX4_readsAll_L35 (N : Nat) (K : TS → Int32 → Option (Int32 × TS)) : Nat → TS → Int32 → Option (Int32 × TS)
  | 0 => fun _ _ => none
  | n + 1 => fun t x1 => fX4_readsAll_B35 N K (fX4_readsAll_L35 N K n) t x1
def fX4_readsAll_J88 (N : Nat) (t : TS) : Option (Int32 × TS) :=
  (lett (tsI t 1 (0 : Int32)) fun t_90 => (if ¬ (t_90.1 9) = 0 then (some ((0 : Int32), t_90)) else (some ((1 : Int32), t_90))))
def fX4_readsAll_J66 (N : Nat) (t : TS) (x1 : Int32) : Option (Int32 × TS) :=
  (if x1 = 0 then (fX4_readsAll_J88 N t) else ((fX4_see N t ).bind fun w_71 => (if w_71.1 = (-1 : Int32) then (fX4_readsAll_J88 N w_71.2) else ((fX4_fails N w_71.2 (0 : Int32) (w_71.2.1 8)).bind fun w_84 => (fX4_readsAll_J88 N w_84.2)))))
def fX4_readsAll (N : Nat) (t : TS) : Option (Int32 × TS) :=
  (ix (t.1 11) 7 (lett (tsA t 4 ((t.1 11)).toNatClampNeg (0 : Int32)) fun t_9 => (lett (tsI t_9 14 (0 : Int32)) fun t_12 => (lett (tsI t_12 8 (0 : Int32)) fun t_17 => (lett (tsI t_17 9 (0 : Int32)) fun t_22 => (lett (tsI t_22 12 (0 : Int32)) fun t_27 => ((fX4_clauseHere N t_27 ).bind fun w_31 => (fX4_readsAll_L35 N (fun t x1 => (fX4_readsAll_J66 N t x1)) N w_31.2 w_31.1))))))))
theorem hdX4_readsAll : yX4_readsAll.cls = RX4 ∧ yX4_readsAll.cls ≠ "java/lang/invoke/MethodHandle" ∧ yX4_readsAll.cls ≠ "java/lang/invoke/VarHandle" ∧ (parseMethodDescriptor yX4_readsAll.desc).map (fun d => d.parameters.length) = some 0 := by decide +kernel
set_option maxHeartbeats 4000000 in
theorem mX4_readsAll (l : Launch) (D : va_G) (d : Nat → ClassId) (a : Nat → Nat) (N : Nat) (t : TS) (w : Int32 × TS) (hf : fX4_readsAll N t = some w) (sz : Nat) : Met l yX4_readsAll (ws_ yX4_readsAll cX4_readsAll 2 (some .boolean)) (rm_ 11 241) (PcT D d a [] t sz) (QiT D d a w.1 w.2 sz) 0 0 (AT a sz) := by
  refine Met.ofW (cc := cX4_readsAll) (maxL := 2) (ret := (some .boolean)) plX4 rfl ?_
  intro p e s m args below meth c s₁ B hml hv
  obtain ⟨C, hV, hT, hr, hlocks, hargs, rfl⟩ := t_enter B hml rfl hv
  have hx := C.1
  have hb := C.2.1
  show W p l e (rm_ 11 241) s m args below meth c s.heap [] 0 0 (MQ below (QiT D d a w.1 w.2 s.heap.size) args s 0 0 (AT a s.heap.size)) _
  have hL35 : ∀ (K : TS → Int32 → Option (Int32 × TS)), (∀ (t : TS) (x1 : Int32) (H : Heap) (locs : List Loc) (ls : Array Slot), TH D (AT a s.heap.size) s.heap (wT d a t) H locs → lv_has ls 2 [(0, .ref (a 42)), (1, .int x1)] → K t x1 = some w → W p l e (rm_ 11 241) s m args below meth c H locs 0 0 (MQ below (QiT D d a w.1 w.2 s.heap.size) args s 0 0 (AT a s.heap.size)) (F0 m 66 ls [])) → ∀ (n : Nat) (t : TS) (x1 : Int32) (H : Heap) (locs : List Loc) (ls : Array Slot), TH D (AT a s.heap.size) s.heap (wT d a t) H locs → lv_has ls 2 [(0, .ref (a 42)), (1, .int x1)] → fX4_readsAll_L35 N K n t x1 = some w → W p l e (rm_ 11 241) s m args below meth c H locs 0 0 (MQ below (QiT D d a w.1 w.2 s.heap.size) args s 0 0 (AT a s.heap.size)) (F0 m 35 ls []) := by
    intro K hE n
    induction n with
    | zero =>
      intro t x1 H locs ls hT hl hf
      cases hf
    | succ n ih =>
      intro t x1 H locs ls hT hl hf
      replace hf : fX4_readsAll_B35 N K (fX4_readsAll_L35 N K n) t x1 = some w := hf
      unfold fX4_readsAll_B35 at hf
      refine lv_iload_n hx hb dX4_readsAll_35 rfl (lv_at hl 1 rfl) ?_
      refine lv_if_eq (tgt := 66) hx hb dX4_readsAll_36 (by decide) (fun hc => ?_) (fun hc => ?_)
      · have hf := ite_t hc hf
        exact hE t x1 _ _ _ hT hl hf
      · have hf := ite_f hc hf
        refine lv_aload_n hx hb dX4_readsAll_39 rfl (lv_at hl 0 rfl) ?_
        obtain ⟨w_40, h_40, hf⟩ := bind_e hf
        refine t_calli (vs := []) (rest := []) C hV hT (fun sz => mX4_see l D d a N t  _ h_40 sz) (cwV 0 C.2.2.2.2 (lw_V q1399 q1401 qs47 q129 q1402) rfl rfl rfl hdX4_see ⟨Nat.le_of_ble_eq_true rfl, Nat.le_of_ble_eq_true rfl⟩) rfl hl.1 rfl (Nat.le_of_ble_eq_true rfl) dX4_readsAll_40 (fun H locs hT => ?_)
        refine lv_bipush (v := 59) hx hb dX4_readsAll_43 (by decide) ?_
        refine lv_icmp_ne (tgt := 66) hx hb dX4_readsAll_45 (by decide) (fun hc => ?_) (fun hc => ?_)
        · have hf := ite_t hc hf
          exact hE w_40.2 x1 _ _ _ hT hl hf
        · have hf := ite_f (fun q => q hc) hf
          refine lv_aload_n hx hb dX4_readsAll_48 rfl (lv_at hl 0 rfl) ?_
          refine lv_dup hx hb dX4_readsAll_49 rfl ?_
          refine t_get C hV hT 8 (by decide) q1255 rfl dX4_readsAll_50 ?_
          refine lv_iconst (v := 1) hx hb dX4_readsAll_53 (by decide) ?_
          refine lv_iadd hx hb dX4_readsAll_54 ?_
          refine t_put C hV hT 8 (by decide) q1255 (tset_8 a w_40.2 _) rfl rfl dX4_readsAll_55 (fun t_55 H locs et hT => ?_)
          have hf := lett_e et hf
          refine lv_aload_n hx hb dX4_readsAll_58 rfl (lv_at hl 0 rfl) ?_
          obtain ⟨w_59, h_59, hf⟩ := bind_e hf
          refine t_calli (vs := []) (rest := []) C hV hT (fun sz => mX4_clauseHere l D d a N t_55  _ h_59 sz) (cwV 0 C.2.2.2.2 (lw_V q1395 q1397 qs46 q129 q1398) rfl rfl rfl hdX4_clauseHere ⟨Nat.le_of_ble_eq_true rfl, Nat.le_of_ble_eq_true rfl⟩) rfl hl.1 rfl (Nat.le_of_ble_eq_true rfl) dX4_readsAll_59 (fun H locs hT => ?_)
          refine lv_istore_n (lv' := [(1, .int w_59.1), (0, .ref (a 42))]) hx hb dX4_readsAll_62 rfl hl (by decide) rfl (fun ls hl => ?_)
          refine lv_goto (tgt := 35) hx hb dX4_readsAll_63 (by decide) ?_
          exact ih w_59.2 w_59.1 _ _ _ hT (lv_sub hl [1, 0] rfl) hf
  have hJ88 : ∀ (t : TS) (H : Heap) (locs : List Loc) (ls : Array Slot), TH D (AT a s.heap.size) s.heap (wT d a t) H locs → lv_has ls 2 [(0, .ref (a 42))] → fX4_readsAll_J88 N t = some w → W p l e (rm_ 11 241) s m args below meth c H locs 0 0 (MQ below (QiT D d a w.1 w.2 s.heap.size) args s 0 0 (AT a s.heap.size)) (F0 m 88 ls []) := by
    intro t H locs ls hT hl hf
    unfold fX4_readsAll_J88 at hf
    refine lv_aload_n hx hb dX4_readsAll_88 rfl (lv_at hl 0 rfl) ?_
    refine lv_iconst (v := 0) hx hb dX4_readsAll_89 (by decide) ?_
    refine t_put C hV hT 1 (by decide) q1248 (tset_1 a t _) rfl rfl dX4_readsAll_90 (fun t_90 H locs et hT => ?_)
    have hf := lett_e et hf
    refine lv_aload_n hx hb dX4_readsAll_93 rfl (lv_at hl 0 rfl) ?_
    refine t_get C hV hT 9 (by decide) q1256 rfl dX4_readsAll_94 ?_
    refine lv_if_ne (tgt := 104) hx hb dX4_readsAll_97 (by decide) (fun hc => ?_) (fun hc => ?_)
    · have hf := ite_t hc hf
      refine lv_iconst (v := 0) hx hb dX4_readsAll_104 (by decide) ?_
      exact t_zret C hT hf (Or.inl rfl) hr hlocks dX4_readsAll_105
    · have hf := ite_f (fun q => q hc) hf
      refine lv_iconst (v := 1) hx hb dX4_readsAll_100 (by decide) ?_
      refine lv_goto (tgt := 105) hx hb dX4_readsAll_101 (by decide) ?_
      exact t_zret C hT hf (Or.inr rfl) hr hlocks dX4_readsAll_105
  have hJ66 : ∀ (t : TS) (x1 : Int32) (H : Heap) (locs : List Loc) (ls : Array Slot), TH D (AT a s.heap.size) s.heap (wT d a t) H locs → lv_has ls 2 [(0, .ref (a 42)), (1, .int x1)] → fX4_readsAll_J66 N t x1 = some w → W p l e (rm_ 11 241) s m args below meth c H locs 0 0 (MQ below (QiT D d a w.1 w.2 s.heap.size) args s 0 0 (AT a s.heap.size)) (F0 m 66 ls []) := by
    intro t x1 H locs ls hT hl hf
    unfold fX4_readsAll_J66 at hf
    refine lv_iload_n hx hb dX4_readsAll_66 rfl (lv_at hl 1 rfl) ?_
    refine lv_if_eq (tgt := 88) hx hb dX4_readsAll_67 (by decide) (fun hc => ?_) (fun hc => ?_)
    · have hf := ite_t hc hf
      exact hJ88 t _ _ _ hT (lv_sub hl [0] rfl) hf
    · have hf := ite_f hc hf
      refine lv_aload_n hx hb dX4_readsAll_70 rfl (lv_at hl 0 rfl) ?_
      obtain ⟨w_71, h_71, hf⟩ := bind_e hf
      refine t_calli (vs := []) (rest := []) C hV hT (fun sz => mX4_see l D d a N t  _ h_71 sz) (cwV 0 C.2.2.2.2 (lw_V q1399 q1401 qs47 q129 q1402) rfl rfl rfl hdX4_see ⟨Nat.le_of_ble_eq_true rfl, Nat.le_of_ble_eq_true rfl⟩) rfl hl.1 rfl (Nat.le_of_ble_eq_true rfl) dX4_readsAll_71 (fun H locs hT => ?_)
      refine lv_iconst (v := -1) hx hb dX4_readsAll_74 (by decide) ?_
      refine lv_icmp_eq (tgt := 88) hx hb dX4_readsAll_75 (by decide) (fun hc => ?_) (fun hc => ?_)
      · have hf := ite_t hc hf
        exact hJ88 w_71.2 _ _ _ hT (lv_sub hl [0] rfl) hf
      · have hf := ite_f hc hf
        refine lv_aload_n hx hb dX4_readsAll_78 rfl (lv_at hl 0 rfl) ?_
        refine lv_iconst (v := 0) hx hb dX4_readsAll_79 (by decide) ?_
        refine lv_aload_n hx hb dX4_readsAll_80 rfl (lv_at hl 0 rfl) ?_
        refine t_get C hV hT 8 (by decide) q1255 rfl dX4_readsAll_81 ?_
        obtain ⟨w_84, h_84, hf⟩ := bind_e hf
        refine t_calli (vs := [.int (0 : Int32), .int (w_71.2.1 8)]) (rest := []) C hV hT (fun sz => mX4_fails l D d a N w_71.2 (0 : Int32) (w_71.2.1 8) _ h_84 sz) (cwV 2 C.2.2.2.2 (lw_V q1420 q1422 qs51 q129 q1423) rfl rfl rfl hdX4_fails ⟨Nat.le_of_ble_eq_true rfl, Nat.le_of_ble_eq_true rfl⟩) rfl hl.1 rfl (Nat.le_of_ble_eq_true rfl) dX4_readsAll_84 (fun H locs hT => ?_)
        refine lv_pop hx hb dX4_readsAll_87 rfl ?_
        exact hJ88 w_84.2 _ _ _ hT (lv_sub hl [0] rfl) hf
  refine W.eq (by rw [hargs]) (t_in (vs := [.ref (a 42)]) (n := 2) (Nat.le_of_ble_eq_true rfl) (fun ls hl => ?_))
  have hl : lv_has ls 2 [(0, .ref (a 42))] := hl
  unfold fX4_readsAll at hf
  skip
  refine lv_aload_n hx hb dX4_readsAll_0 rfl (lv_at hl 0 rfl) ?_
  refine t_get C hV hT 4 (by decide) q1251 rfl dX4_readsAll_1 ?_
  refine lv_aload_n hx hb dX4_readsAll_4 rfl (lv_at hl 0 rfl) ?_
  refine t_get C hV hT 11 (by decide) q1258 rfl dX4_readsAll_5 ?_
  refine lv_iconst (v := 0) hx hb dX4_readsAll_8 (by decide) ?_
  obtain ⟨hi, hf⟩ := ix_e hf
  refine t_ist C hV hT 3 _ rfl hi rfl (tast_4 d a t _ _) dX4_readsAll_9 (fun t_9 H locs et hT => ?_)
  have hf := lett_e et hf
  refine lv_aload_n hx hb dX4_readsAll_10 rfl (lv_at hl 0 rfl) ?_
  refine lv_iconst (v := 0) hx hb dX4_readsAll_11 (by decide) ?_
  refine t_put C hV hT 14 (by decide) q1261 (tset_14 a t_9 _) rfl rfl dX4_readsAll_12 (fun t_12 H locs et hT => ?_)
  have hf := lett_e et hf
  refine lv_aload_n hx hb dX4_readsAll_15 rfl (lv_at hl 0 rfl) ?_
  refine lv_iconst (v := 0) hx hb dX4_readsAll_16 (by decide) ?_
  refine t_put C hV hT 8 (by decide) q1255 (tset_8 a t_12 _) rfl rfl dX4_readsAll_17 (fun t_17 H locs et hT => ?_)
  have hf := lett_e et hf
  refine lv_aload_n hx hb dX4_readsAll_20 rfl (lv_at hl 0 rfl) ?_
  refine lv_iconst (v := 0) hx hb dX4_readsAll_21 (by decide) ?_
  refine t_put C hV hT 9 (by decide) q1256 (tset_9 a t_17 _) rfl rfl dX4_readsAll_22 (fun t_22 H locs et hT => ?_)
  have hf := lett_e et hf
  refine lv_aload_n hx hb dX4_readsAll_25 rfl (lv_at hl 0 rfl) ?_
  refine lv_iconst (v := 0) hx hb dX4_readsAll_26 (by decide) ?_
  refine t_put C hV hT 12 (by decide) q1259 (tset_12 a t_22 _) rfl rfl dX4_readsAll_27 (fun t_27 H locs et hT => ?_)
  have hf := lett_e et hf
  refine lv_aload_n hx hb dX4_readsAll_30 rfl (lv_at hl 0 rfl) ?_
  obtain ⟨w_31, h_31, hf⟩ := bind_e hf
  refine t_calli (vs := []) (rest := []) C hV hT (fun sz => mX4_clauseHere l D d a N t_27  _ h_31 sz) (cwV 0 C.2.2.2.2 (lw_V q1395 q1397 qs46 q129 q1398) rfl rfl rfl hdX4_clauseHere ⟨Nat.le_of_ble_eq_true rfl, Nat.le_of_ble_eq_true rfl⟩) rfl hl.1 rfl (Nat.le_of_ble_eq_true rfl) dX4_readsAll_31 (fun H locs hT => ?_)
  refine lv_istore_n (lv' := [(1, .int w_31.1), (0, .ref (a 42))]) hx hb dX4_readsAll_34 rfl hl (by decide) rfl (fun ls hl => ?_)
  refine hL35 _ (fun t x1 H locs ls hT hl hf => ?_) N w_31.2 w_31.1 _ _ _ hT (lv_sub hl [1, 0] rfl) hf
  exact hJ66 t x1 _ _ _ hT hl hf
def fX4_rule (N : Nat) (t : TS) : Option (Int32 × TS) :=
  (if ¬ (t.1 2) = (6 : Int32) then (lett (tsI t 11 (t.1 2)) fun t_16 => (ix (t_16.1 11) 6 (lett (tsA t_16 6 ((t_16.1 11)).toNatClampNeg (0 : Int32)) fun t_28 => ((fX4_readsAll N t_28 ).bind fun w_30 => (if ¬ w_30.1 = 0 then (lett (tsI w_30.2 2 ((w_30.2.1 2) + (1 : Int32))) fun t_51 => (some (((t_51.1 2) - (1 : Int32)), t_51))) else (some (((-2 : Int32) - (w_30.2.1 9)), w_30.2))))))) else (some ((-1 : Int32), t)))
theorem hdX4_rule : yX4_rule.cls = RX4 ∧ yX4_rule.cls ≠ "java/lang/invoke/MethodHandle" ∧ yX4_rule.cls ≠ "java/lang/invoke/VarHandle" ∧ (parseMethodDescriptor yX4_rule.desc).map (fun d => d.parameters.length) = some 0 := by decide +kernel
set_option maxHeartbeats 4000000 in
theorem mX4_rule (l : Launch) (D : va_G) (d : Nat → ClassId) (a : Nat → Nat) (N : Nat) (t : TS) (w : Int32 × TS) (hf : fX4_rule N t = some w) (sz : Nat) : Met l yX4_rule (ws_ yX4_rule cX4_rule 1 (some .int)) (rm_ 12 262) (PcT D d a [] t sz) (QiT D d a w.1 w.2 sz) 0 0 (AT a sz) := by
  refine Met.ofW (cc := cX4_rule) (maxL := 1) (ret := (some .int)) plX4 rfl ?_
  intro p e s m args below meth c s₁ B hml hv
  obtain ⟨C, hV, hT, hr, hlocks, hargs, rfl⟩ := t_enter B hml rfl hv
  have hx := C.1
  have hb := C.2.1
  show W p l e (rm_ 12 262) s m args below meth c s.heap [] 0 0 (MQ below (QiT D d a w.1 w.2 s.heap.size) args s 0 0 (AT a s.heap.size)) _
  refine W.eq (by rw [hargs]) (t_in (vs := [.ref (a 42)]) (n := 1) (Nat.le_of_ble_eq_true rfl) (fun ls hl => ?_))
  have hl : lv_has ls 1 [(0, .ref (a 42))] := hl
  unfold fX4_rule at hf
  skip
  refine lv_aload_n hx hb dX4_rule_0 rfl (lv_at hl 0 rfl) ?_
  refine t_get C hV hT 2 (by decide) q1249 rfl dX4_rule_1 ?_
  refine lv_bipush (v := 6) hx hb dX4_rule_4 (by decide) ?_
  refine lv_icmp_ne (tgt := 11) hx hb dX4_rule_6 (by decide) (fun hc => ?_) (fun hc => ?_)
  · have hf := ite_t hc hf
    refine lv_aload_n hx hb dX4_rule_11 rfl (lv_at hl 0 rfl) ?_
    refine lv_aload_n hx hb dX4_rule_12 rfl (lv_at hl 0 rfl) ?_
    refine t_get C hV hT 2 (by decide) q1249 rfl dX4_rule_13 ?_
    refine t_put C hV hT 11 (by decide) q1258 (tset_11 a t _) rfl rfl dX4_rule_16 (fun t_16 H locs et hT => ?_)
    have hf := lett_e et hf
    refine lv_aload_n hx hb dX4_rule_19 rfl (lv_at hl 0 rfl) ?_
    refine t_get C hV hT 6 (by decide) q1253 rfl dX4_rule_20 ?_
    refine lv_aload_n hx hb dX4_rule_23 rfl (lv_at hl 0 rfl) ?_
    refine t_get C hV hT 11 (by decide) q1258 rfl dX4_rule_24 ?_
    refine lv_iconst (v := 0) hx hb dX4_rule_27 (by decide) ?_
    obtain ⟨hi, hf⟩ := ix_e hf
    refine t_ist C hV hT 5 _ rfl hi rfl (tast_6 d a t_16 _ _) dX4_rule_28 (fun t_28 H locs et hT => ?_)
    have hf := lett_e et hf
    refine lv_aload_n hx hb dX4_rule_29 rfl (lv_at hl 0 rfl) ?_
    obtain ⟨w_30, h_30, hf⟩ := bind_e hf
    refine t_calli (vs := []) (rest := []) C hV hT (fun sz => mX4_readsAll l D d a N t_28  _ h_30 sz) (cwV 0 C.2.2.2.2 (lw_V q1391 q1393 qs45 q129 q1394) rfl rfl rfl hdX4_readsAll ⟨Nat.le_of_ble_eq_true rfl, Nat.le_of_ble_eq_true rfl⟩) rfl hl.1 rfl (Nat.le_of_ble_eq_true rfl) dX4_rule_30 (fun H locs hT => ?_)
    refine lv_if_ne (tgt := 44) hx hb dX4_rule_33 (by decide) (fun hc => ?_) (fun hc => ?_)
    · have hf := ite_t hc hf
      refine lv_aload_n hx hb dX4_rule_44 rfl (lv_at hl 0 rfl) ?_
      refine lv_dup hx hb dX4_rule_45 rfl ?_
      refine t_get C hV hT 2 (by decide) q1249 rfl dX4_rule_46 ?_
      refine lv_iconst (v := 1) hx hb dX4_rule_49 (by decide) ?_
      refine lv_iadd hx hb dX4_rule_50 ?_
      refine t_put C hV hT 2 (by decide) q1249 (tset_2 a w_30.2 _) rfl rfl dX4_rule_51 (fun t_51 H locs et hT => ?_)
      have hf := lett_e et hf
      refine lv_aload_n hx hb dX4_rule_54 rfl (lv_at hl 0 rfl) ?_
      refine t_get C hV hT 2 (by decide) q1249 rfl dX4_rule_55 ?_
      refine lv_iconst (v := 1) hx hb dX4_rule_58 (by decide) ?_
      refine lv_isub hx hb dX4_rule_59 ?_
      exact t_iret C hT hf hr hlocks dX4_rule_60
    · have hf := ite_f (fun q => q hc) hf
      refine lv_bipush (v := -2) hx hb dX4_rule_36 (by decide) ?_
      refine lv_aload_n hx hb dX4_rule_38 rfl (lv_at hl 0 rfl) ?_
      refine t_get C hV hT 9 (by decide) q1256 rfl dX4_rule_39 ?_
      refine lv_isub hx hb dX4_rule_42 ?_
      exact t_iret C hT hf hr hlocks dX4_rule_43
  · have hf := ite_f (fun q => q hc) hf
    refine lv_iconst (v := -1) hx hb dX4_rule_9 (by decide) ?_
    exact t_iret C hT hf hr hlocks dX4_rule_10
def fX4_begins_B18 (N : Nat) (K : TS → Option (TS)) (kb : TS → Int32 → Option (TS)) (t : TS) (x1 : Int32) : Option (TS) :=
  (if (6 : Int32) ≤ x1 then (K t) else (lett ((11 : Int32) + ((5 : Int32) * x1)) fun x2_30 => (ix ((60 : Int32) + x1) 121 (ix x2_30 121 (lett (tsA t 20 (x2_30).toNatClampNeg (t.2.1 20 (((60 : Int32) + x1)).toNatClampNeg)) fun t_45 => (ix ((66 : Int32) + x1) 121 (ix (x2_30 + (1 : Int32)) 121 (lett (tsA t_45 20 ((x2_30 + (1 : Int32))).toNatClampNeg (t_45.2.1 20 (((66 : Int32) + x1)).toNatClampNeg)) fun t_62 => (ix (x2_30 + (2 : Int32)) 121 (lett (tsA t_62 20 ((x2_30 + (2 : Int32))).toNatClampNeg (0 : Int32)) fun t_71 => (ix (x2_30 + (3 : Int32)) 121 (lett (tsA t_71 20 ((x2_30 + (3 : Int32))).toNatClampNeg (0 : Int32)) fun t_80 => (ix (x2_30 + (4 : Int32)) 121 (lett (tsA t_80 20 ((x2_30 + (4 : Int32))).toNatClampNeg (-1 : Int32)) fun t_89 => (lett (x1 + (1 : Int32)) fun x1_90 => (kb t_89 x1_90))))))))))))))))
def fX4_begins_L18 (N : Nat) (K : TS → Option (TS)) : Nat → TS → Int32 → Option (TS)
  | 0 => fun _ _ => none
  | n + 1 => fun t x1 => fX4_begins_B18 N K (fX4_begins_L18 N K n) t x1
def fX4_begins_B98 (N : Nat) (K : TS → Option (TS)) (kb : TS → Int32 → Option (TS)) (t : TS) (x1 : Int32) : Option (TS) :=
  (if (12 : Int32) ≤ x1 then (K t) else (ix ((78 : Int32) + x1) 121 (ix ((41 : Int32) + x1) 121 (lett (tsA t 20 (((41 : Int32) + x1)).toNatClampNeg (t.2.1 20 (((78 : Int32) + x1)).toNatClampNeg)) fun t_121 => (lett (x1 + (1 : Int32)) fun x1_122 => (kb t_121 x1_122))))))
def fX4_begins_L98 (N : Nat) (K : TS → Option (TS)) : Nat → TS → Int32 → Option (TS)
  | 0 => fun _ _ => none
  | n + 1 => fun t x1 => fX4_begins_B98 N K (fX4_begins_L98 N K n) t x1
def fX4_begins (N : Nat) (t : TS) : Option (TS) :=
  (lett (tsA t 20 10 (0 : Int32)) fun t_7 => (lett (tsA t_7 20 53 (0 : Int32)) fun t_15 => (fX4_begins_L18 N (fun t => (fX4_begins_L98 N (fun t => (some t)) N t (0 : Int32))) N t_15 (0 : Int32))))
theorem hdX4_begins : yX4_begins.cls = RX4 ∧ yX4_begins.cls ≠ "java/lang/invoke/MethodHandle" ∧ yX4_begins.cls ≠ "java/lang/invoke/VarHandle" ∧ (parseMethodDescriptor yX4_begins.desc).map (fun d => d.parameters.length) = some 0 := by decide +kernel
set_option maxHeartbeats 4000000 in
theorem mX4_begins (l : Launch) (D : va_G) (d : Nat → ClassId) (a : Nat → Nat) (N : Nat) (t : TS) (w : TS) (hf : fX4_begins N t = some w) (sz : Nat) : Met l yX4_begins (ws_ yX4_begins cX4_begins 3 none) (rm_ 0 0) (PcT D d a [] t sz) (QvT D d a w sz) 0 0 (AT a sz) := by
  refine Met.ofW (cc := cX4_begins) (maxL := 3) (ret := none) plX4 rfl ?_
  intro p e s m args below meth c s₁ B hml hv
  obtain ⟨C, hV, hT, hr, hlocks, hargs, rfl⟩ := t_enter B hml rfl hv
  have hx := C.1
  have hb := C.2.1
  show W p l e (rm_ 0 0) s m args below meth c s.heap [] 0 0 (MQ below (QvT D d a w s.heap.size) args s 0 0 (AT a s.heap.size)) _
  have hL18 : ∀ (K : TS → Option (TS)), (∀ (t : TS) (H : Heap) (locs : List Loc) (ls : Array Slot), TH D (AT a s.heap.size) s.heap (wT d a t) H locs → lv_has ls 3 [(0, .ref (a 42))] → K t = some w → W p l e (rm_ 0 0) s m args below meth c H locs 0 0 (MQ below (QvT D d a w s.heap.size) args s 0 0 (AT a s.heap.size)) (F0 m 96 ls [])) → ∀ (n : Nat) (t : TS) (x1 : Int32) (H : Heap) (locs : List Loc) (ls : Array Slot), TH D (AT a s.heap.size) s.heap (wT d a t) H locs → lv_has ls 3 [(0, .ref (a 42)), (1, .int x1)] → fX4_begins_L18 N K n t x1 = some w → W p l e (rm_ 0 0) s m args below meth c H locs 0 0 (MQ below (QvT D d a w s.heap.size) args s 0 0 (AT a s.heap.size)) (F0 m 18 ls []) := by
    intro K hE n
    induction n with
    | zero =>
      intro t x1 H locs ls hT hl hf
      cases hf
    | succ n ih =>
      intro t x1 H locs ls hT hl hf
      replace hf : fX4_begins_B18 N K (fX4_begins_L18 N K n) t x1 = some w := hf
      unfold fX4_begins_B18 at hf
      refine lv_iload_n hx hb dX4_begins_18 rfl (lv_at hl 1 rfl) ?_
      refine lv_bipush (v := 6) hx hb dX4_begins_19 (by decide) ?_
      refine lv_icmp_ge (tgt := 96) hx hb dX4_begins_21 (by decide) (fun hc => ?_) (fun hc => ?_)
      · have hf := ite_t hc hf
        exact hE t _ _ _ hT (lv_sub hl [0] rfl) hf
      · have hf := ite_f hc hf
        refine lv_bipush (v := 11) hx hb dX4_begins_24 (by decide) ?_
        refine lv_iconst (v := 5) hx hb dX4_begins_26 (by decide) ?_
        refine lv_iload_n hx hb dX4_begins_27 rfl (lv_at hl 1 rfl) ?_
        refine lv_imul hx hb dX4_begins_28 ?_
        refine lv_iadd hx hb dX4_begins_29 ?_
        refine lv_topi (fun x2_30 ex => ?_)
        have hf := lett_e ex hf
        refine lv_istore_n (lv' := [(2, .int x2_30), (0, .ref (a 42)), (1, .int x1)]) hx hb dX4_begins_30 rfl hl (by decide) rfl (fun ls hl => ?_)
        refine lv_aload_n hx hb dX4_begins_31 rfl (lv_at hl 1 rfl) ?_
        refine t_get C hV hT 20 (by decide) q1267 rfl dX4_begins_32 ?_
        refine lv_iload_n hx hb dX4_begins_35 rfl (lv_at hl 0 rfl) ?_
        refine lv_aload_n hx hb dX4_begins_36 rfl (lv_at hl 1 rfl) ?_
        refine t_get C hV hT 20 (by decide) q1267 rfl dX4_begins_37 ?_
        refine lv_bipush (v := 60) hx hb dX4_begins_40 (by decide) ?_
        refine lv_iload_n hx hb dX4_begins_42 rfl (lv_at hl 2 rfl) ?_
        refine lv_iadd hx hb dX4_begins_43 ?_
        obtain ⟨hi, hf⟩ := ix_e hf
        refine g_ild C hV hT 10 _ rfl hi rfl dX4_begins_44 ?_
        obtain ⟨hi, hf⟩ := ix_e hf
        refine t_ist C hV hT 10 _ rfl hi rfl (tast_20 d a t _ _) dX4_begins_45 (fun t_45 H locs et hT => ?_)
        have hf := lett_e et hf
        refine lv_aload_n hx hb dX4_begins_46 rfl (lv_at hl 1 rfl) ?_
        refine t_get C hV hT 20 (by decide) q1267 rfl dX4_begins_47 ?_
        refine lv_iload_n hx hb dX4_begins_50 rfl (lv_at hl 0 rfl) ?_
        refine lv_iconst (v := 1) hx hb dX4_begins_51 (by decide) ?_
        refine lv_iadd hx hb dX4_begins_52 ?_
        refine lv_aload_n hx hb dX4_begins_53 rfl (lv_at hl 1 rfl) ?_
        refine t_get C hV hT 20 (by decide) q1267 rfl dX4_begins_54 ?_
        refine lv_bipush (v := 66) hx hb dX4_begins_57 (by decide) ?_
        refine lv_iload_n hx hb dX4_begins_59 rfl (lv_at hl 2 rfl) ?_
        refine lv_iadd hx hb dX4_begins_60 ?_
        obtain ⟨hi, hf⟩ := ix_e hf
        refine g_ild C hV hT 10 _ rfl hi rfl dX4_begins_61 ?_
        obtain ⟨hi, hf⟩ := ix_e hf
        refine t_ist C hV hT 10 _ rfl hi rfl (tast_20 d a t_45 _ _) dX4_begins_62 (fun t_62 H locs et hT => ?_)
        have hf := lett_e et hf
        refine lv_aload_n hx hb dX4_begins_63 rfl (lv_at hl 1 rfl) ?_
        refine t_get C hV hT 20 (by decide) q1267 rfl dX4_begins_64 ?_
        refine lv_iload_n hx hb dX4_begins_67 rfl (lv_at hl 0 rfl) ?_
        refine lv_iconst (v := 2) hx hb dX4_begins_68 (by decide) ?_
        refine lv_iadd hx hb dX4_begins_69 ?_
        refine lv_iconst (v := 0) hx hb dX4_begins_70 (by decide) ?_
        obtain ⟨hi, hf⟩ := ix_e hf
        refine t_ist C hV hT 10 _ rfl hi rfl (tast_20 d a t_62 _ _) dX4_begins_71 (fun t_71 H locs et hT => ?_)
        have hf := lett_e et hf
        refine lv_aload_n hx hb dX4_begins_72 rfl (lv_at hl 1 rfl) ?_
        refine t_get C hV hT 20 (by decide) q1267 rfl dX4_begins_73 ?_
        refine lv_iload_n hx hb dX4_begins_76 rfl (lv_at hl 0 rfl) ?_
        refine lv_iconst (v := 3) hx hb dX4_begins_77 (by decide) ?_
        refine lv_iadd hx hb dX4_begins_78 ?_
        refine lv_iconst (v := 0) hx hb dX4_begins_79 (by decide) ?_
        obtain ⟨hi, hf⟩ := ix_e hf
        refine t_ist C hV hT 10 _ rfl hi rfl (tast_20 d a t_71 _ _) dX4_begins_80 (fun t_80 H locs et hT => ?_)
        have hf := lett_e et hf
        refine lv_aload_n hx hb dX4_begins_81 rfl (lv_at hl 1 rfl) ?_
        refine t_get C hV hT 20 (by decide) q1267 rfl dX4_begins_82 ?_
        refine lv_iload_n hx hb dX4_begins_85 rfl (lv_at hl 0 rfl) ?_
        refine lv_iconst (v := 4) hx hb dX4_begins_86 (by decide) ?_
        refine lv_iadd hx hb dX4_begins_87 ?_
        refine lv_iconst (v := -1) hx hb dX4_begins_88 (by decide) ?_
        obtain ⟨hi, hf⟩ := ix_e hf
        refine t_ist C hV hT 10 _ rfl hi rfl (tast_20 d a t_80 _ _) dX4_begins_89 (fun t_89 H locs et hT => ?_)
        have hf := lett_e et hf
        obtain ⟨x1_90, ex⟩ : ∃ y : Int32, y = (x1 + (1 : Int32)) := ⟨_, rfl⟩
        have hf := lett_e ex hf
        refine lv_iinc (v := x1_90) (lv' := [(1, .int x1_90), (2, .int x2_30), (0, .ref (a 42))]) hx hb dX4_begins_90 hl (k := 2) rfl (by rw [ex]; rfl) (by decide) rfl (fun ls hl => ?_)
        refine lv_goto (tgt := 18) hx hb dX4_begins_93 (by decide) ?_
        exact ih t_89 x1_90 _ _ _ hT (lv_sub hl [2, 0] rfl) hf
  have hL98 : ∀ (K : TS → Option (TS)), (∀ (t : TS) (H : Heap) (locs : List Loc) (ls : Array Slot), TH D (AT a s.heap.size) s.heap (wT d a t) H locs → lv_has ls 3 [] → K t = some w → W p l e (rm_ 0 0) s m args below meth c H locs 0 0 (MQ below (QvT D d a w s.heap.size) args s 0 0 (AT a s.heap.size)) (F0 m 128 ls [])) → ∀ (n : Nat) (t : TS) (x1 : Int32) (H : Heap) (locs : List Loc) (ls : Array Slot), TH D (AT a s.heap.size) s.heap (wT d a t) H locs → lv_has ls 3 [(0, .ref (a 42)), (1, .int x1)] → fX4_begins_L98 N K n t x1 = some w → W p l e (rm_ 0 0) s m args below meth c H locs 0 0 (MQ below (QvT D d a w s.heap.size) args s 0 0 (AT a s.heap.size)) (F0 m 98 ls []) := by
    intro K hE n
    induction n with
    | zero =>
      intro t x1 H locs ls hT hl hf
      cases hf
    | succ n ih =>
      intro t x1 H locs ls hT hl hf
      replace hf : fX4_begins_B98 N K (fX4_begins_L98 N K n) t x1 = some w := hf
      unfold fX4_begins_B98 at hf
      refine lv_iload_n hx hb dX4_begins_98 rfl (lv_at hl 1 rfl) ?_
      refine lv_bipush (v := 12) hx hb dX4_begins_99 (by decide) ?_
      refine lv_icmp_ge (tgt := 128) hx hb dX4_begins_101 (by decide) (fun hc => ?_) (fun hc => ?_)
      · have hf := ite_t hc hf
        exact hE t _ _ _ hT (lv_sub hl [] rfl) hf
      · have hf := ite_f hc hf
        refine lv_aload_n hx hb dX4_begins_104 rfl (lv_at hl 0 rfl) ?_
        refine t_get C hV hT 20 (by decide) q1267 rfl dX4_begins_105 ?_
        refine lv_bipush (v := 41) hx hb dX4_begins_108 (by decide) ?_
        refine lv_iload_n hx hb dX4_begins_110 rfl (lv_at hl 1 rfl) ?_
        refine lv_iadd hx hb dX4_begins_111 ?_
        refine lv_aload_n hx hb dX4_begins_112 rfl (lv_at hl 0 rfl) ?_
        refine t_get C hV hT 20 (by decide) q1267 rfl dX4_begins_113 ?_
        refine lv_bipush (v := 78) hx hb dX4_begins_116 (by decide) ?_
        refine lv_iload_n hx hb dX4_begins_118 rfl (lv_at hl 1 rfl) ?_
        refine lv_iadd hx hb dX4_begins_119 ?_
        obtain ⟨hi, hf⟩ := ix_e hf
        refine g_ild C hV hT 10 _ rfl hi rfl dX4_begins_120 ?_
        obtain ⟨hi, hf⟩ := ix_e hf
        refine t_ist C hV hT 10 _ rfl hi rfl (tast_20 d a t _ _) dX4_begins_121 (fun t_121 H locs et hT => ?_)
        have hf := lett_e et hf
        obtain ⟨x1_122, ex⟩ : ∃ y : Int32, y = (x1 + (1 : Int32)) := ⟨_, rfl⟩
        have hf := lett_e ex hf
        refine lv_iinc (v := x1_122) (lv' := [(1, .int x1_122), (0, .ref (a 42))]) hx hb dX4_begins_122 hl (k := 1) rfl (by rw [ex]; rfl) (by decide) rfl (fun ls hl => ?_)
        refine lv_goto (tgt := 98) hx hb dX4_begins_125 (by decide) ?_
        exact ih t_121 x1_122 _ _ _ hT (lv_sub hl [1, 0] rfl) hf
  refine W.eq (by rw [hargs]) (t_in (vs := [.ref (a 42)]) (n := 3) (Nat.le_of_ble_eq_true rfl) (fun ls hl => ?_))
  have hl : lv_has ls 3 [(0, .ref (a 42))] := hl
  unfold fX4_begins at hf
  skip
  refine lv_aload_n hx hb dX4_begins_0 rfl (lv_at hl 0 rfl) ?_
  refine t_get C hV hT 20 (by decide) q1267 rfl dX4_begins_1 ?_
  refine lv_bipush (v := 10) hx hb dX4_begins_4 (by decide) ?_
  refine lv_iconst (v := 0) hx hb dX4_begins_6 (by decide) ?_
  refine t_ist C hV hT 10 10 rfl (vin_of (by decide)) (by decide) (tast_20 d a t _ _) dX4_begins_7 (fun t_7 H locs et hT => ?_)
  have hf := lett_e et hf
  refine lv_aload_n hx hb dX4_begins_8 rfl (lv_at hl 0 rfl) ?_
  refine t_get C hV hT 20 (by decide) q1267 rfl dX4_begins_9 ?_
  refine lv_bipush (v := 53) hx hb dX4_begins_12 (by decide) ?_
  refine lv_iconst (v := 0) hx hb dX4_begins_14 (by decide) ?_
  refine t_ist C hV hT 10 53 rfl (vin_of (by decide)) (by decide) (tast_20 d a t_7 _ _) dX4_begins_15 (fun t_15 H locs et hT => ?_)
  have hf := lett_e et hf
  refine lv_iconst (v := 0) hx hb dX4_begins_16 (by decide) ?_
  refine lv_istore_n (lv' := [(1, .int (0 : Int32)), (0, .ref (a 42))]) hx hb dX4_begins_17 rfl hl (by decide) rfl (fun ls hl => ?_)
  refine hL18 _ (fun t H locs ls hT hl hf => ?_) N t_15 (0 : Int32) _ _ _ hT (lv_sub hl [1, 0] rfl) hf
  refine lv_iconst (v := 0) hx hb dX4_begins_96 (by decide) ?_
  refine lv_istore_n (lv' := [(1, .int (0 : Int32)), (0, .ref (a 42))]) hx hb dX4_begins_97 rfl hl (by decide) rfl (fun ls hl => ?_)
  refine hL98 _ (fun t H locs ls hT hl hf => ?_) N t (0 : Int32) _ _ _ hT (lv_sub hl [1, 0] rfl) hf
  exact t_vret C hT hf hr hlocks dX4_begins_128
def fX4_junction_B8 (N : Nat) (K : TS → Option (Int32 × TS)) (kb : TS → Int32 → Option (Int32 × TS)) (t : TS) (x1 : Int32) : Option (Int32 × TS) :=
  (if (90 : Int32) ≤ x1 then (K t) else (ix x1 90 (lett (tsA t 7 (x1).toNatClampNeg (0 : Int32)) fun t_20 => (lett (x1 + (1 : Int32)) fun x1_21 => (kb t_20 x1_21)))))
def fX4_junction_L8 (N : Nat) (K : TS → Option (Int32 × TS)) : Nat → TS → Int32 → Option (Int32 × TS)
  | 0 => fun _ _ => none
  | n + 1 => fun t x1 => fX4_junction_B8 N K (fX4_junction_L8 N K n) t x1
def fX4_junction_J71 (N : Nat) (K : TS → Option (Int32 × TS)) (kb : TS → Int32 → Option (Int32 × TS)) (t : TS) (x1 : Int32) (s0 : Int32) (s1 : Int32) : Option (Int32 × TS) :=
  (ix s1 121 (lett (tsA t 20 (s1).toNatClampNeg s0) fun t_71 => (lett (x1 + (1 : Int32)) fun x1_72 => (kb t_71 x1_72))))
def fX4_junction_B44 (N : Nat) (K : TS → Option (Int32 × TS)) (kb : TS → Int32 → Option (Int32 × TS)) (t : TS) (x1 : Int32) : Option (Int32 × TS) :=
  (if (121 : Int32) ≤ x1 then (K t) else (if (90 : Int32) ≤ x1 then (fX4_junction_J71 N K kb t x1 (0 : Int32) x1) else (ix x1 90 (fX4_junction_J71 N K kb t x1 (t.2.1 7 (x1).toNatClampNeg) x1))))
def fX4_junction_L44 (N : Nat) (K : TS → Option (Int32 × TS)) : Nat → TS → Int32 → Option (Int32 × TS)
  | 0 => fun _ _ => none
  | n + 1 => fun t x1 => fX4_junction_B44 N K (fX4_junction_L44 N K n) t x1
def fX4_junction (N : Nat) (t : TS) : Option (Int32 × TS) :=
  (lett (tsI t 11 (6 : Int32)) fun t_3 => (fX4_junction_L8 N (fun t => ((fX4_readsAll N t ).bind fun w_28 => (if ¬ w_28.1 = 0 then (fX4_junction_L44 N (fun t => ((fX4_begins N t ).bind fun w_79 => (lett (tsI w_79 27 (0 : Int32)) fun t_84 => (some ((t_84.2.1 20 3), t_84))))) N w_28.2 (0 : Int32)) else (some (((-2 : Int32) - (w_28.2.1 9)), w_28.2))))) N t_3 (0 : Int32)))
theorem hdX4_junction : yX4_junction.cls = RX4 ∧ yX4_junction.cls ≠ "java/lang/invoke/MethodHandle" ∧ yX4_junction.cls ≠ "java/lang/invoke/VarHandle" ∧ (parseMethodDescriptor yX4_junction.desc).map (fun d => d.parameters.length) = some 0 := by decide +kernel
set_option maxHeartbeats 4000000 in
theorem mX4_junction (l : Launch) (D : va_G) (d : Nat → ClassId) (a : Nat → Nat) (N : Nat) (t : TS) (w : Int32 × TS) (hf : fX4_junction N t = some w) (sz : Nat) : Met l yX4_junction (ws_ yX4_junction cX4_junction 2 (some .int)) (rm_ 12 262) (PcT D d a [] t sz) (QiT D d a w.1 w.2 sz) 0 0 (AT a sz) := by
  refine Met.ofW (cc := cX4_junction) (maxL := 2) (ret := (some .int)) plX4 rfl ?_
  intro p e s m args below meth c s₁ B hml hv
  obtain ⟨C, hV, hT, hr, hlocks, hargs, rfl⟩ := t_enter B hml rfl hv
  have hx := C.1
  have hb := C.2.1
  show W p l e (rm_ 12 262) s m args below meth c s.heap [] 0 0 (MQ below (QiT D d a w.1 w.2 s.heap.size) args s 0 0 (AT a s.heap.size)) _
  have hL8 : ∀ (K : TS → Option (Int32 × TS)), (∀ (t : TS) (H : Heap) (locs : List Loc) (ls : Array Slot), TH D (AT a s.heap.size) s.heap (wT d a t) H locs → lv_has ls 2 [(0, .ref (a 42))] → K t = some w → W p l e (rm_ 12 262) s m args below meth c H locs 0 0 (MQ below (QiT D d a w.1 w.2 s.heap.size) args s 0 0 (AT a s.heap.size)) (F0 m 27 ls [])) → ∀ (n : Nat) (t : TS) (x1 : Int32) (H : Heap) (locs : List Loc) (ls : Array Slot), TH D (AT a s.heap.size) s.heap (wT d a t) H locs → lv_has ls 2 [(0, .ref (a 42)), (1, .int x1)] → fX4_junction_L8 N K n t x1 = some w → W p l e (rm_ 12 262) s m args below meth c H locs 0 0 (MQ below (QiT D d a w.1 w.2 s.heap.size) args s 0 0 (AT a s.heap.size)) (F0 m 8 ls []) := by
    intro K hE n
    induction n with
    | zero =>
      intro t x1 H locs ls hT hl hf
      cases hf
    | succ n ih =>
      intro t x1 H locs ls hT hl hf
      replace hf : fX4_junction_B8 N K (fX4_junction_L8 N K n) t x1 = some w := hf
      unfold fX4_junction_B8 at hf
      refine lv_iload_n hx hb dX4_junction_8 rfl (lv_at hl 1 rfl) ?_
      refine lv_bipush (v := 90) hx hb dX4_junction_9 (by decide) ?_
      refine lv_icmp_ge (tgt := 27) hx hb dX4_junction_11 (by decide) (fun hc => ?_) (fun hc => ?_)
      · have hf := ite_t hc hf
        exact hE t _ _ _ hT (lv_sub hl [0] rfl) hf
      · have hf := ite_f hc hf
        refine lv_aload_n hx hb dX4_junction_14 rfl (lv_at hl 0 rfl) ?_
        refine t_get C hV hT 7 (by decide) q1254 rfl dX4_junction_15 ?_
        refine lv_iload_n hx hb dX4_junction_18 rfl (lv_at hl 1 rfl) ?_
        refine lv_iconst (v := 0) hx hb dX4_junction_19 (by decide) ?_
        obtain ⟨hi, hf⟩ := ix_e hf
        refine t_ist C hV hT 6 _ rfl hi rfl (tast_7 d a t _ _) dX4_junction_20 (fun t_20 H locs et hT => ?_)
        have hf := lett_e et hf
        obtain ⟨x1_21, ex⟩ : ∃ y : Int32, y = (x1 + (1 : Int32)) := ⟨_, rfl⟩
        have hf := lett_e ex hf
        refine lv_iinc (v := x1_21) (lv' := [(1, .int x1_21), (0, .ref (a 42))]) hx hb dX4_junction_21 hl (k := 1) rfl (by rw [ex]; rfl) (by decide) rfl (fun ls hl => ?_)
        refine lv_goto (tgt := 8) hx hb dX4_junction_24 (by decide) ?_
        exact ih t_20 x1_21 _ _ _ hT (lv_sub hl [1, 0] rfl) hf
  have hL44 : ∀ (K : TS → Option (Int32 × TS)), (∀ (t : TS) (H : Heap) (locs : List Loc) (ls : Array Slot), TH D (AT a s.heap.size) s.heap (wT d a t) H locs → lv_has ls 2 [(0, .ref (a 42))] → K t = some w → W p l e (rm_ 12 262) s m args below meth c H locs 0 0 (MQ below (QiT D d a w.1 w.2 s.heap.size) args s 0 0 (AT a s.heap.size)) (F0 m 78 ls [])) → ∀ (n : Nat) (t : TS) (x1 : Int32) (H : Heap) (locs : List Loc) (ls : Array Slot), TH D (AT a s.heap.size) s.heap (wT d a t) H locs → lv_has ls 2 [(0, .ref (a 42)), (1, .int x1)] → fX4_junction_L44 N K n t x1 = some w → W p l e (rm_ 12 262) s m args below meth c H locs 0 0 (MQ below (QiT D d a w.1 w.2 s.heap.size) args s 0 0 (AT a s.heap.size)) (F0 m 44 ls []) := by
    intro K hE n
    induction n with
    | zero =>
      intro t x1 H locs ls hT hl hf
      cases hf
    | succ n ih =>
      have hJ71 : ∀ (t : TS) (x1 : Int32) (s0 : Int32) (s1 : Int32) (H : Heap) (locs : List Loc) (ls : Array Slot), TH D (AT a s.heap.size) s.heap (wT d a t) H locs → lv_has ls 2 [(0, .ref (a 42)), (1, .int x1)] → fX4_junction_J71 N K (fX4_junction_L44 N K n) t x1 s0 s1 = some w → W p l e (rm_ 12 262) s m args below meth c H locs 0 0 (MQ below (QiT D d a w.1 w.2 s.heap.size) args s 0 0 (AT a s.heap.size)) (F0 m 71 ls [.int s0, .int s1, .ref (a 20)]) := by
        intro t x1 s0 s1 H locs ls hT hl hf
        unfold fX4_junction_J71 at hf
        obtain ⟨hi, hf⟩ := ix_e hf
        refine t_ist C hV hT 10 _ rfl hi rfl (tast_20 d a t _ _) dX4_junction_71 (fun t_71 H locs et hT => ?_)
        have hf := lett_e et hf
        obtain ⟨x1_72, ex⟩ : ∃ y : Int32, y = (x1 + (1 : Int32)) := ⟨_, rfl⟩
        have hf := lett_e ex hf
        refine lv_iinc (v := x1_72) (lv' := [(1, .int x1_72), (0, .ref (a 42))]) hx hb dX4_junction_72 hl (k := 1) rfl (by rw [ex]; rfl) (by decide) rfl (fun ls hl => ?_)
        refine lv_goto (tgt := 44) hx hb dX4_junction_75 (by decide) ?_
        exact ih t_71 x1_72 _ _ _ hT (lv_sub hl [1, 0] rfl) hf
      intro t x1 H locs ls hT hl hf
      replace hf : fX4_junction_B44 N K (fX4_junction_L44 N K n) t x1 = some w := hf
      unfold fX4_junction_B44 at hf
      refine lv_iload_n hx hb dX4_junction_44 rfl (lv_at hl 1 rfl) ?_
      refine lv_bipush (v := 121) hx hb dX4_junction_45 (by decide) ?_
      refine lv_icmp_ge (tgt := 78) hx hb dX4_junction_47 (by decide) (fun hc => ?_) (fun hc => ?_)
      · have hf := ite_t hc hf
        exact hE t _ _ _ hT (lv_sub hl [0] rfl) hf
      · have hf := ite_f hc hf
        refine lv_aload_n hx hb dX4_junction_50 rfl (lv_at hl 0 rfl) ?_
        refine t_get C hV hT 20 (by decide) q1267 rfl dX4_junction_51 ?_
        refine lv_iload_n hx hb dX4_junction_54 rfl (lv_at hl 1 rfl) ?_
        refine lv_iload_n hx hb dX4_junction_55 rfl (lv_at hl 1 rfl) ?_
        refine lv_bipush (v := 90) hx hb dX4_junction_56 (by decide) ?_
        refine lv_icmp_ge (tgt := 70) hx hb dX4_junction_58 (by decide) (fun hc => ?_) (fun hc => ?_)
        · have hf := ite_t hc hf
          refine lv_iconst (v := 0) hx hb dX4_junction_70 (by decide) ?_
          exact hJ71 t x1 (0 : Int32) x1 _ _ _ hT hl hf
        · have hf := ite_f hc hf
          refine lv_aload_n hx hb dX4_junction_61 rfl (lv_at hl 0 rfl) ?_
          refine t_get C hV hT 7 (by decide) q1254 rfl dX4_junction_62 ?_
          refine lv_iload_n hx hb dX4_junction_65 rfl (lv_at hl 1 rfl) ?_
          obtain ⟨hi, hf⟩ := ix_e hf
          refine g_ild C hV hT 6 _ rfl hi rfl dX4_junction_66 ?_
          refine lv_goto (tgt := 71) hx hb dX4_junction_67 (by decide) ?_
          exact hJ71 t x1 (t.2.1 7 (x1).toNatClampNeg) x1 _ _ _ hT hl hf
  refine W.eq (by rw [hargs]) (t_in (vs := [.ref (a 42)]) (n := 2) (Nat.le_of_ble_eq_true rfl) (fun ls hl => ?_))
  have hl : lv_has ls 2 [(0, .ref (a 42))] := hl
  unfold fX4_junction at hf
  skip
  refine lv_aload_n hx hb dX4_junction_0 rfl (lv_at hl 0 rfl) ?_
  refine lv_bipush (v := 6) hx hb dX4_junction_1 (by decide) ?_
  refine t_put C hV hT 11 (by decide) q1258 (tset_11 a t _) rfl rfl dX4_junction_3 (fun t_3 H locs et hT => ?_)
  have hf := lett_e et hf
  refine lv_iconst (v := 0) hx hb dX4_junction_6 (by decide) ?_
  refine lv_istore_n (lv' := [(1, .int (0 : Int32)), (0, .ref (a 42))]) hx hb dX4_junction_7 rfl hl (by decide) rfl (fun ls hl => ?_)
  refine hL8 _ (fun t H locs ls hT hl hf => ?_) N t_3 (0 : Int32) _ _ _ hT (lv_sub hl [1, 0] rfl) hf
  refine lv_aload_n hx hb dX4_junction_27 rfl (lv_at hl 0 rfl) ?_
  obtain ⟨w_28, h_28, hf⟩ := bind_e hf
  refine t_calli (vs := []) (rest := []) C hV hT (fun sz => mX4_readsAll l D d a N t  _ h_28 sz) (cwV 0 C.2.2.2.2 (lw_V q1391 q1393 qs45 q129 q1394) rfl rfl rfl hdX4_readsAll ⟨Nat.le_of_ble_eq_true rfl, Nat.le_of_ble_eq_true rfl⟩) rfl hl.1 rfl (Nat.le_of_ble_eq_true rfl) dX4_junction_28 (fun H locs hT => ?_)
  refine lv_if_ne (tgt := 42) hx hb dX4_junction_31 (by decide) (fun hc => ?_) (fun hc => ?_)
  · have hf := ite_t hc hf
    refine lv_iconst (v := 0) hx hb dX4_junction_42 (by decide) ?_
    refine lv_istore_n (lv' := [(1, .int (0 : Int32)), (0, .ref (a 42))]) hx hb dX4_junction_43 rfl hl (by decide) rfl (fun ls hl => ?_)
    refine hL44 _ (fun t H locs ls hT hl hf => ?_) N w_28.2 (0 : Int32) _ _ _ hT (lv_sub hl [1, 0] rfl) hf
    refine lv_aload_n hx hb dX4_junction_78 rfl (lv_at hl 0 rfl) ?_
    obtain ⟨w_79, h_79, hf⟩ := bind_e hf
    refine t_callv (vs := []) (rest := []) C hV hT (fun sz => mX4_begins l D d a N t  _ h_79 sz) (cwV 0 C.2.2.2.2 (lw_V q1545 q1547 qs76 q129 q1548) rfl rfl rfl hdX4_begins ⟨Nat.le_of_ble_eq_true rfl, Nat.le_of_ble_eq_true rfl⟩) rfl hl.1 rfl (Nat.le_of_ble_eq_true rfl) dX4_junction_79 (fun H locs hT => ?_)
    refine lv_aload_n hx hb dX4_junction_82 rfl (lv_at hl 0 rfl) ?_
    refine lv_iconst (v := 0) hx hb dX4_junction_83 (by decide) ?_
    refine t_put C hV hT 27 (by decide) q1274 (tset_27 a w_79 _) rfl rfl dX4_junction_84 (fun t_84 H locs et hT => ?_)
    have hf := lett_e et hf
    refine lv_aload_n hx hb dX4_junction_87 rfl (lv_at hl 0 rfl) ?_
    refine t_get C hV hT 20 (by decide) q1267 rfl dX4_junction_88 ?_
    refine lv_iconst (v := 3) hx hb dX4_junction_91 (by decide) ?_
    refine g_ild C hV hT 10 3 rfl (vin_of (by decide)) (by decide) dX4_junction_92 ?_
    exact t_iret C hT hf hr hlocks dX4_junction_93
  · have hf := ite_f (fun q => q hc) hf
    refine lv_bipush (v := -2) hx hb dX4_junction_34 (by decide) ?_
    refine lv_aload_n hx hb dX4_junction_36 rfl (lv_at hl 0 rfl) ?_
    refine t_get C hV hT 9 (by decide) q1256 rfl dX4_junction_37 ?_
    refine lv_isub hx hb dX4_junction_40 ?_
    exact t_iret C hT hf hr hlocks dX4_junction_41
def fX4_isRule (N : Nat) (t : TS) (x1 : Int32) : Option (Int32 × TS) :=
  (if x1 < 0 then (some ((0 : Int32), t)) else (if (t.1 2) ≤ x1 then (some ((0 : Int32), t)) else (some ((1 : Int32), t))))
theorem hdX4_isRule : yX4_isRule.cls = RX4 ∧ yX4_isRule.cls ≠ "java/lang/invoke/MethodHandle" ∧ yX4_isRule.cls ≠ "java/lang/invoke/VarHandle" ∧ (parseMethodDescriptor yX4_isRule.desc).map (fun d => d.parameters.length) = some 1 := by decide +kernel
set_option maxHeartbeats 4000000 in
theorem mX4_isRule (l : Launch) (D : va_G) (d : Nat → ClassId) (a : Nat → Nat) (N : Nat) (t : TS) (x1 : Int32) (w : Int32 × TS) (hf : fX4_isRule N t x1 = some w) (sz : Nat) : Met l yX4_isRule (ws_ yX4_isRule cX4_isRule 2 (some .boolean)) (rm_ 0 0) (PcT D d a [.int x1] t sz) (QiT D d a w.1 w.2 sz) 0 0 (AT a sz) := by
  refine Met.ofW (cc := cX4_isRule) (maxL := 2) (ret := (some .boolean)) plX4 rfl ?_
  intro p e s m args below meth c s₁ B hml hv
  obtain ⟨C, hV, hT, hr, hlocks, hargs, rfl⟩ := t_enter B hml rfl hv
  have hx := C.1
  have hb := C.2.1
  show W p l e (rm_ 0 0) s m args below meth c s.heap [] 0 0 (MQ below (QiT D d a w.1 w.2 s.heap.size) args s 0 0 (AT a s.heap.size)) _
  refine W.eq (by rw [hargs]) (t_in (vs := [.ref (a 42), .int x1]) (n := 2) (Nat.le_of_ble_eq_true rfl) (fun ls hl => ?_))
  have hl : lv_has ls 2 [(0, .ref (a 42)), (1, .int x1)] := hl
  unfold fX4_isRule at hf
  skip
  refine lv_iload_n hx hb dX4_isRule_0 rfl (lv_at hl 1 rfl) ?_
  refine lv_if_lt (tgt := 16) hx hb dX4_isRule_1 (by decide) (fun hc => ?_) (fun hc => ?_)
  · have hf := ite_t hc hf
    refine lv_iconst (v := 0) hx hb dX4_isRule_16 (by decide) ?_
    exact t_zret C hT hf (Or.inl rfl) hr hlocks dX4_isRule_17
  · have hf := ite_f hc hf
    refine lv_iload_n hx hb dX4_isRule_4 rfl (lv_at hl 1 rfl) ?_
    refine lv_aload_n hx hb dX4_isRule_5 rfl (lv_at hl 0 rfl) ?_
    refine t_get C hV hT 2 (by decide) q1249 rfl dX4_isRule_6 ?_
    refine lv_icmp_ge (tgt := 16) hx hb dX4_isRule_9 (by decide) (fun hc => ?_) (fun hc => ?_)
    · have hf := ite_t hc hf
      refine lv_iconst (v := 0) hx hb dX4_isRule_16 (by decide) ?_
      exact t_zret C hT hf (Or.inl rfl) hr hlocks dX4_isRule_17
    · have hf := ite_f hc hf
      refine lv_iconst (v := 1) hx hb dX4_isRule_12 (by decide) ?_
      refine lv_goto (tgt := 17) hx hb dX4_isRule_13 (by decide) ?_
      exact t_zret C hT hf (Or.inr rfl) hr hlocks dX4_isRule_17
def fX4_force_J16 (N : Nat) (t : TS) (x1 : Int32) : Option (Int32 × TS) :=
  (lett (t.1 21) fun x2_20 => (lett (tsI t 21 x1) fun t_23 => (some (x2_20, t_23))))
def fX4_force (N : Nat) (t : TS) (x1 : Int32) : Option (Int32 × TS) :=
  (if x1 = (-1 : Int32) then (fX4_force_J16 N t x1) else ((fX4_isRule N t x1).bind fun w_7 => (if ¬ w_7.1 = 0 then (fX4_force_J16 N w_7.2 x1) else (some ((-2 : Int32), w_7.2)))))
theorem hdX4_force : yX4_force.cls = RX4 ∧ yX4_force.cls ≠ "java/lang/invoke/MethodHandle" ∧ yX4_force.cls ≠ "java/lang/invoke/VarHandle" ∧ (parseMethodDescriptor yX4_force.desc).map (fun d => d.parameters.length) = some 1 := by decide +kernel
set_option maxHeartbeats 4000000 in
theorem mX4_force (l : Launch) (D : va_G) (d : Nat → ClassId) (a : Nat → Nat) (N : Nat) (t : TS) (x1 : Int32) (w : Int32 × TS) (hf : fX4_force N t x1 = some w) (sz : Nat) : Met l yX4_force (ws_ yX4_force cX4_force 3 (some .int)) (rm_ 1 21) (PcT D d a [.int x1] t sz) (QiT D d a w.1 w.2 sz) 0 0 (AT a sz) := by
  refine Met.ofW (cc := cX4_force) (maxL := 3) (ret := (some .int)) plX4 rfl ?_
  intro p e s m args below meth c s₁ B hml hv
  obtain ⟨C, hV, hT, hr, hlocks, hargs, rfl⟩ := t_enter B hml rfl hv
  have hx := C.1
  have hb := C.2.1
  show W p l e (rm_ 1 21) s m args below meth c s.heap [] 0 0 (MQ below (QiT D d a w.1 w.2 s.heap.size) args s 0 0 (AT a s.heap.size)) _
  have hJ16 : ∀ (t : TS) (x1 : Int32) (H : Heap) (locs : List Loc) (ls : Array Slot), TH D (AT a s.heap.size) s.heap (wT d a t) H locs → lv_has ls 3 [(0, .ref (a 42)), (1, .int x1)] → fX4_force_J16 N t x1 = some w → W p l e (rm_ 1 21) s m args below meth c H locs 0 0 (MQ below (QiT D d a w.1 w.2 s.heap.size) args s 0 0 (AT a s.heap.size)) (F0 m 16 ls []) := by
    intro t x1 H locs ls hT hl hf
    unfold fX4_force_J16 at hf
    refine lv_aload_n hx hb dX4_force_16 rfl (lv_at hl 0 rfl) ?_
    refine t_get C hV hT 21 (by decide) q1268 rfl dX4_force_17 ?_
    refine lv_topi (fun x2_20 ex => ?_)
    have hf := lett_e ex hf
    refine lv_istore_n (lv' := [(2, .int x2_20), (0, .ref (a 42)), (1, .int x1)]) hx hb dX4_force_20 rfl hl (by decide) rfl (fun ls hl => ?_)
    refine lv_aload_n hx hb dX4_force_21 rfl (lv_at hl 1 rfl) ?_
    refine lv_iload_n hx hb dX4_force_22 rfl (lv_at hl 2 rfl) ?_
    refine t_put C hV hT 21 (by decide) q1268 (tset_21 a t _) rfl rfl dX4_force_23 (fun t_23 H locs et hT => ?_)
    have hf := lett_e et hf
    refine lv_iload_n hx hb dX4_force_26 rfl (lv_at hl 0 rfl) ?_
    exact t_iret C hT hf hr hlocks dX4_force_27
  refine W.eq (by rw [hargs]) (t_in (vs := [.ref (a 42), .int x1]) (n := 3) (Nat.le_of_ble_eq_true rfl) (fun ls hl => ?_))
  have hl : lv_has ls 3 [(0, .ref (a 42)), (1, .int x1)] := hl
  unfold fX4_force at hf
  skip
  refine lv_iload_n hx hb dX4_force_0 rfl (lv_at hl 1 rfl) ?_
  refine lv_iconst (v := -1) hx hb dX4_force_1 (by decide) ?_
  refine lv_icmp_eq (tgt := 16) hx hb dX4_force_2 (by decide) (fun hc => ?_) (fun hc => ?_)
  · have hf := ite_t hc hf
    exact hJ16 t x1 _ _ _ hT hl hf
  · have hf := ite_f hc hf
    refine lv_aload_n hx hb dX4_force_5 rfl (lv_at hl 0 rfl) ?_
    refine lv_iload_n hx hb dX4_force_6 rfl (lv_at hl 1 rfl) ?_
    obtain ⟨w_7, h_7, hf⟩ := bind_e hf
    refine t_calli (vs := [.int x1]) (rest := []) C hV hT (fun sz => mX4_isRule l D d a N t x1 _ h_7 sz) (cwV 1 C.2.2.2.2 (lw_V q1553 q1555 qs77 q129 q1556) rfl rfl rfl hdX4_isRule ⟨Nat.le_of_ble_eq_true rfl, Nat.le_of_ble_eq_true rfl⟩) rfl hl.1 rfl (Nat.le_of_ble_eq_true rfl) dX4_force_7 (fun H locs hT => ?_)
    refine lv_if_ne (tgt := 16) hx hb dX4_force_10 (by decide) (fun hc => ?_) (fun hc => ?_)
    · have hf := ite_t hc hf
      exact hJ16 w_7.2 x1 _ _ _ hT hl hf
    · have hf := ite_f (fun q => q hc) hf
      refine lv_bipush (v := -2) hx hb dX4_force_13 (by decide) ?_
      exact t_iret C hT hf hr hlocks dX4_force_15
def fX4_isRoad (N : Nat) (t : TS) (x1 : Int32) : Option (Int32 × TS) :=
  (if x1 < 0 then (some ((0 : Int32), t)) else (if (t.2.1 20 3) ≤ x1 then (some ((0 : Int32), t)) else (some ((1 : Int32), t))))
theorem hdX4_isRoad : yX4_isRoad.cls = RX4 ∧ yX4_isRoad.cls ≠ "java/lang/invoke/MethodHandle" ∧ yX4_isRoad.cls ≠ "java/lang/invoke/VarHandle" ∧ (parseMethodDescriptor yX4_isRoad.desc).map (fun d => d.parameters.length) = some 1 := by decide +kernel
set_option maxHeartbeats 4000000 in
theorem mX4_isRoad (l : Launch) (D : va_G) (d : Nat → ClassId) (a : Nat → Nat) (N : Nat) (t : TS) (x1 : Int32) (w : Int32 × TS) (hf : fX4_isRoad N t x1 = some w) (sz : Nat) : Met l yX4_isRoad (ws_ yX4_isRoad cX4_isRoad 2 (some .boolean)) (rm_ 0 0) (PcT D d a [.int x1] t sz) (QiT D d a w.1 w.2 sz) 0 0 (AT a sz) := by
  refine Met.ofW (cc := cX4_isRoad) (maxL := 2) (ret := (some .boolean)) plX4 rfl ?_
  intro p e s m args below meth c s₁ B hml hv
  obtain ⟨C, hV, hT, hr, hlocks, hargs, rfl⟩ := t_enter B hml rfl hv
  have hx := C.1
  have hb := C.2.1
  show W p l e (rm_ 0 0) s m args below meth c s.heap [] 0 0 (MQ below (QiT D d a w.1 w.2 s.heap.size) args s 0 0 (AT a s.heap.size)) _
  refine W.eq (by rw [hargs]) (t_in (vs := [.ref (a 42), .int x1]) (n := 2) (Nat.le_of_ble_eq_true rfl) (fun ls hl => ?_))
  have hl : lv_has ls 2 [(0, .ref (a 42)), (1, .int x1)] := hl
  unfold fX4_isRoad at hf
  skip
  refine lv_iload_n hx hb dX4_isRoad_0 rfl (lv_at hl 1 rfl) ?_
  refine lv_if_lt (tgt := 18) hx hb dX4_isRoad_1 (by decide) (fun hc => ?_) (fun hc => ?_)
  · have hf := ite_t hc hf
    refine lv_iconst (v := 0) hx hb dX4_isRoad_18 (by decide) ?_
    exact t_zret C hT hf (Or.inl rfl) hr hlocks dX4_isRoad_19
  · have hf := ite_f hc hf
    refine lv_iload_n hx hb dX4_isRoad_4 rfl (lv_at hl 1 rfl) ?_
    refine lv_aload_n hx hb dX4_isRoad_5 rfl (lv_at hl 0 rfl) ?_
    refine t_get C hV hT 20 (by decide) q1267 rfl dX4_isRoad_6 ?_
    refine lv_iconst (v := 3) hx hb dX4_isRoad_9 (by decide) ?_
    refine g_ild C hV hT 10 3 rfl (vin_of (by decide)) (by decide) dX4_isRoad_10 ?_
    refine lv_icmp_ge (tgt := 18) hx hb dX4_isRoad_11 (by decide) (fun hc => ?_) (fun hc => ?_)
    · have hf := ite_t hc hf
      refine lv_iconst (v := 0) hx hb dX4_isRoad_18 (by decide) ?_
      exact t_zret C hT hf (Or.inl rfl) hr hlocks dX4_isRoad_19
    · have hf := ite_f hc hf
      refine lv_iconst (v := 1) hx hb dX4_isRoad_14 (by decide) ?_
      refine lv_goto (tgt := 19) hx hb dX4_isRoad_15 (by decide) ?_
      exact t_zret C hT hf (Or.inr rfl) hr hlocks dX4_isRoad_19
def fX4_waitOn (N : Nat) (t : TS) (x1 : Int32) : Option (Int32 × TS) :=
  (ix ((11 : Int32) + ((5 : Int32) * x1)) 121 (some ((t.2.1 20 (((11 : Int32) + ((5 : Int32) * x1))).toNatClampNeg), t)))
theorem hdX4_waitOn : yX4_waitOn.cls = RX4 ∧ yX4_waitOn.cls ≠ "java/lang/invoke/MethodHandle" ∧ yX4_waitOn.cls ≠ "java/lang/invoke/VarHandle" ∧ (parseMethodDescriptor yX4_waitOn.desc).map (fun d => d.parameters.length) = some 1 := by decide +kernel
set_option maxHeartbeats 4000000 in
theorem mX4_waitOn (l : Launch) (D : va_G) (d : Nat → ClassId) (a : Nat → Nat) (N : Nat) (t : TS) (x1 : Int32) (w : Int32 × TS) (hf : fX4_waitOn N t x1 = some w) (sz : Nat) : Met l yX4_waitOn (ws_ yX4_waitOn cX4_waitOn 2 (some .int)) (rm_ 0 0) (PcT D d a [.int x1] t sz) (QiT D d a w.1 w.2 sz) 0 0 (AT a sz) := by
  refine Met.ofW (cc := cX4_waitOn) (maxL := 2) (ret := (some .int)) plX4 rfl ?_
  intro p e s m args below meth c s₁ B hml hv
  obtain ⟨C, hV, hT, hr, hlocks, hargs, rfl⟩ := t_enter B hml rfl hv
  have hx := C.1
  have hb := C.2.1
  show W p l e (rm_ 0 0) s m args below meth c s.heap [] 0 0 (MQ below (QiT D d a w.1 w.2 s.heap.size) args s 0 0 (AT a s.heap.size)) _
  refine W.eq (by rw [hargs]) (t_in (vs := [.ref (a 42), .int x1]) (n := 2) (Nat.le_of_ble_eq_true rfl) (fun ls hl => ?_))
  have hl : lv_has ls 2 [(0, .ref (a 42)), (1, .int x1)] := hl
  unfold fX4_waitOn at hf
  skip
  refine lv_aload_n hx hb dX4_waitOn_0 rfl (lv_at hl 0 rfl) ?_
  refine t_get C hV hT 20 (by decide) q1267 rfl dX4_waitOn_1 ?_
  refine lv_bipush (v := 11) hx hb dX4_waitOn_4 (by decide) ?_
  refine lv_iconst (v := 5) hx hb dX4_waitOn_6 (by decide) ?_
  refine lv_iload_n hx hb dX4_waitOn_7 rfl (lv_at hl 1 rfl) ?_
  refine lv_imul hx hb dX4_waitOn_8 ?_
  refine lv_iadd hx hb dX4_waitOn_9 ?_
  obtain ⟨hi, hf⟩ := ix_e hf
  refine g_ild C hV hT 10 _ rfl hi rfl dX4_waitOn_10 ?_
  exact t_iret C hT hf hr hlocks dX4_waitOn_11
def fX4_partOf (N : Nat) (t : TS) (x1 : Int32) : Option (Int32 × TS) :=
  (ix (((11 : Int32) + ((5 : Int32) * x1)) + (1 : Int32)) 121 (some ((t.2.1 20 ((((11 : Int32) + ((5 : Int32) * x1)) + (1 : Int32))).toNatClampNeg), t)))
theorem hdX4_partOf : yX4_partOf.cls = RX4 ∧ yX4_partOf.cls ≠ "java/lang/invoke/MethodHandle" ∧ yX4_partOf.cls ≠ "java/lang/invoke/VarHandle" ∧ (parseMethodDescriptor yX4_partOf.desc).map (fun d => d.parameters.length) = some 1 := by decide +kernel
set_option maxHeartbeats 4000000 in
theorem mX4_partOf (l : Launch) (D : va_G) (d : Nat → ClassId) (a : Nat → Nat) (N : Nat) (t : TS) (x1 : Int32) (w : Int32 × TS) (hf : fX4_partOf N t x1 = some w) (sz : Nat) : Met l yX4_partOf (ws_ yX4_partOf cX4_partOf 2 (some .int)) (rm_ 0 0) (PcT D d a [.int x1] t sz) (QiT D d a w.1 w.2 sz) 0 0 (AT a sz) := by
  refine Met.ofW (cc := cX4_partOf) (maxL := 2) (ret := (some .int)) plX4 rfl ?_
  intro p e s m args below meth c s₁ B hml hv
  obtain ⟨C, hV, hT, hr, hlocks, hargs, rfl⟩ := t_enter B hml rfl hv
  have hx := C.1
  have hb := C.2.1
  show W p l e (rm_ 0 0) s m args below meth c s.heap [] 0 0 (MQ below (QiT D d a w.1 w.2 s.heap.size) args s 0 0 (AT a s.heap.size)) _
  refine W.eq (by rw [hargs]) (t_in (vs := [.ref (a 42), .int x1]) (n := 2) (Nat.le_of_ble_eq_true rfl) (fun ls hl => ?_))
  have hl : lv_has ls 2 [(0, .ref (a 42)), (1, .int x1)] := hl
  unfold fX4_partOf at hf
  skip
  refine lv_aload_n hx hb dX4_partOf_0 rfl (lv_at hl 0 rfl) ?_
  refine t_get C hV hT 20 (by decide) q1267 rfl dX4_partOf_1 ?_
  refine lv_bipush (v := 11) hx hb dX4_partOf_4 (by decide) ?_
  refine lv_iconst (v := 5) hx hb dX4_partOf_6 (by decide) ?_
  refine lv_iload_n hx hb dX4_partOf_7 rfl (lv_at hl 1 rfl) ?_
  refine lv_imul hx hb dX4_partOf_8 ?_
  refine lv_iadd hx hb dX4_partOf_9 ?_
  refine lv_iconst (v := 1) hx hb dX4_partOf_10 (by decide) ?_
  refine lv_iadd hx hb dX4_partOf_11 ?_
  obtain ⟨hi, hf⟩ := ix_e hf
  refine g_ild C hV hT 10 _ rfl hi rfl dX4_partOf_12 ?_
  exact t_iret C hT hf hr hlocks dX4_partOf_13
def fX4_wentFrom (N : Nat) (t : TS) (x1 : Int32) : Option (Int32 × TS) :=
  (ix (((11 : Int32) + ((5 : Int32) * x1)) + (2 : Int32)) 121 (some ((t.2.1 20 ((((11 : Int32) + ((5 : Int32) * x1)) + (2 : Int32))).toNatClampNeg), t)))
theorem hdX4_wentFrom : yX4_wentFrom.cls = RX4 ∧ yX4_wentFrom.cls ≠ "java/lang/invoke/MethodHandle" ∧ yX4_wentFrom.cls ≠ "java/lang/invoke/VarHandle" ∧ (parseMethodDescriptor yX4_wentFrom.desc).map (fun d => d.parameters.length) = some 1 := by decide +kernel
set_option maxHeartbeats 4000000 in
theorem mX4_wentFrom (l : Launch) (D : va_G) (d : Nat → ClassId) (a : Nat → Nat) (N : Nat) (t : TS) (x1 : Int32) (w : Int32 × TS) (hf : fX4_wentFrom N t x1 = some w) (sz : Nat) : Met l yX4_wentFrom (ws_ yX4_wentFrom cX4_wentFrom 2 (some .int)) (rm_ 0 0) (PcT D d a [.int x1] t sz) (QiT D d a w.1 w.2 sz) 0 0 (AT a sz) := by
  refine Met.ofW (cc := cX4_wentFrom) (maxL := 2) (ret := (some .int)) plX4 rfl ?_
  intro p e s m args below meth c s₁ B hml hv
  obtain ⟨C, hV, hT, hr, hlocks, hargs, rfl⟩ := t_enter B hml rfl hv
  have hx := C.1
  have hb := C.2.1
  show W p l e (rm_ 0 0) s m args below meth c s.heap [] 0 0 (MQ below (QiT D d a w.1 w.2 s.heap.size) args s 0 0 (AT a s.heap.size)) _
  refine W.eq (by rw [hargs]) (t_in (vs := [.ref (a 42), .int x1]) (n := 2) (Nat.le_of_ble_eq_true rfl) (fun ls hl => ?_))
  have hl : lv_has ls 2 [(0, .ref (a 42)), (1, .int x1)] := hl
  unfold fX4_wentFrom at hf
  skip
  refine lv_aload_n hx hb dX4_wentFrom_0 rfl (lv_at hl 0 rfl) ?_
  refine t_get C hV hT 20 (by decide) q1267 rfl dX4_wentFrom_1 ?_
  refine lv_bipush (v := 11) hx hb dX4_wentFrom_4 (by decide) ?_
  refine lv_iconst (v := 5) hx hb dX4_wentFrom_6 (by decide) ?_
  refine lv_iload_n hx hb dX4_wentFrom_7 rfl (lv_at hl 1 rfl) ?_
  refine lv_imul hx hb dX4_wentFrom_8 ?_
  refine lv_iadd hx hb dX4_wentFrom_9 ?_
  refine lv_iconst (v := 2) hx hb dX4_wentFrom_10 (by decide) ?_
  refine lv_iadd hx hb dX4_wentFrom_11 ?_
  obtain ⟨hi, hf⟩ := ix_e hf
  refine g_ild C hV hT 10 _ rfl hi rfl dX4_wentFrom_12 ?_
  exact t_iret C hT hf hr hlocks dX4_wentFrom_13
def fX4_waitedOn (N : Nat) (t : TS) (x1 : Int32) : Option (Int32 × TS) :=
  (ix (((11 : Int32) + ((5 : Int32) * x1)) + (3 : Int32)) 121 (some ((t.2.1 20 ((((11 : Int32) + ((5 : Int32) * x1)) + (3 : Int32))).toNatClampNeg), t)))
theorem hdX4_waitedOn : yX4_waitedOn.cls = RX4 ∧ yX4_waitedOn.cls ≠ "java/lang/invoke/MethodHandle" ∧ yX4_waitedOn.cls ≠ "java/lang/invoke/VarHandle" ∧ (parseMethodDescriptor yX4_waitedOn.desc).map (fun d => d.parameters.length) = some 1 := by decide +kernel
set_option maxHeartbeats 4000000 in
theorem mX4_waitedOn (l : Launch) (D : va_G) (d : Nat → ClassId) (a : Nat → Nat) (N : Nat) (t : TS) (x1 : Int32) (w : Int32 × TS) (hf : fX4_waitedOn N t x1 = some w) (sz : Nat) : Met l yX4_waitedOn (ws_ yX4_waitedOn cX4_waitedOn 2 (some .int)) (rm_ 0 0) (PcT D d a [.int x1] t sz) (QiT D d a w.1 w.2 sz) 0 0 (AT a sz) := by
  refine Met.ofW (cc := cX4_waitedOn) (maxL := 2) (ret := (some .int)) plX4 rfl ?_
  intro p e s m args below meth c s₁ B hml hv
  obtain ⟨C, hV, hT, hr, hlocks, hargs, rfl⟩ := t_enter B hml rfl hv
  have hx := C.1
  have hb := C.2.1
  show W p l e (rm_ 0 0) s m args below meth c s.heap [] 0 0 (MQ below (QiT D d a w.1 w.2 s.heap.size) args s 0 0 (AT a s.heap.size)) _
  refine W.eq (by rw [hargs]) (t_in (vs := [.ref (a 42), .int x1]) (n := 2) (Nat.le_of_ble_eq_true rfl) (fun ls hl => ?_))
  have hl : lv_has ls 2 [(0, .ref (a 42)), (1, .int x1)] := hl
  unfold fX4_waitedOn at hf
  skip
  refine lv_aload_n hx hb dX4_waitedOn_0 rfl (lv_at hl 0 rfl) ?_
  refine t_get C hV hT 20 (by decide) q1267 rfl dX4_waitedOn_1 ?_
  refine lv_bipush (v := 11) hx hb dX4_waitedOn_4 (by decide) ?_
  refine lv_iconst (v := 5) hx hb dX4_waitedOn_6 (by decide) ?_
  refine lv_iload_n hx hb dX4_waitedOn_7 rfl (lv_at hl 1 rfl) ?_
  refine lv_imul hx hb dX4_waitedOn_8 ?_
  refine lv_iadd hx hb dX4_waitedOn_9 ?_
  refine lv_iconst (v := 3) hx hb dX4_waitedOn_10 (by decide) ?_
  refine lv_iadd hx hb dX4_waitedOn_11 ?_
  obtain ⟨hi, hf⟩ := ix_e hf
  refine g_ild C hV hT 10 _ rfl hi rfl dX4_waitedOn_12 ?_
  exact t_iret C hT hf hr hlocks dX4_waitedOn_13
def fX4_sinceOf (N : Nat) (t : TS) (x1 : Int32) : Option (Int32 × TS) :=
  (ix (((11 : Int32) + ((5 : Int32) * x1)) + (4 : Int32)) 121 (lett (t.2.1 20 ((((11 : Int32) + ((5 : Int32) * x1)) + (4 : Int32))).toNatClampNeg) fun x2_13 => (lett ((t.2.1 20 10) - x2_13) fun x3_23 => (if x2_13 < 0 then (some ((99 : Int32), t)) else (if x3_23 ≤ (99 : Int32) then (some (x3_23, t)) else (some ((99 : Int32), t)))))))
theorem hdX4_sinceOf : yX4_sinceOf.cls = RX4 ∧ yX4_sinceOf.cls ≠ "java/lang/invoke/MethodHandle" ∧ yX4_sinceOf.cls ≠ "java/lang/invoke/VarHandle" ∧ (parseMethodDescriptor yX4_sinceOf.desc).map (fun d => d.parameters.length) = some 1 := by decide +kernel
set_option maxHeartbeats 4000000 in
theorem mX4_sinceOf (l : Launch) (D : va_G) (d : Nat → ClassId) (a : Nat → Nat) (N : Nat) (t : TS) (x1 : Int32) (w : Int32 × TS) (hf : fX4_sinceOf N t x1 = some w) (sz : Nat) : Met l yX4_sinceOf (ws_ yX4_sinceOf cX4_sinceOf 4 (some .int)) (rm_ 0 0) (PcT D d a [.int x1] t sz) (QiT D d a w.1 w.2 sz) 0 0 (AT a sz) := by
  refine Met.ofW (cc := cX4_sinceOf) (maxL := 4) (ret := (some .int)) plX4 rfl ?_
  intro p e s m args below meth c s₁ B hml hv
  obtain ⟨C, hV, hT, hr, hlocks, hargs, rfl⟩ := t_enter B hml rfl hv
  have hx := C.1
  have hb := C.2.1
  show W p l e (rm_ 0 0) s m args below meth c s.heap [] 0 0 (MQ below (QiT D d a w.1 w.2 s.heap.size) args s 0 0 (AT a s.heap.size)) _
  refine W.eq (by rw [hargs]) (t_in (vs := [.ref (a 42), .int x1]) (n := 4) (Nat.le_of_ble_eq_true rfl) (fun ls hl => ?_))
  have hl : lv_has ls 4 [(0, .ref (a 42)), (1, .int x1)] := hl
  unfold fX4_sinceOf at hf
  skip
  refine lv_aload_n hx hb dX4_sinceOf_0 rfl (lv_at hl 0 rfl) ?_
  refine t_get C hV hT 20 (by decide) q1267 rfl dX4_sinceOf_1 ?_
  refine lv_bipush (v := 11) hx hb dX4_sinceOf_4 (by decide) ?_
  refine lv_iconst (v := 5) hx hb dX4_sinceOf_6 (by decide) ?_
  refine lv_iload_n hx hb dX4_sinceOf_7 rfl (lv_at hl 1 rfl) ?_
  refine lv_imul hx hb dX4_sinceOf_8 ?_
  refine lv_iadd hx hb dX4_sinceOf_9 ?_
  refine lv_iconst (v := 4) hx hb dX4_sinceOf_10 (by decide) ?_
  refine lv_iadd hx hb dX4_sinceOf_11 ?_
  obtain ⟨hi, hf⟩ := ix_e hf
  refine g_ild C hV hT 10 _ rfl hi rfl dX4_sinceOf_12 ?_
  refine lv_topi (fun x2_13 ex => ?_)
  have hf := lett_e ex hf
  refine lv_istore_n (lv' := [(2, .int x2_13), (0, .ref (a 42)), (1, .int x1)]) hx hb dX4_sinceOf_13 rfl hl (by decide) rfl (fun ls hl => ?_)
  refine lv_aload_n hx hb dX4_sinceOf_14 rfl (lv_at hl 1 rfl) ?_
  refine t_get C hV hT 20 (by decide) q1267 rfl dX4_sinceOf_15 ?_
  refine lv_bipush (v := 10) hx hb dX4_sinceOf_18 (by decide) ?_
  refine g_ild C hV hT 10 10 rfl (vin_of (by decide)) (by decide) dX4_sinceOf_20 ?_
  refine lv_iload_n hx hb dX4_sinceOf_21 rfl (lv_at hl 0 rfl) ?_
  refine lv_isub hx hb dX4_sinceOf_22 ?_
  refine lv_topi (fun x3_23 ex => ?_)
  have hf := lett_e ex hf
  refine lv_istore_n (lv' := [(3, .int x3_23), (2, .int x2_13), (0, .ref (a 42)), (1, .int x1)]) hx hb dX4_sinceOf_23 rfl hl (by decide) rfl (fun ls hl => ?_)
  refine lv_iload_n hx hb dX4_sinceOf_24 rfl (lv_at hl 1 rfl) ?_
  refine lv_if_lt (tgt := 34) hx hb dX4_sinceOf_25 (by decide) (fun hc => ?_) (fun hc => ?_)
  · have hf := ite_t hc hf
    refine lv_bipush (v := 99) hx hb dX4_sinceOf_34 (by decide) ?_
    refine lv_goto (tgt := 40) hx hb dX4_sinceOf_36 (by decide) ?_
    exact t_iret C hT hf hr hlocks dX4_sinceOf_40
  · have hf := ite_f hc hf
    refine lv_iload_n hx hb dX4_sinceOf_28 rfl (lv_at hl 0 rfl) ?_
    refine lv_bipush (v := 99) hx hb dX4_sinceOf_29 (by decide) ?_
    refine lv_icmp_le (tgt := 39) hx hb dX4_sinceOf_31 (by decide) (fun hc => ?_) (fun hc => ?_)
    · have hf := ite_t hc hf
      refine lv_iload_n hx hb dX4_sinceOf_39 rfl (lv_at hl 0 rfl) ?_
      exact t_iret C hT hf hr hlocks dX4_sinceOf_40
    · have hf := ite_f hc hf
      refine lv_bipush (v := 99) hx hb dX4_sinceOf_34 (by decide) ?_
      refine lv_goto (tgt := 40) hx hb dX4_sinceOf_36 (by decide) ?_
      exact t_iret C hT hf hr hlocks dX4_sinceOf_40
def fX4_road (N : Nat) (t : TS) (x1 : Int32) (x2 : Int32) : Option (Int32 × TS) :=
  ((fX4_isRoad N t x1).bind fun w_2 => (if ¬ w_2.1 = 0 then (if x2 = (0 : Int32) then ((fX4_waitOn N w_2.2 x1).bind fun w_54 => (some (w_54.1, w_54.2))) else (if x2 = (1 : Int32) then (ix ((54 : Int32) + x1) 121 (some ((w_2.2.2.1 20 (((54 : Int32) + x1)).toNatClampNeg), w_2.2))) else (if x2 = (2 : Int32) then ((fX4_partOf N w_2.2 x1).bind fun w_70 => (some (w_70.1, w_70.2))) else (if x2 = (3 : Int32) then (ix ((72 : Int32) + x1) 121 (some ((w_2.2.2.1 20 (((72 : Int32) + x1)).toNatClampNeg), w_2.2))) else (if x2 = (4 : Int32) then ((fX4_wentFrom N w_2.2 x1).bind fun w_86 => (some (w_86.1, w_86.2))) else (if x2 = (5 : Int32) then ((fX4_waitedOn N w_2.2 x1).bind fun w_92 => (some (w_92.1, w_92.2))) else (if x2 = (6 : Int32) then ((fX4_sinceOf N w_2.2 x1).bind fun w_98 => (some (w_98.1, w_98.2))) else (some ((-1 : Int32), w_2.2))))))))) else (some ((-1 : Int32), w_2.2))))
theorem hdX4_road : yX4_road.cls = RX4 ∧ yX4_road.cls ≠ "java/lang/invoke/MethodHandle" ∧ yX4_road.cls ≠ "java/lang/invoke/VarHandle" ∧ (parseMethodDescriptor yX4_road.desc).map (fun d => d.parameters.length) = some 2 := by decide +kernel
set_option maxHeartbeats 4000000 in
theorem mX4_road (l : Launch) (D : va_G) (d : Nat → ClassId) (a : Nat → Nat) (N : Nat) (t : TS) (x1 : Int32) (x2 : Int32) (w : Int32 × TS) (hf : fX4_road N t x1 x2 = some w) (sz : Nat) : Met l yX4_road (ws_ yX4_road cX4_road 3 (some .int)) (rm_ 1 23) (PcT D d a [.int x1, .int x2] t sz) (QiT D d a w.1 w.2 sz) 0 0 (AT a sz) := by
  refine Met.ofW (cc := cX4_road) (maxL := 3) (ret := (some .int)) plX4 rfl ?_
  intro p e s m args below meth c s₁ B hml hv
  obtain ⟨C, hV, hT, hr, hlocks, hargs, rfl⟩ := t_enter B hml rfl hv
  have hx := C.1
  have hb := C.2.1
  show W p l e (rm_ 1 23) s m args below meth c s.heap [] 0 0 (MQ below (QiT D d a w.1 w.2 s.heap.size) args s 0 0 (AT a s.heap.size)) _
  refine W.eq (by rw [hargs]) (t_in (vs := [.ref (a 42), .int x1, .int x2]) (n := 3) (Nat.le_of_ble_eq_true rfl) (fun ls hl => ?_))
  have hl : lv_has ls 3 [(0, .ref (a 42)), (1, .int x1), (2, .int x2)] := hl
  unfold fX4_road at hf
  skip
  refine lv_aload_n hx hb dX4_road_0 rfl (lv_at hl 0 rfl) ?_
  refine lv_iload_n hx hb dX4_road_1 rfl (lv_at hl 1 rfl) ?_
  obtain ⟨w_2, h_2, hf⟩ := bind_e hf
  refine t_calli (vs := [.int x1]) (rest := []) C hV hT (fun sz => mX4_isRoad l D d a N t x1 _ h_2 sz) (cwV 1 C.2.2.2.2 (lw_V q1561 q1563 qs78 q129 q1564) rfl rfl rfl hdX4_isRoad ⟨Nat.le_of_ble_eq_true rfl, Nat.le_of_ble_eq_true rfl⟩) rfl hl.1 rfl (Nat.le_of_ble_eq_true rfl) dX4_road_2 (fun H locs hT => ?_)
  refine lv_if_ne (tgt := 10) hx hb dX4_road_5 (by decide) (fun hc => ?_) (fun hc => ?_)
  · have hf := ite_t hc hf
    refine lv_iload_n hx hb dX4_road_10 rfl (lv_at hl 2 rfl) ?_
    by_cases hc0 : x2 = (0 : Int32)
    · have hf := ite_t hc0 hf
      refine lv_tableIn (tgt := 52) hx hb dX4_road_11 (by rw [hc0]; decide) (by rw [hc0]; decide) (by rw [hc0]; rfl) (by decide) ?_
      refine lv_aload_n hx hb dX4_road_52 rfl (lv_at hl 0 rfl) ?_
      refine lv_iload_n hx hb dX4_road_53 rfl (lv_at hl 1 rfl) ?_
      obtain ⟨w_54, h_54, hf⟩ := bind_e hf
      refine t_calli (vs := [.int x1]) (rest := []) C hV hT (fun sz => mX4_waitOn l D d a N w_2.2 x1 _ h_54 sz) (cwV 1 C.2.2.2.2 (lw_V q1565 q1567 qs79 q129 q1568) rfl rfl rfl hdX4_waitOn ⟨Nat.le_of_ble_eq_true rfl, Nat.le_of_ble_eq_true rfl⟩) rfl hl.1 rfl (Nat.le_of_ble_eq_true rfl) dX4_road_54 (fun H locs hT => ?_)
      exact t_iret C hT hf hr hlocks dX4_road_57
    · have hf := ite_f hc0 hf
      by_cases hc1 : x2 = (1 : Int32)
      · have hf := ite_t hc1 hf
        refine lv_tableIn (tgt := 58) hx hb dX4_road_11 (by rw [hc1]; decide) (by rw [hc1]; decide) (by rw [hc1]; rfl) (by decide) ?_
        refine lv_aload_n hx hb dX4_road_58 rfl (lv_at hl 0 rfl) ?_
        refine t_get C hV hT 20 (by decide) q1267 rfl dX4_road_59 ?_
        refine lv_bipush (v := 54) hx hb dX4_road_62 (by decide) ?_
        refine lv_iload_n hx hb dX4_road_64 rfl (lv_at hl 1 rfl) ?_
        refine lv_iadd hx hb dX4_road_65 ?_
        obtain ⟨hi, hf⟩ := ix_e hf
        refine g_ild C hV hT 10 _ rfl hi rfl dX4_road_66 ?_
        exact t_iret C hT hf hr hlocks dX4_road_67
      · have hf := ite_f hc1 hf
        by_cases hc2 : x2 = (2 : Int32)
        · have hf := ite_t hc2 hf
          refine lv_tableIn (tgt := 68) hx hb dX4_road_11 (by rw [hc2]; decide) (by rw [hc2]; decide) (by rw [hc2]; rfl) (by decide) ?_
          refine lv_aload_n hx hb dX4_road_68 rfl (lv_at hl 0 rfl) ?_
          refine lv_iload_n hx hb dX4_road_69 rfl (lv_at hl 1 rfl) ?_
          obtain ⟨w_70, h_70, hf⟩ := bind_e hf
          refine t_calli (vs := [.int x1]) (rest := []) C hV hT (fun sz => mX4_partOf l D d a N w_2.2 x1 _ h_70 sz) (cwV 1 C.2.2.2.2 (lw_V q1569 q1571 qs80 q129 q1572) rfl rfl rfl hdX4_partOf ⟨Nat.le_of_ble_eq_true rfl, Nat.le_of_ble_eq_true rfl⟩) rfl hl.1 rfl (Nat.le_of_ble_eq_true rfl) dX4_road_70 (fun H locs hT => ?_)
          exact t_iret C hT hf hr hlocks dX4_road_73
        · have hf := ite_f hc2 hf
          by_cases hc3 : x2 = (3 : Int32)
          · have hf := ite_t hc3 hf
            refine lv_tableIn (tgt := 74) hx hb dX4_road_11 (by rw [hc3]; decide) (by rw [hc3]; decide) (by rw [hc3]; rfl) (by decide) ?_
            refine lv_aload_n hx hb dX4_road_74 rfl (lv_at hl 0 rfl) ?_
            refine t_get C hV hT 20 (by decide) q1267 rfl dX4_road_75 ?_
            refine lv_bipush (v := 72) hx hb dX4_road_78 (by decide) ?_
            refine lv_iload_n hx hb dX4_road_80 rfl (lv_at hl 1 rfl) ?_
            refine lv_iadd hx hb dX4_road_81 ?_
            obtain ⟨hi, hf⟩ := ix_e hf
            refine g_ild C hV hT 10 _ rfl hi rfl dX4_road_82 ?_
            exact t_iret C hT hf hr hlocks dX4_road_83
          · have hf := ite_f hc3 hf
            by_cases hc4 : x2 = (4 : Int32)
            · have hf := ite_t hc4 hf
              refine lv_tableIn (tgt := 84) hx hb dX4_road_11 (by rw [hc4]; decide) (by rw [hc4]; decide) (by rw [hc4]; rfl) (by decide) ?_
              refine lv_aload_n hx hb dX4_road_84 rfl (lv_at hl 0 rfl) ?_
              refine lv_iload_n hx hb dX4_road_85 rfl (lv_at hl 1 rfl) ?_
              obtain ⟨w_86, h_86, hf⟩ := bind_e hf
              refine t_calli (vs := [.int x1]) (rest := []) C hV hT (fun sz => mX4_wentFrom l D d a N w_2.2 x1 _ h_86 sz) (cwV 1 C.2.2.2.2 (lw_V q1573 q1575 qs81 q129 q1576) rfl rfl rfl hdX4_wentFrom ⟨Nat.le_of_ble_eq_true rfl, Nat.le_of_ble_eq_true rfl⟩) rfl hl.1 rfl (Nat.le_of_ble_eq_true rfl) dX4_road_86 (fun H locs hT => ?_)
              exact t_iret C hT hf hr hlocks dX4_road_89
            · have hf := ite_f hc4 hf
              by_cases hc5 : x2 = (5 : Int32)
              · have hf := ite_t hc5 hf
                refine lv_tableIn (tgt := 90) hx hb dX4_road_11 (by rw [hc5]; decide) (by rw [hc5]; decide) (by rw [hc5]; rfl) (by decide) ?_
                refine lv_aload_n hx hb dX4_road_90 rfl (lv_at hl 0 rfl) ?_
                refine lv_iload_n hx hb dX4_road_91 rfl (lv_at hl 1 rfl) ?_
                obtain ⟨w_92, h_92, hf⟩ := bind_e hf
                refine t_calli (vs := [.int x1]) (rest := []) C hV hT (fun sz => mX4_waitedOn l D d a N w_2.2 x1 _ h_92 sz) (cwV 1 C.2.2.2.2 (lw_V q1577 q1579 qs82 q129 q1580) rfl rfl rfl hdX4_waitedOn ⟨Nat.le_of_ble_eq_true rfl, Nat.le_of_ble_eq_true rfl⟩) rfl hl.1 rfl (Nat.le_of_ble_eq_true rfl) dX4_road_92 (fun H locs hT => ?_)
                exact t_iret C hT hf hr hlocks dX4_road_95
              · have hf := ite_f hc5 hf
                by_cases hc6 : x2 = (6 : Int32)
                · have hf := ite_t hc6 hf
                  refine lv_tableIn (tgt := 96) hx hb dX4_road_11 (by rw [hc6]; decide) (by rw [hc6]; decide) (by rw [hc6]; rfl) (by decide) ?_
                  refine lv_aload_n hx hb dX4_road_96 rfl (lv_at hl 0 rfl) ?_
                  refine lv_iload_n hx hb dX4_road_97 rfl (lv_at hl 1 rfl) ?_
                  obtain ⟨w_98, h_98, hf⟩ := bind_e hf
                  refine t_calli (vs := [.int x1]) (rest := []) C hV hT (fun sz => mX4_sinceOf l D d a N w_2.2 x1 _ h_98 sz) (cwV 1 C.2.2.2.2 (lw_V q1581 q1583 qs83 q129 q1584) rfl rfl rfl hdX4_sinceOf ⟨Nat.le_of_ble_eq_true rfl, Nat.le_of_ble_eq_true rfl⟩) rfl hl.1 rfl (Nat.le_of_ble_eq_true rfl) dX4_road_98 (fun H locs hT => ?_)
                  exact t_iret C hT hf hr hlocks dX4_road_101
                · have hf := ite_f hc6 hf
                  have hd0 := i32ne (n := 0) (by decide) hc0
                  have hd1 := i32ne (n := 1) (by decide) hc1
                  have hd2 := i32ne (n := 2) (by decide) hc2
                  have hd3 := i32ne (n := 3) (by decide) hc3
                  have hd4 := i32ne (n := 4) (by decide) hc4
                  have hd5 := i32ne (n := 5) (by decide) hc5
                  have hd6 := i32ne (n := 6) (by decide) hc6
                  refine lv_tableOut (tgt := 102) hx hb dX4_road_11 (by omega) (by decide) ?_
                  refine lv_iconst (v := -1) hx hb dX4_road_102 (by decide) ?_
                  exact t_iret C hT hf hr hlocks dX4_road_103
  · have hf := ite_f (fun q => q hc) hf
    refine lv_iconst (v := -1) hx hb dX4_road_8 (by decide) ?_
    exact t_iret C hT hf hr hlocks dX4_road_9
def fX4_isJunction (N : Nat) (t : TS) : Option (Int32 × TS) :=
  (if ¬ (t.2.1 20 0) = (1 : Int32) then (some ((0 : Int32), t)) else (some ((1 : Int32), t)))
theorem hdX4_isJunction : yX4_isJunction.cls = RX4 ∧ yX4_isJunction.cls ≠ "java/lang/invoke/MethodHandle" ∧ yX4_isJunction.cls ≠ "java/lang/invoke/VarHandle" ∧ (parseMethodDescriptor yX4_isJunction.desc).map (fun d => d.parameters.length) = some 0 := by decide +kernel
set_option maxHeartbeats 4000000 in
theorem mX4_isJunction (l : Launch) (D : va_G) (d : Nat → ClassId) (a : Nat → Nat) (N : Nat) (t : TS) (w : Int32 × TS) (hf : fX4_isJunction N t = some w) (sz : Nat) : Met l yX4_isJunction (ws_ yX4_isJunction cX4_isJunction 1 (some .boolean)) (rm_ 0 0) (PcT D d a [] t sz) (QiT D d a w.1 w.2 sz) 0 0 (AT a sz) := by
  refine Met.ofW (cc := cX4_isJunction) (maxL := 1) (ret := (some .boolean)) plX4 rfl ?_
  intro p e s m args below meth c s₁ B hml hv
  obtain ⟨C, hV, hT, hr, hlocks, hargs, rfl⟩ := t_enter B hml rfl hv
  have hx := C.1
  have hb := C.2.1
  show W p l e (rm_ 0 0) s m args below meth c s.heap [] 0 0 (MQ below (QiT D d a w.1 w.2 s.heap.size) args s 0 0 (AT a s.heap.size)) _
  refine W.eq (by rw [hargs]) (t_in (vs := [.ref (a 42)]) (n := 1) (Nat.le_of_ble_eq_true rfl) (fun ls hl => ?_))
  have hl : lv_has ls 1 [(0, .ref (a 42))] := hl
  unfold fX4_isJunction at hf
  skip
  refine lv_aload_n hx hb dX4_isJunction_0 rfl (lv_at hl 0 rfl) ?_
  refine t_get C hV hT 20 (by decide) q1267 rfl dX4_isJunction_1 ?_
  refine lv_iconst (v := 0) hx hb dX4_isJunction_4 (by decide) ?_
  refine g_ild C hV hT 10 0 rfl (vin_of (by decide)) (by decide) dX4_isJunction_5 ?_
  refine lv_iconst (v := 1) hx hb dX4_isJunction_6 (by decide) ?_
  refine lv_icmp_ne (tgt := 14) hx hb dX4_isJunction_7 (by decide) (fun hc => ?_) (fun hc => ?_)
  · have hf := ite_t hc hf
    refine lv_iconst (v := 0) hx hb dX4_isJunction_14 (by decide) ?_
    exact t_zret C hT hf (Or.inl rfl) hr hlocks dX4_isJunction_15
  · have hf := ite_f (fun q => q hc) hf
    refine lv_iconst (v := 1) hx hb dX4_isJunction_10 (by decide) ?_
    refine lv_goto (tgt := 15) hx hb dX4_isJunction_11 (by decide) ?_
    exact t_zret C hT hf (Or.inr rfl) hr hlocks dX4_isJunction_15
def fX4_isBeat (N : Nat) (t : TS) (x1 : Int32) : Option (Int32 × TS) :=
  ((fX4_isJunction N t ).bind fun w_1 => (if w_1.1 = 0 then (some ((0 : Int32), w_1.2)) else (if x1 < 0 then (some ((0 : Int32), w_1.2)) else (if (w_1.2.2.1 20 1) ≤ x1 then (some ((0 : Int32), w_1.2)) else (some ((1 : Int32), w_1.2))))))
theorem hdX4_isBeat : yX4_isBeat.cls = RX4 ∧ yX4_isBeat.cls ≠ "java/lang/invoke/MethodHandle" ∧ yX4_isBeat.cls ≠ "java/lang/invoke/VarHandle" ∧ (parseMethodDescriptor yX4_isBeat.desc).map (fun d => d.parameters.length) = some 1 := by decide +kernel
set_option maxHeartbeats 4000000 in
theorem mX4_isBeat (l : Launch) (D : va_G) (d : Nat → ClassId) (a : Nat → Nat) (N : Nat) (t : TS) (x1 : Int32) (w : Int32 × TS) (hf : fX4_isBeat N t x1 = some w) (sz : Nat) : Met l yX4_isBeat (ws_ yX4_isBeat cX4_isBeat 2 (some .boolean)) (rm_ 1 20) (PcT D d a [.int x1] t sz) (QiT D d a w.1 w.2 sz) 0 0 (AT a sz) := by
  refine Met.ofW (cc := cX4_isBeat) (maxL := 2) (ret := (some .boolean)) plX4 rfl ?_
  intro p e s m args below meth c s₁ B hml hv
  obtain ⟨C, hV, hT, hr, hlocks, hargs, rfl⟩ := t_enter B hml rfl hv
  have hx := C.1
  have hb := C.2.1
  show W p l e (rm_ 1 20) s m args below meth c s.heap [] 0 0 (MQ below (QiT D d a w.1 w.2 s.heap.size) args s 0 0 (AT a s.heap.size)) _
  refine W.eq (by rw [hargs]) (t_in (vs := [.ref (a 42), .int x1]) (n := 2) (Nat.le_of_ble_eq_true rfl) (fun ls hl => ?_))
  have hl : lv_has ls 2 [(0, .ref (a 42)), (1, .int x1)] := hl
  unfold fX4_isBeat at hf
  skip
  refine lv_aload_n hx hb dX4_isBeat_0 rfl (lv_at hl 0 rfl) ?_
  obtain ⟨w_1, h_1, hf⟩ := bind_e hf
  refine t_calli (vs := []) (rest := []) C hV hT (fun sz => mX4_isJunction l D d a N t  _ h_1 sz) (cwV 0 C.2.2.2.2 (lw_V q1593 q1595 qs85 q129 q1596) rfl rfl rfl hdX4_isJunction ⟨Nat.le_of_ble_eq_true rfl, Nat.le_of_ble_eq_true rfl⟩) rfl hl.1 rfl (Nat.le_of_ble_eq_true rfl) dX4_isBeat_1 (fun H locs hT => ?_)
  refine lv_if_eq (tgt := 25) hx hb dX4_isBeat_4 (by decide) (fun hc => ?_) (fun hc => ?_)
  · have hf := ite_t hc hf
    refine lv_iconst (v := 0) hx hb dX4_isBeat_25 (by decide) ?_
    exact t_zret C hT hf (Or.inl rfl) hr hlocks dX4_isBeat_26
  · have hf := ite_f hc hf
    refine lv_iload_n hx hb dX4_isBeat_7 rfl (lv_at hl 1 rfl) ?_
    refine lv_if_lt (tgt := 25) hx hb dX4_isBeat_8 (by decide) (fun hc => ?_) (fun hc => ?_)
    · have hf := ite_t hc hf
      refine lv_iconst (v := 0) hx hb dX4_isBeat_25 (by decide) ?_
      exact t_zret C hT hf (Or.inl rfl) hr hlocks dX4_isBeat_26
    · have hf := ite_f hc hf
      refine lv_iload_n hx hb dX4_isBeat_11 rfl (lv_at hl 1 rfl) ?_
      refine lv_aload_n hx hb dX4_isBeat_12 rfl (lv_at hl 0 rfl) ?_
      refine t_get C hV hT 20 (by decide) q1267 rfl dX4_isBeat_13 ?_
      refine lv_iconst (v := 1) hx hb dX4_isBeat_16 (by decide) ?_
      refine g_ild C hV hT 10 1 rfl (vin_of (by decide)) (by decide) dX4_isBeat_17 ?_
      refine lv_icmp_ge (tgt := 25) hx hb dX4_isBeat_18 (by decide) (fun hc => ?_) (fun hc => ?_)
      · have hf := ite_t hc hf
        refine lv_iconst (v := 0) hx hb dX4_isBeat_25 (by decide) ?_
        exact t_zret C hT hf (Or.inl rfl) hr hlocks dX4_isBeat_26
      · have hf := ite_f hc hf
        refine lv_iconst (v := 1) hx hb dX4_isBeat_21 (by decide) ?_
        refine lv_goto (tgt := 26) hx hb dX4_isBeat_22 (by decide) ?_
        exact t_zret C hT hf (Or.inr rfl) hr hlocks dX4_isBeat_26
def fX4_scored (N : Nat) (t : TS) (x1 : Int32) : Option (Int32 × TS) :=
  ((fX4_isBeat N t x1).bind fun w_2 => (if w_2.1 = 0 then (some ((-1 : Int32), w_2.2)) else (ix ((41 : Int32) + x1) 121 (some ((w_2.2.2.1 20 (((41 : Int32) + x1)).toNatClampNeg), w_2.2)))))
theorem hdX4_scored : yX4_scored.cls = RX4 ∧ yX4_scored.cls ≠ "java/lang/invoke/MethodHandle" ∧ yX4_scored.cls ≠ "java/lang/invoke/VarHandle" ∧ (parseMethodDescriptor yX4_scored.desc).map (fun d => d.parameters.length) = some 1 := by decide +kernel
set_option maxHeartbeats 4000000 in
theorem mX4_scored (l : Launch) (D : va_G) (d : Nat → ClassId) (a : Nat → Nat) (N : Nat) (t : TS) (x1 : Int32) (w : Int32 × TS) (hf : fX4_scored N t x1 = some w) (sz : Nat) : Met l yX4_scored (ws_ yX4_scored cX4_scored 2 (some .int)) (rm_ 2 41) (PcT D d a [.int x1] t sz) (QiT D d a w.1 w.2 sz) 0 0 (AT a sz) := by
  refine Met.ofW (cc := cX4_scored) (maxL := 2) (ret := (some .int)) plX4 rfl ?_
  intro p e s m args below meth c s₁ B hml hv
  obtain ⟨C, hV, hT, hr, hlocks, hargs, rfl⟩ := t_enter B hml rfl hv
  have hx := C.1
  have hb := C.2.1
  show W p l e (rm_ 2 41) s m args below meth c s.heap [] 0 0 (MQ below (QiT D d a w.1 w.2 s.heap.size) args s 0 0 (AT a s.heap.size)) _
  refine W.eq (by rw [hargs]) (t_in (vs := [.ref (a 42), .int x1]) (n := 2) (Nat.le_of_ble_eq_true rfl) (fun ls hl => ?_))
  have hl : lv_has ls 2 [(0, .ref (a 42)), (1, .int x1)] := hl
  unfold fX4_scored at hf
  skip
  refine lv_aload_n hx hb dX4_scored_0 rfl (lv_at hl 0 rfl) ?_
  refine lv_iload_n hx hb dX4_scored_1 rfl (lv_at hl 1 rfl) ?_
  obtain ⟨w_2, h_2, hf⟩ := bind_e hf
  refine t_calli (vs := [.int x1]) (rest := []) C hV hT (fun sz => mX4_isBeat l D d a N t x1 _ h_2 sz) (cwV 1 C.2.2.2.2 (lw_V q1589 q1591 qs84 q129 q1592) rfl rfl rfl hdX4_isBeat ⟨Nat.le_of_ble_eq_true rfl, Nat.le_of_ble_eq_true rfl⟩) rfl hl.1 rfl (Nat.le_of_ble_eq_true rfl) dX4_scored_2 (fun H locs hT => ?_)
  refine lv_if_eq (tgt := 20) hx hb dX4_scored_5 (by decide) (fun hc => ?_) (fun hc => ?_)
  · have hf := ite_t hc hf
    refine lv_iconst (v := -1) hx hb dX4_scored_20 (by decide) ?_
    exact t_iret C hT hf hr hlocks dX4_scored_21
  · have hf := ite_f hc hf
    refine lv_aload_n hx hb dX4_scored_8 rfl (lv_at hl 0 rfl) ?_
    refine t_get C hV hT 20 (by decide) q1267 rfl dX4_scored_9 ?_
    refine lv_bipush (v := 41) hx hb dX4_scored_12 (by decide) ?_
    refine lv_iload_n hx hb dX4_scored_14 rfl (lv_at hl 1 rfl) ?_
    refine lv_iadd hx hb dX4_scored_15 ?_
    obtain ⟨hi, hf⟩ := ix_e hf
    refine g_ild C hV hT 10 _ rfl hi rfl dX4_scored_16 ?_
    refine lv_goto (tgt := 21) hx hb dX4_scored_17 (by decide) ?_
    exact t_iret C hT hf hr hlocks dX4_scored_21
def fX4_undo_B21 (N : Nat) (K : TS → Option (Int32 × TS)) (kb : TS → Int32 → Option (Int32 × TS)) (t : TS) (x1 : Int32) : Option (Int32 × TS) :=
  (if (44 : Int32) ≤ x1 then (K t) else (ix (((44 : Int32) * (t.1 27)) + x1) 880 (ix ((10 : Int32) + x1) 121 (lett (tsA t 20 (((10 : Int32) + x1)).toNatClampNeg (t.2.1 26 ((((44 : Int32) * (t.1 27)) + x1)).toNatClampNeg)) fun t_49 => (lett (x1 + (1 : Int32)) fun x1_50 => (kb t_49 x1_50))))))
def fX4_undo_L21 (N : Nat) (K : TS → Option (Int32 × TS)) : Nat → TS → Int32 → Option (Int32 × TS)
  | 0 => fun _ _ => none
  | n + 1 => fun t x1 => fX4_undo_B21 N K (fX4_undo_L21 N K n) t x1
def fX4_undo (N : Nat) (t : TS) : Option (Int32 × TS) :=
  (if ¬ (t.1 27) = 0 then (lett (tsI t 27 ((t.1 27) - (1 : Int32))) fun t_16 => (fX4_undo_L21 N (fun t => (some ((t.1 27), t))) N t_16 (0 : Int32))) else (some ((-1 : Int32), t)))
theorem hdX4_undo : yX4_undo.cls = RX4 ∧ yX4_undo.cls ≠ "java/lang/invoke/MethodHandle" ∧ yX4_undo.cls ≠ "java/lang/invoke/VarHandle" ∧ (parseMethodDescriptor yX4_undo.desc).map (fun d => d.parameters.length) = some 0 := by decide +kernel
set_option maxHeartbeats 4000000 in
theorem mX4_undo (l : Launch) (D : va_G) (d : Nat → ClassId) (a : Nat → Nat) (N : Nat) (t : TS) (w : Int32 × TS) (hf : fX4_undo N t = some w) (sz : Nat) : Met l yX4_undo (ws_ yX4_undo cX4_undo 2 (some .int)) (rm_ 0 0) (PcT D d a [] t sz) (QiT D d a w.1 w.2 sz) 0 0 (AT a sz) := by
  refine Met.ofW (cc := cX4_undo) (maxL := 2) (ret := (some .int)) plX4 rfl ?_
  intro p e s m args below meth c s₁ B hml hv
  obtain ⟨C, hV, hT, hr, hlocks, hargs, rfl⟩ := t_enter B hml rfl hv
  have hx := C.1
  have hb := C.2.1
  show W p l e (rm_ 0 0) s m args below meth c s.heap [] 0 0 (MQ below (QiT D d a w.1 w.2 s.heap.size) args s 0 0 (AT a s.heap.size)) _
  have hL21 : ∀ (K : TS → Option (Int32 × TS)), (∀ (t : TS) (H : Heap) (locs : List Loc) (ls : Array Slot), TH D (AT a s.heap.size) s.heap (wT d a t) H locs → lv_has ls 2 [(0, .ref (a 42))] → K t = some w → W p l e (rm_ 0 0) s m args below meth c H locs 0 0 (MQ below (QiT D d a w.1 w.2 s.heap.size) args s 0 0 (AT a s.heap.size)) (F0 m 56 ls [])) → ∀ (n : Nat) (t : TS) (x1 : Int32) (H : Heap) (locs : List Loc) (ls : Array Slot), TH D (AT a s.heap.size) s.heap (wT d a t) H locs → lv_has ls 2 [(0, .ref (a 42)), (1, .int x1)] → fX4_undo_L21 N K n t x1 = some w → W p l e (rm_ 0 0) s m args below meth c H locs 0 0 (MQ below (QiT D d a w.1 w.2 s.heap.size) args s 0 0 (AT a s.heap.size)) (F0 m 21 ls []) := by
    intro K hE n
    induction n with
    | zero =>
      intro t x1 H locs ls hT hl hf
      cases hf
    | succ n ih =>
      intro t x1 H locs ls hT hl hf
      replace hf : fX4_undo_B21 N K (fX4_undo_L21 N K n) t x1 = some w := hf
      unfold fX4_undo_B21 at hf
      refine lv_iload_n hx hb dX4_undo_21 rfl (lv_at hl 1 rfl) ?_
      refine lv_bipush (v := 44) hx hb dX4_undo_22 (by decide) ?_
      refine lv_icmp_ge (tgt := 56) hx hb dX4_undo_24 (by decide) (fun hc => ?_) (fun hc => ?_)
      · have hf := ite_t hc hf
        exact hE t _ _ _ hT (lv_sub hl [0] rfl) hf
      · have hf := ite_f hc hf
        refine lv_aload_n hx hb dX4_undo_27 rfl (lv_at hl 0 rfl) ?_
        refine t_get C hV hT 20 (by decide) q1267 rfl dX4_undo_28 ?_
        refine lv_bipush (v := 10) hx hb dX4_undo_31 (by decide) ?_
        refine lv_iload_n hx hb dX4_undo_33 rfl (lv_at hl 1 rfl) ?_
        refine lv_iadd hx hb dX4_undo_34 ?_
        refine lv_aload_n hx hb dX4_undo_35 rfl (lv_at hl 0 rfl) ?_
        refine t_get C hV hT 26 (by decide) q1273 rfl dX4_undo_36 ?_
        refine lv_bipush (v := 44) hx hb dX4_undo_39 (by decide) ?_
        refine lv_aload_n hx hb dX4_undo_41 rfl (lv_at hl 0 rfl) ?_
        refine t_get C hV hT 27 (by decide) q1274 rfl dX4_undo_42 ?_
        refine lv_imul hx hb dX4_undo_45 ?_
        refine lv_iload_n hx hb dX4_undo_46 rfl (lv_at hl 1 rfl) ?_
        refine lv_iadd hx hb dX4_undo_47 ?_
        obtain ⟨hi, hf⟩ := ix_e hf
        refine g_ild C hV hT 12 _ rfl hi rfl dX4_undo_48 ?_
        obtain ⟨hi, hf⟩ := ix_e hf
        refine t_ist C hV hT 10 _ rfl hi rfl (tast_20 d a t _ _) dX4_undo_49 (fun t_49 H locs et hT => ?_)
        have hf := lett_e et hf
        obtain ⟨x1_50, ex⟩ : ∃ y : Int32, y = (x1 + (1 : Int32)) := ⟨_, rfl⟩
        have hf := lett_e ex hf
        refine lv_iinc (v := x1_50) (lv' := [(1, .int x1_50), (0, .ref (a 42))]) hx hb dX4_undo_50 hl (k := 1) rfl (by rw [ex]; rfl) (by decide) rfl (fun ls hl => ?_)
        refine lv_goto (tgt := 21) hx hb dX4_undo_53 (by decide) ?_
        exact ih t_49 x1_50 _ _ _ hT (lv_sub hl [1, 0] rfl) hf
  refine W.eq (by rw [hargs]) (t_in (vs := [.ref (a 42)]) (n := 2) (Nat.le_of_ble_eq_true rfl) (fun ls hl => ?_))
  have hl : lv_has ls 2 [(0, .ref (a 42))] := hl
  unfold fX4_undo at hf
  skip
  refine lv_aload_n hx hb dX4_undo_0 rfl (lv_at hl 0 rfl) ?_
  refine t_get C hV hT 27 (by decide) q1274 rfl dX4_undo_1 ?_
  refine lv_if_ne (tgt := 9) hx hb dX4_undo_4 (by decide) (fun hc => ?_) (fun hc => ?_)
  · have hf := ite_t hc hf
    refine lv_aload_n hx hb dX4_undo_9 rfl (lv_at hl 0 rfl) ?_
    refine lv_dup hx hb dX4_undo_10 rfl ?_
    refine t_get C hV hT 27 (by decide) q1274 rfl dX4_undo_11 ?_
    refine lv_iconst (v := 1) hx hb dX4_undo_14 (by decide) ?_
    refine lv_isub hx hb dX4_undo_15 ?_
    refine t_put C hV hT 27 (by decide) q1274 (tset_27 a t _) rfl rfl dX4_undo_16 (fun t_16 H locs et hT => ?_)
    have hf := lett_e et hf
    refine lv_iconst (v := 0) hx hb dX4_undo_19 (by decide) ?_
    refine lv_istore_n (lv' := [(1, .int (0 : Int32)), (0, .ref (a 42))]) hx hb dX4_undo_20 rfl hl (by decide) rfl (fun ls hl => ?_)
    refine hL21 _ (fun t H locs ls hT hl hf => ?_) N t_16 (0 : Int32) _ _ _ hT (lv_sub hl [1, 0] rfl) hf
    refine lv_aload_n hx hb dX4_undo_56 rfl (lv_at hl 0 rfl) ?_
    refine t_get C hV hT 27 (by decide) q1274 rfl dX4_undo_57 ?_
    exact t_iret C hT hf hr hlocks dX4_undo_60
  · have hf := ite_f (fun q => q hc) hf
    refine lv_iconst (v := -1) hx hb dX4_undo_7 (by decide) ?_
    exact t_iret C hT hf hr hlocks dX4_undo_8
def fX4_keepsAct_B52 (N : Nat) (K : TS → Option (TS)) (kb : TS → Int32 → Option (TS)) (t : TS) (x1 : Int32) : Option (TS) :=
  (if (44 : Int32) ≤ x1 then (K t) else (ix ((10 : Int32) + x1) 121 (ix (((44 : Int32) * (t.1 27)) + x1) 880 (lett (tsA t 26 ((((44 : Int32) * (t.1 27)) + x1)).toNatClampNeg (t.2.1 20 (((10 : Int32) + x1)).toNatClampNeg)) fun t_80 => (lett (x1 + (1 : Int32)) fun x1_81 => (kb t_80 x1_81))))))
def fX4_keepsAct_L52 (N : Nat) (K : TS → Option (TS)) : Nat → TS → Int32 → Option (TS)
  | 0 => fun _ _ => none
  | n + 1 => fun t x1 => fX4_keepsAct_B52 N K (fX4_keepsAct_L52 N K n) t x1
def fX4_keepsAct_B12 (N : Nat) (K : TS → Option (TS)) (kb : TS → Int32 → Option (TS)) (t : TS) (x1 : Int32) : Option (TS) :=
  (if (880 : Int32) ≤ x1 then (K t) else (ix x1 880 (ix (x1 - (44 : Int32)) 880 (lett (tsA t 26 ((x1 - (44 : Int32))).toNatClampNeg (t.2.1 26 (x1).toNatClampNeg)) fun t_33 => (lett (x1 + (1 : Int32)) fun x1_34 => (kb t_33 x1_34))))))
def fX4_keepsAct_L12 (N : Nat) (K : TS → Option (TS)) : Nat → TS → Int32 → Option (TS)
  | 0 => fun _ _ => none
  | n + 1 => fun t x1 => fX4_keepsAct_B12 N K (fX4_keepsAct_L12 N K n) t x1
def fX4_keepsAct (N : Nat) (t : TS) : Option (TS) :=
  (if ¬ (t.1 27) = (20 : Int32) then (fX4_keepsAct_L52 N (fun t => (lett (tsI t 27 ((t.1 27) + (1 : Int32))) fun t_94 => (some t_94))) N t (0 : Int32)) else (fX4_keepsAct_L12 N (fun t => (lett (tsI t 27 ((t.1 27) - (1 : Int32))) fun t_47 => (fX4_keepsAct_L52 N (fun t => (lett (tsI t 27 ((t.1 27) + (1 : Int32))) fun t_94 => (some t_94))) N t_47 (0 : Int32)))) N t (44 : Int32)))
theorem hdX4_keepsAct : yX4_keepsAct.cls = RX4 ∧ yX4_keepsAct.cls ≠ "java/lang/invoke/MethodHandle" ∧ yX4_keepsAct.cls ≠ "java/lang/invoke/VarHandle" ∧ (parseMethodDescriptor yX4_keepsAct.desc).map (fun d => d.parameters.length) = some 0 := by decide +kernel
set_option maxHeartbeats 4000000 in
theorem mX4_keepsAct (l : Launch) (D : va_G) (d : Nat → ClassId) (a : Nat → Nat) (N : Nat) (t : TS) (w : TS) (hf : fX4_keepsAct N t = some w) (sz : Nat) : Met l yX4_keepsAct (ws_ yX4_keepsAct cX4_keepsAct 2 none) (rm_ 0 0) (PcT D d a [] t sz) (QvT D d a w sz) 0 0 (AT a sz) := by
  refine Met.ofW (cc := cX4_keepsAct) (maxL := 2) (ret := none) plX4 rfl ?_
  intro p e s m args below meth c s₁ B hml hv
  obtain ⟨C, hV, hT, hr, hlocks, hargs, rfl⟩ := t_enter B hml rfl hv
  have hx := C.1
  have hb := C.2.1
  show W p l e (rm_ 0 0) s m args below meth c s.heap [] 0 0 (MQ below (QvT D d a w s.heap.size) args s 0 0 (AT a s.heap.size)) _
  have hL52 : ∀ (K : TS → Option (TS)), (∀ (t : TS) (H : Heap) (locs : List Loc) (ls : Array Slot), TH D (AT a s.heap.size) s.heap (wT d a t) H locs → lv_has ls 2 [(0, .ref (a 42))] → K t = some w → W p l e (rm_ 0 0) s m args below meth c H locs 0 0 (MQ below (QvT D d a w s.heap.size) args s 0 0 (AT a s.heap.size)) (F0 m 87 ls [])) → ∀ (n : Nat) (t : TS) (x1 : Int32) (H : Heap) (locs : List Loc) (ls : Array Slot), TH D (AT a s.heap.size) s.heap (wT d a t) H locs → lv_has ls 2 [(0, .ref (a 42)), (1, .int x1)] → fX4_keepsAct_L52 N K n t x1 = some w → W p l e (rm_ 0 0) s m args below meth c H locs 0 0 (MQ below (QvT D d a w s.heap.size) args s 0 0 (AT a s.heap.size)) (F0 m 52 ls []) := by
    intro K hE n
    induction n with
    | zero =>
      intro t x1 H locs ls hT hl hf
      cases hf
    | succ n ih =>
      intro t x1 H locs ls hT hl hf
      replace hf : fX4_keepsAct_B52 N K (fX4_keepsAct_L52 N K n) t x1 = some w := hf
      unfold fX4_keepsAct_B52 at hf
      refine lv_iload_n hx hb dX4_keepsAct_52 rfl (lv_at hl 1 rfl) ?_
      refine lv_bipush (v := 44) hx hb dX4_keepsAct_53 (by decide) ?_
      refine lv_icmp_ge (tgt := 87) hx hb dX4_keepsAct_55 (by decide) (fun hc => ?_) (fun hc => ?_)
      · have hf := ite_t hc hf
        exact hE t _ _ _ hT (lv_sub hl [0] rfl) hf
      · have hf := ite_f hc hf
        refine lv_aload_n hx hb dX4_keepsAct_58 rfl (lv_at hl 0 rfl) ?_
        refine t_get C hV hT 26 (by decide) q1273 rfl dX4_keepsAct_59 ?_
        refine lv_bipush (v := 44) hx hb dX4_keepsAct_62 (by decide) ?_
        refine lv_aload_n hx hb dX4_keepsAct_64 rfl (lv_at hl 0 rfl) ?_
        refine t_get C hV hT 27 (by decide) q1274 rfl dX4_keepsAct_65 ?_
        refine lv_imul hx hb dX4_keepsAct_68 ?_
        refine lv_iload_n hx hb dX4_keepsAct_69 rfl (lv_at hl 1 rfl) ?_
        refine lv_iadd hx hb dX4_keepsAct_70 ?_
        refine lv_aload_n hx hb dX4_keepsAct_71 rfl (lv_at hl 0 rfl) ?_
        refine t_get C hV hT 20 (by decide) q1267 rfl dX4_keepsAct_72 ?_
        refine lv_bipush (v := 10) hx hb dX4_keepsAct_75 (by decide) ?_
        refine lv_iload_n hx hb dX4_keepsAct_77 rfl (lv_at hl 1 rfl) ?_
        refine lv_iadd hx hb dX4_keepsAct_78 ?_
        obtain ⟨hi, hf⟩ := ix_e hf
        refine g_ild C hV hT 10 _ rfl hi rfl dX4_keepsAct_79 ?_
        obtain ⟨hi, hf⟩ := ix_e hf
        refine t_ist C hV hT 12 _ rfl hi rfl (tast_26 d a t _ _) dX4_keepsAct_80 (fun t_80 H locs et hT => ?_)
        have hf := lett_e et hf
        obtain ⟨x1_81, ex⟩ : ∃ y : Int32, y = (x1 + (1 : Int32)) := ⟨_, rfl⟩
        have hf := lett_e ex hf
        refine lv_iinc (v := x1_81) (lv' := [(1, .int x1_81), (0, .ref (a 42))]) hx hb dX4_keepsAct_81 hl (k := 1) rfl (by rw [ex]; rfl) (by decide) rfl (fun ls hl => ?_)
        refine lv_goto (tgt := 52) hx hb dX4_keepsAct_84 (by decide) ?_
        exact ih t_80 x1_81 _ _ _ hT (lv_sub hl [1, 0] rfl) hf
  have hL12 : ∀ (K : TS → Option (TS)), (∀ (t : TS) (H : Heap) (locs : List Loc) (ls : Array Slot), TH D (AT a s.heap.size) s.heap (wT d a t) H locs → lv_has ls 2 [(0, .ref (a 42))] → K t = some w → W p l e (rm_ 0 0) s m args below meth c H locs 0 0 (MQ below (QvT D d a w s.heap.size) args s 0 0 (AT a s.heap.size)) (F0 m 40 ls [])) → ∀ (n : Nat) (t : TS) (x1 : Int32) (H : Heap) (locs : List Loc) (ls : Array Slot), TH D (AT a s.heap.size) s.heap (wT d a t) H locs → lv_has ls 2 [(0, .ref (a 42)), (1, .int x1)] → fX4_keepsAct_L12 N K n t x1 = some w → W p l e (rm_ 0 0) s m args below meth c H locs 0 0 (MQ below (QvT D d a w s.heap.size) args s 0 0 (AT a s.heap.size)) (F0 m 12 ls []) := by
    intro K hE n
    induction n with
    | zero =>
      intro t x1 H locs ls hT hl hf
      cases hf
    | succ n ih =>
      intro t x1 H locs ls hT hl hf
      replace hf : fX4_keepsAct_B12 N K (fX4_keepsAct_L12 N K n) t x1 = some w := hf
      unfold fX4_keepsAct_B12 at hf
      refine lv_iload_n hx hb dX4_keepsAct_12 rfl (lv_at hl 1 rfl) ?_
      refine lv_sipush (v := 880) hx hb dX4_keepsAct_13 (by decide) ?_
      refine lv_icmp_ge (tgt := 40) hx hb dX4_keepsAct_16 (by decide) (fun hc => ?_) (fun hc => ?_)
      · have hf := ite_t hc hf
        exact hE t _ _ _ hT (lv_sub hl [0] rfl) hf
      · have hf := ite_f hc hf
        refine lv_aload_n hx hb dX4_keepsAct_19 rfl (lv_at hl 0 rfl) ?_
        refine t_get C hV hT 26 (by decide) q1273 rfl dX4_keepsAct_20 ?_
        refine lv_iload_n hx hb dX4_keepsAct_23 rfl (lv_at hl 1 rfl) ?_
        refine lv_bipush (v := 44) hx hb dX4_keepsAct_24 (by decide) ?_
        refine lv_isub hx hb dX4_keepsAct_26 ?_
        refine lv_aload_n hx hb dX4_keepsAct_27 rfl (lv_at hl 0 rfl) ?_
        refine t_get C hV hT 26 (by decide) q1273 rfl dX4_keepsAct_28 ?_
        refine lv_iload_n hx hb dX4_keepsAct_31 rfl (lv_at hl 1 rfl) ?_
        obtain ⟨hi, hf⟩ := ix_e hf
        refine g_ild C hV hT 12 _ rfl hi rfl dX4_keepsAct_32 ?_
        obtain ⟨hi, hf⟩ := ix_e hf
        refine t_ist C hV hT 12 _ rfl hi rfl (tast_26 d a t _ _) dX4_keepsAct_33 (fun t_33 H locs et hT => ?_)
        have hf := lett_e et hf
        obtain ⟨x1_34, ex⟩ : ∃ y : Int32, y = (x1 + (1 : Int32)) := ⟨_, rfl⟩
        have hf := lett_e ex hf
        refine lv_iinc (v := x1_34) (lv' := [(1, .int x1_34), (0, .ref (a 42))]) hx hb dX4_keepsAct_34 hl (k := 1) rfl (by rw [ex]; rfl) (by decide) rfl (fun ls hl => ?_)
        refine lv_goto (tgt := 12) hx hb dX4_keepsAct_37 (by decide) ?_
        exact ih t_33 x1_34 _ _ _ hT (lv_sub hl [1, 0] rfl) hf
  refine W.eq (by rw [hargs]) (t_in (vs := [.ref (a 42)]) (n := 2) (Nat.le_of_ble_eq_true rfl) (fun ls hl => ?_))
  have hl : lv_has ls 2 [(0, .ref (a 42))] := hl
  unfold fX4_keepsAct at hf
  skip
  refine lv_aload_n hx hb dX4_keepsAct_0 rfl (lv_at hl 0 rfl) ?_
  refine t_get C hV hT 27 (by decide) q1274 rfl dX4_keepsAct_1 ?_
  refine lv_bipush (v := 20) hx hb dX4_keepsAct_4 (by decide) ?_
  refine lv_icmp_ne (tgt := 50) hx hb dX4_keepsAct_6 (by decide) (fun hc => ?_) (fun hc => ?_)
  · have hf := ite_t hc hf
    refine lv_iconst (v := 0) hx hb dX4_keepsAct_50 (by decide) ?_
    refine lv_istore_n (lv' := [(1, .int (0 : Int32)), (0, .ref (a 42))]) hx hb dX4_keepsAct_51 rfl hl (by decide) rfl (fun ls hl => ?_)
    refine hL52 _ (fun t H locs ls hT hl hf => ?_) N t (0 : Int32) _ _ _ hT (lv_sub hl [1, 0] rfl) hf
    refine lv_aload_n hx hb dX4_keepsAct_87 rfl (lv_at hl 0 rfl) ?_
    refine lv_dup hx hb dX4_keepsAct_88 rfl ?_
    refine t_get C hV hT 27 (by decide) q1274 rfl dX4_keepsAct_89 ?_
    refine lv_iconst (v := 1) hx hb dX4_keepsAct_92 (by decide) ?_
    refine lv_iadd hx hb dX4_keepsAct_93 ?_
    refine t_put C hV hT 27 (by decide) q1274 (tset_27 a t _) rfl rfl dX4_keepsAct_94 (fun t_94 H locs et hT => ?_)
    have hf := lett_e et hf
    exact t_vret C hT hf hr hlocks dX4_keepsAct_97
  · have hf := ite_f (fun q => q hc) hf
    refine lv_bipush (v := 44) hx hb dX4_keepsAct_9 (by decide) ?_
    refine lv_istore_n (lv' := [(1, .int (44 : Int32)), (0, .ref (a 42))]) hx hb dX4_keepsAct_11 rfl hl (by decide) rfl (fun ls hl => ?_)
    refine hL12 _ (fun t H locs ls hT hl hf => ?_) N t (44 : Int32) _ _ _ hT (lv_sub hl [1, 0] rfl) hf
    refine lv_aload_n hx hb dX4_keepsAct_40 rfl (lv_at hl 0 rfl) ?_
    refine lv_dup hx hb dX4_keepsAct_41 rfl ?_
    refine t_get C hV hT 27 (by decide) q1274 rfl dX4_keepsAct_42 ?_
    refine lv_iconst (v := 1) hx hb dX4_keepsAct_45 (by decide) ?_
    refine lv_isub hx hb dX4_keepsAct_46 ?_
    refine t_put C hV hT 27 (by decide) q1274 (tset_27 a t _) rfl rfl dX4_keepsAct_47 (fun t_47 H locs et hT => ?_)
    have hf := lett_e et hf
    refine lv_iconst (v := 0) hx hb dX4_keepsAct_50 (by decide) ?_
    refine lv_istore_n (lv' := [(1, .int (0 : Int32)), (0, .ref (a 42))]) hx hb dX4_keepsAct_51 rfl hl (by decide) rfl (fun ls hl => ?_)
    refine hL52 _ (fun t H locs ls hT hl hf => ?_) N t_47 (0 : Int32) _ _ _ hT (lv_sub hl [1, 0] rfl) hf
    refine lv_aload_n hx hb dX4_keepsAct_87 rfl (lv_at hl 0 rfl) ?_
    refine lv_dup hx hb dX4_keepsAct_88 rfl ?_
    refine t_get C hV hT 27 (by decide) q1274 rfl dX4_keepsAct_89 ?_
    refine lv_iconst (v := 1) hx hb dX4_keepsAct_92 (by decide) ?_
    refine lv_iadd hx hb dX4_keepsAct_93 ?_
    refine t_put C hV hT 27 (by decide) q1274 (tset_27 a t _) rfl rfl dX4_keepsAct_94 (fun t_94 H locs et hT => ?_)
    have hf := lett_e et hf
    exact t_vret C hT hf hr hlocks dX4_keepsAct_97
def fX4_comes_J32 (N : Nat) (t : TS) (s0 : Int32) (s1 : Int32) : Option (TS) :=
  (ix s1 121 (lett (tsA t 20 (s1).toNatClampNeg s0) fun t_32 => (some t_32)))
def fX4_comes (N : Nat) (t : TS) (x1 : Int32) (x2 : Int32) : Option (TS) :=
  ((fX4_waitOn N t x1).bind fun w_2 => (lett (w_2.1 + x2) fun x3_7 => (if x3_7 ≤ (999 : Int32) then (fX4_comes_J32 N w_2.2 x3_7 ((11 : Int32) + ((5 : Int32) * x1))) else (fX4_comes_J32 N w_2.2 (999 : Int32) ((11 : Int32) + ((5 : Int32) * x1))))))
theorem hdX4_comes : yX4_comes.cls = RX4 ∧ yX4_comes.cls ≠ "java/lang/invoke/MethodHandle" ∧ yX4_comes.cls ≠ "java/lang/invoke/VarHandle" ∧ (parseMethodDescriptor yX4_comes.desc).map (fun d => d.parameters.length) = some 2 := by decide +kernel
set_option maxHeartbeats 4000000 in
theorem mX4_comes (l : Launch) (D : va_G) (d : Nat → ClassId) (a : Nat → Nat) (N : Nat) (t : TS) (x1 : Int32) (x2 : Int32) (w : TS) (hf : fX4_comes N t x1 x2 = some w) (sz : Nat) : Met l yX4_comes (ws_ yX4_comes cX4_comes 4 none) (rm_ 1 21) (PcT D d a [.int x1, .int x2] t sz) (QvT D d a w sz) 0 0 (AT a sz) := by
  refine Met.ofW (cc := cX4_comes) (maxL := 4) (ret := none) plX4 rfl ?_
  intro p e s m args below meth c s₁ B hml hv
  obtain ⟨C, hV, hT, hr, hlocks, hargs, rfl⟩ := t_enter B hml rfl hv
  have hx := C.1
  have hb := C.2.1
  show W p l e (rm_ 1 21) s m args below meth c s.heap [] 0 0 (MQ below (QvT D d a w s.heap.size) args s 0 0 (AT a s.heap.size)) _
  have hJ32 : ∀ (t : TS) (s0 : Int32) (s1 : Int32) (H : Heap) (locs : List Loc) (ls : Array Slot), TH D (AT a s.heap.size) s.heap (wT d a t) H locs → lv_has ls 4 [] → fX4_comes_J32 N t s0 s1 = some w → W p l e (rm_ 1 21) s m args below meth c H locs 0 0 (MQ below (QvT D d a w s.heap.size) args s 0 0 (AT a s.heap.size)) (F0 m 32 ls [.int s0, .int s1, .ref (a 20)]) := by
    intro t s0 s1 H locs ls hT hl hf
    unfold fX4_comes_J32 at hf
    obtain ⟨hi, hf⟩ := ix_e hf
    refine t_ist C hV hT 10 _ rfl hi rfl (tast_20 d a t _ _) dX4_comes_32 (fun t_32 H locs et hT => ?_)
    have hf := lett_e et hf
    exact t_vret C hT hf hr hlocks dX4_comes_33
  refine W.eq (by rw [hargs]) (t_in (vs := [.ref (a 42), .int x1, .int x2]) (n := 4) (Nat.le_of_ble_eq_true rfl) (fun ls hl => ?_))
  have hl : lv_has ls 4 [(0, .ref (a 42)), (1, .int x1), (2, .int x2)] := hl
  unfold fX4_comes at hf
  skip
  refine lv_aload_n hx hb dX4_comes_0 rfl (lv_at hl 0 rfl) ?_
  refine lv_iload_n hx hb dX4_comes_1 rfl (lv_at hl 1 rfl) ?_
  obtain ⟨w_2, h_2, hf⟩ := bind_e hf
  refine t_calli (vs := [.int x1]) (rest := []) C hV hT (fun sz => mX4_waitOn l D d a N t x1 _ h_2 sz) (cwV 1 C.2.2.2.2 (lw_V q1565 q1567 qs79 q129 q1568) rfl rfl rfl hdX4_waitOn ⟨Nat.le_of_ble_eq_true rfl, Nat.le_of_ble_eq_true rfl⟩) rfl hl.1 rfl (Nat.le_of_ble_eq_true rfl) dX4_comes_2 (fun H locs hT => ?_)
  refine lv_iload_n hx hb dX4_comes_5 rfl (lv_at hl 2 rfl) ?_
  refine lv_iadd hx hb dX4_comes_6 ?_
  refine lv_topi (fun x3_7 ex => ?_)
  have hf := lett_e ex hf
  refine lv_istore_n (lv' := [(3, .int x3_7), (0, .ref (a 42)), (1, .int x1), (2, .int x2)]) hx hb dX4_comes_7 rfl hl (by decide) rfl (fun ls hl => ?_)
  refine lv_aload_n hx hb dX4_comes_8 rfl (lv_at hl 1 rfl) ?_
  refine t_get C hV hT 20 (by decide) q1267 rfl dX4_comes_9 ?_
  refine lv_bipush (v := 11) hx hb dX4_comes_12 (by decide) ?_
  refine lv_iconst (v := 5) hx hb dX4_comes_14 (by decide) ?_
  refine lv_iload_n hx hb dX4_comes_15 rfl (lv_at hl 2 rfl) ?_
  refine lv_imul hx hb dX4_comes_16 ?_
  refine lv_iadd hx hb dX4_comes_17 ?_
  refine lv_iload_n hx hb dX4_comes_18 rfl (lv_at hl 0 rfl) ?_
  refine lv_sipush (v := 999) hx hb dX4_comes_19 (by decide) ?_
  refine lv_icmp_le (tgt := 31) hx hb dX4_comes_22 (by decide) (fun hc => ?_) (fun hc => ?_)
  · have hf := ite_t hc hf
    refine lv_iload_n hx hb dX4_comes_31 rfl (lv_at hl 0 rfl) ?_
    exact hJ32 w_2.2 x3_7 ((11 : Int32) + ((5 : Int32) * x1)) _ _ _ hT (lv_sub hl [] rfl) hf
  · have hf := ite_f hc hf
    refine lv_sipush (v := 999) hx hb dX4_comes_25 (by decide) ?_
    refine lv_goto (tgt := 32) hx hb dX4_comes_28 (by decide) ?_
    exact hJ32 w_2.2 (999 : Int32) ((11 : Int32) + ((5 : Int32) * x1)) _ _ _ hT (lv_sub hl [] rfl) hf
def fX4_beatOfBar (N : Nat) (t : TS) : Option (Int32 × TS) :=
  ((fX4_isJunction N t ).bind fun w_1 => (if w_1.1 = 0 then (some ((0 : Int32), w_1.2)) else (nz (w_1.2.2.1 20 1) (some ((irem (w_1.2.2.1 20 10) (w_1.2.2.1 20 1)), w_1.2)))))
theorem hdX4_beatOfBar : yX4_beatOfBar.cls = RX4 ∧ yX4_beatOfBar.cls ≠ "java/lang/invoke/MethodHandle" ∧ yX4_beatOfBar.cls ≠ "java/lang/invoke/VarHandle" ∧ (parseMethodDescriptor yX4_beatOfBar.desc).map (fun d => d.parameters.length) = some 0 := by decide +kernel
set_option maxHeartbeats 4000000 in
theorem mX4_beatOfBar (l : Launch) (D : va_G) (d : Nat → ClassId) (a : Nat → Nat) (N : Nat) (t : TS) (w : Int32 × TS) (hf : fX4_beatOfBar N t = some w) (sz : Nat) : Met l yX4_beatOfBar (ws_ yX4_beatOfBar cX4_beatOfBar 1 (some .int)) (rm_ 1 20) (PcT D d a [] t sz) (QiT D d a w.1 w.2 sz) 0 0 (AT a sz) := by
  refine Met.ofW (cc := cX4_beatOfBar) (maxL := 1) (ret := (some .int)) plX4 rfl ?_
  intro p e s m args below meth c s₁ B hml hv
  obtain ⟨C, hV, hT, hr, hlocks, hargs, rfl⟩ := t_enter B hml rfl hv
  have hx := C.1
  have hb := C.2.1
  show W p l e (rm_ 1 20) s m args below meth c s.heap [] 0 0 (MQ below (QiT D d a w.1 w.2 s.heap.size) args s 0 0 (AT a s.heap.size)) _
  refine W.eq (by rw [hargs]) (t_in (vs := [.ref (a 42)]) (n := 1) (Nat.le_of_ble_eq_true rfl) (fun ls hl => ?_))
  have hl : lv_has ls 1 [(0, .ref (a 42))] := hl
  unfold fX4_beatOfBar at hf
  skip
  refine lv_aload_n hx hb dX4_beatOfBar_0 rfl (lv_at hl 0 rfl) ?_
  obtain ⟨w_1, h_1, hf⟩ := bind_e hf
  refine t_calli (vs := []) (rest := []) C hV hT (fun sz => mX4_isJunction l D d a N t  _ h_1 sz) (cwV 0 C.2.2.2.2 (lw_V q1593 q1595 qs85 q129 q1596) rfl rfl rfl hdX4_isJunction ⟨Nat.le_of_ble_eq_true rfl, Nat.le_of_ble_eq_true rfl⟩) rfl hl.1 rfl (Nat.le_of_ble_eq_true rfl) dX4_beatOfBar_1 (fun H locs hT => ?_)
  refine lv_if_eq (tgt := 24) hx hb dX4_beatOfBar_4 (by decide) (fun hc => ?_) (fun hc => ?_)
  · have hf := ite_t hc hf
    refine lv_iconst (v := 0) hx hb dX4_beatOfBar_24 (by decide) ?_
    exact t_iret C hT hf hr hlocks dX4_beatOfBar_25
  · have hf := ite_f hc hf
    refine lv_aload_n hx hb dX4_beatOfBar_7 rfl (lv_at hl 0 rfl) ?_
    refine t_get C hV hT 20 (by decide) q1267 rfl dX4_beatOfBar_8 ?_
    refine lv_bipush (v := 10) hx hb dX4_beatOfBar_11 (by decide) ?_
    refine g_ild C hV hT 10 10 rfl (vin_of (by decide)) (by decide) dX4_beatOfBar_13 ?_
    refine lv_aload_n hx hb dX4_beatOfBar_14 rfl (lv_at hl 0 rfl) ?_
    refine t_get C hV hT 20 (by decide) q1267 rfl dX4_beatOfBar_15 ?_
    refine lv_iconst (v := 1) hx hb dX4_beatOfBar_18 (by decide) ?_
    refine g_ild C hV hT 10 1 rfl (vin_of (by decide)) (by decide) dX4_beatOfBar_19 ?_
    obtain ⟨hn, hf⟩ := nz_e hf
    refine g_irem hx hb dX4_beatOfBar_20 hn ?_
    refine lv_goto (tgt := 25) hx hb dX4_beatOfBar_21 (by decide) ?_
    exact t_iret C hT hf hr hlocks dX4_beatOfBar_25
def fX4_isOf (N : Nat) (x0 : Int32) (x1 : Int32) : Option (Int32) :=
  (if ¬ ((x0 >>> (x1 &&& 31)) &&& (1 : Int32)) = (1 : Int32) then (some (0 : Int32)) else (some (1 : Int32)))
theorem hdX4_isOf : yX4_isOf.cls ≠ "java/lang/invoke/MethodHandle" ∧ yX4_isOf.cls ≠ "java/lang/invoke/VarHandle" ∧ (parseMethodDescriptor yX4_isOf.desc).map (fun d => d.parameters.length) = some 2 := by decide +kernel
set_option maxHeartbeats 4000000 in
theorem mX4_isOf (l : Launch) (N : Nat) (x0 : Int32) (x1 : Int32) (w : Int32) (hf : fX4_isOf N x0 x1 = some w) (sz : Nat) : Met l yX4_isOf (ws_ yX4_isOf cX4_isOf 2 (some .boolean)) (rm_ 0 0) (PcS [.int x0, .int x1] sz) (QiS w sz) 0 0 (fun q => sz ≤ q) := by
  refine Met.ofW (cc := cX4_isOf) (maxL := 2) (ret := (some .boolean)) plX4 rfl ?_
  intro p e s m args below meth c s₁ B hml hv
  obtain ⟨C, hT, hr, hlocks, hargs, rfl⟩ := s_enter (D := db_D0) (own := RX4) B hml rfl hv
  have hx := C.1
  have hb := C.2.1
  show W p l e (rm_ 0 0) s m args below meth c s.heap [] 0 0 (MQ below (QiS w s.heap.size) args s 0 0 (fun q => s.heap.size ≤ q)) _
  refine W.eq (by rw [hargs]) (t_in (vs := [.int x0, .int x1]) (n := 2) (Nat.le_of_ble_eq_true rfl) (fun ls hl => ?_))
  have hl : lv_has ls 2 [(0, .int x0), (1, .int x1)] := hl
  unfold fX4_isOf at hf
  refine lv_iload_n hx hb dX4_isOf_0 rfl (lv_at hl 0 rfl) ?_
  refine lv_iload_n hx hb dX4_isOf_1 rfl (lv_at hl 1 rfl) ?_
  refine lv_ishr hx hb dX4_isOf_2 ?_
  refine lv_iconst (v := 1) hx hb dX4_isOf_3 (by decide) ?_
  refine lv_iand hx hb dX4_isOf_4 ?_
  refine lv_iconst (v := 1) hx hb dX4_isOf_5 (by decide) ?_
  refine lv_icmp_ne (tgt := 13) hx hb dX4_isOf_6 (by decide) (fun hc => ?_) (fun hc => ?_)
  · have hf := ite_t hc hf
    refine lv_iconst (v := 0) hx hb dX4_isOf_13 (by decide) ?_
    exact s_zret C hT hf (Or.inl rfl) hr hlocks dX4_isOf_14
  · have hf := ite_f (fun q => q hc) hf
    refine lv_iconst (v := 1) hx hb dX4_isOf_9 (by decide) ?_
    refine lv_goto (tgt := 14) hx hb dX4_isOf_10 (by decide) ?_
    exact s_zret C hT hf (Or.inr rfl) hr hlocks dX4_isOf_14
def fX4_bits_B4 (N : Nat) (K : Int32 → Option (Int32)) (kb : Int32 → Int32 → Option (Int32)) (x1 : Int32) (x2 : Int32) : Option (Int32) :=
  (if x2 = 0 then (K x1) else (lett (x1 + (1 : Int32)) fun x1_8 => (lett (x2 &&& (x2 - (1 : Int32))) fun x2_16 => (kb x1_8 x2_16))))
def fX4_bits_L4 (N : Nat) (K : Int32 → Option (Int32)) : Nat → Int32 → Int32 → Option (Int32)
  | 0 => fun _ _ => none
  | n + 1 => fun x1 x2 => fX4_bits_B4 N K (fX4_bits_L4 N K n) x1 x2
def fX4_bits (N : Nat) (x0 : Int32) : Option (Int32) :=
  (fX4_bits_L4 N (fun x1 => (some x1)) N (0 : Int32) x0)
theorem hdX4_bits : yX4_bits.cls ≠ "java/lang/invoke/MethodHandle" ∧ yX4_bits.cls ≠ "java/lang/invoke/VarHandle" ∧ (parseMethodDescriptor yX4_bits.desc).map (fun d => d.parameters.length) = some 1 := by decide +kernel
set_option maxHeartbeats 4000000 in
theorem mX4_bits (l : Launch) (N : Nat) (x0 : Int32) (w : Int32) (hf : fX4_bits N x0 = some w) (sz : Nat) : Met l yX4_bits (ws_ yX4_bits cX4_bits 3 (some .int)) (rm_ 0 0) (PcS [.int x0] sz) (QiS w sz) 0 0 (fun q => sz ≤ q) := by
  refine Met.ofW (cc := cX4_bits) (maxL := 3) (ret := (some .int)) plX4 rfl ?_
  intro p e s m args below meth c s₁ B hml hv
  obtain ⟨C, hT, hr, hlocks, hargs, rfl⟩ := s_enter (D := db_D0) (own := RX4) B hml rfl hv
  have hx := C.1
  have hb := C.2.1
  show W p l e (rm_ 0 0) s m args below meth c s.heap [] 0 0 (MQ below (QiS w s.heap.size) args s 0 0 (fun q => s.heap.size ≤ q)) _
  have hL4 : ∀ (K : Int32 → Option (Int32)), (∀ (x1 : Int32) (H : Heap) (locs : List Loc) (ls : Array Slot), TH db_D0 (fun q => s.heap.size ≤ q) s.heap [] H locs → lv_has ls 3 [(1, .int x1)] → K x1 = some w → W p l e (rm_ 0 0) s m args below meth c H locs 0 0 (MQ below (QiS w s.heap.size) args s 0 0 (fun q => s.heap.size ≤ q)) (F0 m 20 ls [])) → ∀ (n : Nat) (x1 : Int32) (x2 : Int32) (H : Heap) (locs : List Loc) (ls : Array Slot), TH db_D0 (fun q => s.heap.size ≤ q) s.heap [] H locs → lv_has ls 3 [(1, .int x1), (2, .int x2)] → fX4_bits_L4 N K n x1 x2 = some w → W p l e (rm_ 0 0) s m args below meth c H locs 0 0 (MQ below (QiS w s.heap.size) args s 0 0 (fun q => s.heap.size ≤ q)) (F0 m 4 ls []) := by
    intro K hE n
    induction n with
    | zero =>
      intro x1 x2 H locs ls hT hl hf
      cases hf
    | succ n ih =>
      intro x1 x2 H locs ls hT hl hf
      replace hf : fX4_bits_B4 N K (fX4_bits_L4 N K n) x1 x2 = some w := hf
      unfold fX4_bits_B4 at hf
      refine lv_iload_n hx hb dX4_bits_4 rfl (lv_at hl 1 rfl) ?_
      refine lv_if_eq (tgt := 20) hx hb dX4_bits_5 (by decide) (fun hc => ?_) (fun hc => ?_)
      · have hf := ite_t hc hf
        exact hE x1 _ _ _ hT (lv_sub hl [0] rfl) hf
      · have hf := ite_f hc hf
        obtain ⟨x1_8, ex⟩ : ∃ y : Int32, y = (x1 + (1 : Int32)) := ⟨_, rfl⟩
        have hf := lett_e ex hf
        refine lv_iinc (v := x1_8) (lv' := [(1, .int x1_8), (2, .int x2)]) hx hb dX4_bits_8 hl (k := 0) rfl (by rw [ex]; rfl) (by decide) rfl (fun ls hl => ?_)
        refine lv_iload_n hx hb dX4_bits_11 rfl (lv_at hl 1 rfl) ?_
        refine lv_iload_n hx hb dX4_bits_12 rfl (lv_at hl 1 rfl) ?_
        refine lv_iconst (v := 1) hx hb dX4_bits_13 (by decide) ?_
        refine lv_isub hx hb dX4_bits_14 ?_
        refine lv_iand hx hb dX4_bits_15 ?_
        refine lv_topi (fun x2_16 ex => ?_)
        have hf := lett_e ex hf
        refine lv_istore_n (lv' := [(2, .int x2_16), (1, .int x1_8)]) hx hb dX4_bits_16 rfl hl (by decide) rfl (fun ls hl => ?_)
        refine lv_goto (tgt := 4) hx hb dX4_bits_17 (by decide) ?_
        exact ih x1_8 x2_16 _ _ _ hT (lv_sub hl [1, 0] rfl) hf
  refine W.eq (by rw [hargs]) (t_in (vs := [.int x0]) (n := 3) (Nat.le_of_ble_eq_true rfl) (fun ls hl => ?_))
  have hl : lv_has ls 3 [(0, .int x0)] := hl
  unfold fX4_bits at hf
  refine lv_iconst (v := 0) hx hb dX4_bits_0 (by decide) ?_
  refine lv_istore_n (lv' := [(1, .int (0 : Int32)), (0, .int x0)]) hx hb dX4_bits_1 rfl hl (by decide) rfl (fun ls hl => ?_)
  refine lv_iload_n hx hb dX4_bits_2 rfl (lv_at hl 1 rfl) ?_
  refine lv_istore_n (lv' := [(2, .int x0), (1, .int (0 : Int32)), (0, .int x0)]) hx hb dX4_bits_3 rfl hl (by decide) rfl (fun ls hl => ?_)
  refine hL4 _ (fun x1 H locs ls hT hl hf => ?_) N (0 : Int32) x0 _ _ _ hT (lv_sub hl [1, 0] rfl) hf
  refine lv_iload_n hx hb dX4_bits_20 rfl (lv_at hl 0 rfl) ?_
  exact s_iret C hT hf hr hlocks dX4_bits_21
def fX4_soundOfTwo (N : Nat) (x0 : Int32) : Option (Int32) :=
  (if x0 = (0 : Int32) then (some (0 : Int32)) else (if x0 = (1 : Int32) then (some (-3 : Int32)) else (if x0 = (2 : Int32) then (some (-1 : Int32)) else (if x0 = (3 : Int32) then (some (2 : Int32)) else (if x0 = (4 : Int32) then (some (3 : Int32)) else (if x0 = (5 : Int32) then (some (2 : Int32)) else (if x0 = (6 : Int32) then (some (-2 : Int32)) else (if x0 = (7 : Int32) then (some (3 : Int32)) else (if x0 = (8 : Int32) then (some (1 : Int32)) else (if x0 = (9 : Int32) then (some (1 : Int32)) else (if x0 = (10 : Int32) then (some (-1 : Int32)) else (if x0 = (11 : Int32) then (some (-3 : Int32)) else (some (1 : Int32))))))))))))))
theorem hdX4_soundOfTwo : yX4_soundOfTwo.cls ≠ "java/lang/invoke/MethodHandle" ∧ yX4_soundOfTwo.cls ≠ "java/lang/invoke/VarHandle" ∧ (parseMethodDescriptor yX4_soundOfTwo.desc).map (fun d => d.parameters.length) = some 1 := by decide +kernel
set_option maxHeartbeats 4000000 in
theorem mX4_soundOfTwo (l : Launch) (N : Nat) (x0 : Int32) (w : Int32) (hf : fX4_soundOfTwo N x0 = some w) (sz : Nat) : Met l yX4_soundOfTwo (ws_ yX4_soundOfTwo cX4_soundOfTwo 1 (some .int)) (rm_ 0 0) (PcS [.int x0] sz) (QiS w sz) 0 0 (fun q => sz ≤ q) := by
  refine Met.ofW (cc := cX4_soundOfTwo) (maxL := 1) (ret := (some .int)) plX4 rfl ?_
  intro p e s m args below meth c s₁ B hml hv
  obtain ⟨C, hT, hr, hlocks, hargs, rfl⟩ := s_enter (D := db_D0) (own := RX4) B hml rfl hv
  have hx := C.1
  have hb := C.2.1
  show W p l e (rm_ 0 0) s m args below meth c s.heap [] 0 0 (MQ below (QiS w s.heap.size) args s 0 0 (fun q => s.heap.size ≤ q)) _
  refine W.eq (by rw [hargs]) (t_in (vs := [.int x0]) (n := 1) (Nat.le_of_ble_eq_true rfl) (fun ls hl => ?_))
  have hl : lv_has ls 1 [(0, .int x0)] := hl
  unfold fX4_soundOfTwo at hf
  refine lv_iload_n hx hb dX4_soundOfTwo_0 rfl (lv_at hl 0 rfl) ?_
  by_cases hc0 : x0 = (0 : Int32)
  · have hf := ite_t hc0 hf
    refine lv_tableIn (tgt := 64) hx hb dX4_soundOfTwo_1 (by rw [hc0]; decide) (by rw [hc0]; decide) (by rw [hc0]; rfl) (by decide) ?_
    refine lv_iconst (v := 0) hx hb dX4_soundOfTwo_64 (by decide) ?_
    exact s_iret C hT hf hr hlocks dX4_soundOfTwo_65
  · have hf := ite_f hc0 hf
    by_cases hc1 : x0 = (1 : Int32)
    · have hf := ite_t hc1 hf
      refine lv_tableIn (tgt := 66) hx hb dX4_soundOfTwo_1 (by rw [hc1]; decide) (by rw [hc1]; decide) (by rw [hc1]; rfl) (by decide) ?_
      refine lv_bipush (v := -3) hx hb dX4_soundOfTwo_66 (by decide) ?_
      exact s_iret C hT hf hr hlocks dX4_soundOfTwo_68
    · have hf := ite_f hc1 hf
      by_cases hc2 : x0 = (2 : Int32)
      · have hf := ite_t hc2 hf
        refine lv_tableIn (tgt := 69) hx hb dX4_soundOfTwo_1 (by rw [hc2]; decide) (by rw [hc2]; decide) (by rw [hc2]; rfl) (by decide) ?_
        refine lv_iconst (v := -1) hx hb dX4_soundOfTwo_69 (by decide) ?_
        exact s_iret C hT hf hr hlocks dX4_soundOfTwo_70
      · have hf := ite_f hc2 hf
        by_cases hc3 : x0 = (3 : Int32)
        · have hf := ite_t hc3 hf
          refine lv_tableIn (tgt := 71) hx hb dX4_soundOfTwo_1 (by rw [hc3]; decide) (by rw [hc3]; decide) (by rw [hc3]; rfl) (by decide) ?_
          refine lv_iconst (v := 2) hx hb dX4_soundOfTwo_71 (by decide) ?_
          exact s_iret C hT hf hr hlocks dX4_soundOfTwo_72
        · have hf := ite_f hc3 hf
          by_cases hc4 : x0 = (4 : Int32)
          · have hf := ite_t hc4 hf
            refine lv_tableIn (tgt := 73) hx hb dX4_soundOfTwo_1 (by rw [hc4]; decide) (by rw [hc4]; decide) (by rw [hc4]; rfl) (by decide) ?_
            refine lv_iconst (v := 3) hx hb dX4_soundOfTwo_73 (by decide) ?_
            exact s_iret C hT hf hr hlocks dX4_soundOfTwo_74
          · have hf := ite_f hc4 hf
            by_cases hc5 : x0 = (5 : Int32)
            · have hf := ite_t hc5 hf
              refine lv_tableIn (tgt := 71) hx hb dX4_soundOfTwo_1 (by rw [hc5]; decide) (by rw [hc5]; decide) (by rw [hc5]; rfl) (by decide) ?_
              refine lv_iconst (v := 2) hx hb dX4_soundOfTwo_71 (by decide) ?_
              exact s_iret C hT hf hr hlocks dX4_soundOfTwo_72
            · have hf := ite_f hc5 hf
              by_cases hc6 : x0 = (6 : Int32)
              · have hf := ite_t hc6 hf
                refine lv_tableIn (tgt := 75) hx hb dX4_soundOfTwo_1 (by rw [hc6]; decide) (by rw [hc6]; decide) (by rw [hc6]; rfl) (by decide) ?_
                refine lv_bipush (v := -2) hx hb dX4_soundOfTwo_75 (by decide) ?_
                exact s_iret C hT hf hr hlocks dX4_soundOfTwo_77
              · have hf := ite_f hc6 hf
                by_cases hc7 : x0 = (7 : Int32)
                · have hf := ite_t hc7 hf
                  refine lv_tableIn (tgt := 73) hx hb dX4_soundOfTwo_1 (by rw [hc7]; decide) (by rw [hc7]; decide) (by rw [hc7]; rfl) (by decide) ?_
                  refine lv_iconst (v := 3) hx hb dX4_soundOfTwo_73 (by decide) ?_
                  exact s_iret C hT hf hr hlocks dX4_soundOfTwo_74
                · have hf := ite_f hc7 hf
                  by_cases hc8 : x0 = (8 : Int32)
                  · have hf := ite_t hc8 hf
                    refine lv_tableIn (tgt := 78) hx hb dX4_soundOfTwo_1 (by rw [hc8]; decide) (by rw [hc8]; decide) (by rw [hc8]; rfl) (by decide) ?_
                    refine lv_iconst (v := 1) hx hb dX4_soundOfTwo_78 (by decide) ?_
                    exact s_iret C hT hf hr hlocks dX4_soundOfTwo_79
                  · have hf := ite_f hc8 hf
                    by_cases hc9 : x0 = (9 : Int32)
                    · have hf := ite_t hc9 hf
                      refine lv_tableIn (tgt := 78) hx hb dX4_soundOfTwo_1 (by rw [hc9]; decide) (by rw [hc9]; decide) (by rw [hc9]; rfl) (by decide) ?_
                      refine lv_iconst (v := 1) hx hb dX4_soundOfTwo_78 (by decide) ?_
                      exact s_iret C hT hf hr hlocks dX4_soundOfTwo_79
                    · have hf := ite_f hc9 hf
                      by_cases hc10 : x0 = (10 : Int32)
                      · have hf := ite_t hc10 hf
                        refine lv_tableIn (tgt := 69) hx hb dX4_soundOfTwo_1 (by rw [hc10]; decide) (by rw [hc10]; decide) (by rw [hc10]; rfl) (by decide) ?_
                        refine lv_iconst (v := -1) hx hb dX4_soundOfTwo_69 (by decide) ?_
                        exact s_iret C hT hf hr hlocks dX4_soundOfTwo_70
                      · have hf := ite_f hc10 hf
                        by_cases hc11 : x0 = (11 : Int32)
                        · have hf := ite_t hc11 hf
                          refine lv_tableIn (tgt := 66) hx hb dX4_soundOfTwo_1 (by rw [hc11]; decide) (by rw [hc11]; decide) (by rw [hc11]; rfl) (by decide) ?_
                          refine lv_bipush (v := -3) hx hb dX4_soundOfTwo_66 (by decide) ?_
                          exact s_iret C hT hf hr hlocks dX4_soundOfTwo_68
                        · have hf := ite_f hc11 hf
                          have hd0 := i32ne (n := 0) (by decide) hc0
                          have hd1 := i32ne (n := 1) (by decide) hc1
                          have hd2 := i32ne (n := 2) (by decide) hc2
                          have hd3 := i32ne (n := 3) (by decide) hc3
                          have hd4 := i32ne (n := 4) (by decide) hc4
                          have hd5 := i32ne (n := 5) (by decide) hc5
                          have hd6 := i32ne (n := 6) (by decide) hc6
                          have hd7 := i32ne (n := 7) (by decide) hc7
                          have hd8 := i32ne (n := 8) (by decide) hc8
                          have hd9 := i32ne (n := 9) (by decide) hc9
                          have hd10 := i32ne (n := 10) (by decide) hc10
                          have hd11 := i32ne (n := 11) (by decide) hc11
                          refine lv_tableOut (tgt := 78) hx hb dX4_soundOfTwo_1 (by omega) (by decide) ?_
                          refine lv_iconst (v := 1) hx hb dX4_soundOfTwo_78 (by decide) ?_
                          exact s_iret C hT hf hr hlocks dX4_soundOfTwo_79
def fX4_soundOf_J78 (N : Nat) (K : TS → Int32 → Int32 → Int32 → Option (Int32 × TS)) (kb : TS → Int32 → Int32 → Int32 → Int32 → Option (Int32 × TS)) (t : TS) (x1 : Int32) (x3 : Int32) (x4 : Int32) (s0 : Int32) (s1 : Int32) : Option (Int32 × TS) :=
  ((fX4_soundOfTwo N s0).bind fun w_78 => (lett (s1 + w_78) fun x2_82 => (lett (x4 + (1 : Int32)) fun x4_83 => (kb t x1 x2_82 x3 x4_83))))
def fX4_soundOf_B19 (N : Nat) (K : TS → Int32 → Int32 → Int32 → Option (Int32 × TS)) (kb : TS → Int32 → Int32 → Int32 → Int32 → Option (Int32 × TS)) (t : TS) (x1 : Int32) (x2 : Int32) (x3 : Int32) (x4 : Int32) : Option (Int32 × TS) :=
  (if (t.2.1 20 3) ≤ x4 then (K t x1 x2 x3) else ((fX4_isOf N x1 x3).bind fun w_32 => (if w_32 = 0 then (lett (x4 + (1 : Int32)) fun x4_83 => (kb t x1 x2 x3 x4_83)) else ((fX4_isOf N x1 x4).bind fun w_41 => (if ¬ w_41 = 0 then ((fX4_partOf N t x3).bind fun w_52 => ((fX4_partOf N w_52.2 x4).bind fun w_58 => (lett (w_52.1 - w_58.1) fun x5_62 => (if 0 ≤ x5_62 then (fX4_soundOf_J78 N K kb w_58.2 x1 x3 x4 x5_62 x2) else (fX4_soundOf_J78 N K kb w_58.2 x1 x3 x4 (-x5_62) x2))))) else (lett (x4 + (1 : Int32)) fun x4_83 => (kb t x1 x2 x3 x4_83)))))))
def fX4_soundOf_L19 (N : Nat) (K : TS → Int32 → Int32 → Int32 → Option (Int32 × TS)) : Nat → TS → Int32 → Int32 → Int32 → Int32 → Option (Int32 × TS)
  | 0 => fun _ _ _ _ _ => none
  | n + 1 => fun t x1 x2 x3 x4 => fX4_soundOf_B19 N K (fX4_soundOf_L19 N K n) t x1 x2 x3 x4
def fX4_soundOf_B4 (N : Nat) (K : TS → Int32 → Option (Int32 × TS)) (kb : TS → Int32 → Int32 → Int32 → Option (Int32 × TS)) (t : TS) (x1 : Int32) (x2 : Int32) (x3 : Int32) : Option (Int32 × TS) :=
  (if (t.2.1 20 3) ≤ x3 then (K t x2) else (lett (x3 + (1 : Int32)) fun x4_17 => (fX4_soundOf_L19 N (fun t x1 x2 x3 => (lett (x3 + (1 : Int32)) fun x3_89 => (kb t x1 x2 x3_89))) N t x1 x2 x3 x4_17)))
def fX4_soundOf_L4 (N : Nat) (K : TS → Int32 → Option (Int32 × TS)) : Nat → TS → Int32 → Int32 → Int32 → Option (Int32 × TS)
  | 0 => fun _ _ _ _ => none
  | n + 1 => fun t x1 x2 x3 => fX4_soundOf_B4 N K (fX4_soundOf_L4 N K n) t x1 x2 x3
def fX4_soundOf (N : Nat) (t : TS) (x1 : Int32) : Option (Int32 × TS) :=
  (fX4_soundOf_L4 N (fun t x2 => (some (x2, t))) N t x1 (0 : Int32) (0 : Int32))
theorem hdX4_soundOf : yX4_soundOf.cls = RX4 ∧ yX4_soundOf.cls ≠ "java/lang/invoke/MethodHandle" ∧ yX4_soundOf.cls ≠ "java/lang/invoke/VarHandle" ∧ (parseMethodDescriptor yX4_soundOf.desc).map (fun d => d.parameters.length) = some 1 := by decide +kernel
set_option maxHeartbeats 4000000 in
theorem mX4_soundOf (l : Launch) (D : va_G) (d : Nat → ClassId) (a : Nat → Nat) (N : Nat) (t : TS) (x1 : Int32) (w : Int32 × TS) (hf : fX4_soundOf N t x1 = some w) (sz : Nat) : Met l yX4_soundOf (ws_ yX4_soundOf cX4_soundOf 6 (some .int)) (rm_ 1 21) (PcT D d a [.int x1] t sz) (QiT D d a w.1 w.2 sz) 0 0 (AT a sz) := by
  refine Met.ofW (cc := cX4_soundOf) (maxL := 6) (ret := (some .int)) plX4 rfl ?_
  intro p e s m args below meth c s₁ B hml hv
  obtain ⟨C, hV, hT, hr, hlocks, hargs, rfl⟩ := t_enter B hml rfl hv
  have hx := C.1
  have hb := C.2.1
  show W p l e (rm_ 1 21) s m args below meth c s.heap [] 0 0 (MQ below (QiT D d a w.1 w.2 s.heap.size) args s 0 0 (AT a s.heap.size)) _
  have hL4 : ∀ (K : TS → Int32 → Option (Int32 × TS)), (∀ (t : TS) (x2 : Int32) (H : Heap) (locs : List Loc) (ls : Array Slot), TH D (AT a s.heap.size) s.heap (wT d a t) H locs → lv_has ls 6 [(2, .int x2)] → K t x2 = some w → W p l e (rm_ 1 21) s m args below meth c H locs 0 0 (MQ below (QiT D d a w.1 w.2 s.heap.size) args s 0 0 (AT a s.heap.size)) (F0 m 95 ls [])) → ∀ (n : Nat) (t : TS) (x1 : Int32) (x2 : Int32) (x3 : Int32) (H : Heap) (locs : List Loc) (ls : Array Slot), TH D (AT a s.heap.size) s.heap (wT d a t) H locs → lv_has ls 6 [(0, .ref (a 42)), (1, .int x1), (2, .int x2), (3, .int x3)] → fX4_soundOf_L4 N K n t x1 x2 x3 = some w → W p l e (rm_ 1 21) s m args below meth c H locs 0 0 (MQ below (QiT D d a w.1 w.2 s.heap.size) args s 0 0 (AT a s.heap.size)) (F0 m 4 ls []) := by
    intro K hE n
    induction n with
    | zero =>
      intro t x1 x2 x3 H locs ls hT hl hf
      cases hf
    | succ n ih =>
      have hL19 : ∀ (K : TS → Int32 → Int32 → Int32 → Option (Int32 × TS)), (∀ (t : TS) (x1 : Int32) (x2 : Int32) (x3 : Int32) (H : Heap) (locs : List Loc) (ls : Array Slot), TH D (AT a s.heap.size) s.heap (wT d a t) H locs → lv_has ls 6 [(0, .ref (a 42)), (1, .int x1), (2, .int x2), (3, .int x3)] → K t x1 x2 x3 = some w → W p l e (rm_ 1 21) s m args below meth c H locs 0 0 (MQ below (QiT D d a w.1 w.2 s.heap.size) args s 0 0 (AT a s.heap.size)) (F0 m 89 ls [])) → ∀ (n : Nat) (t : TS) (x1 : Int32) (x2 : Int32) (x3 : Int32) (x4 : Int32) (H : Heap) (locs : List Loc) (ls : Array Slot), TH D (AT a s.heap.size) s.heap (wT d a t) H locs → lv_has ls 6 [(0, .ref (a 42)), (1, .int x1), (2, .int x2), (3, .int x3), (4, .int x4)] → fX4_soundOf_L19 N K n t x1 x2 x3 x4 = some w → W p l e (rm_ 1 21) s m args below meth c H locs 0 0 (MQ below (QiT D d a w.1 w.2 s.heap.size) args s 0 0 (AT a s.heap.size)) (F0 m 19 ls []) := by
        intro K hE n
        induction n with
        | zero =>
          intro t x1 x2 x3 x4 H locs ls hT hl hf
          cases hf
        | succ n ih =>
          have hJ78 : ∀ (t : TS) (x1 : Int32) (x3 : Int32) (x4 : Int32) (s0 : Int32) (s1 : Int32) (H : Heap) (locs : List Loc) (ls : Array Slot), TH D (AT a s.heap.size) s.heap (wT d a t) H locs → lv_has ls 6 [(0, .ref (a 42)), (1, .int x1), (3, .int x3), (4, .int x4)] → fX4_soundOf_J78 N K (fX4_soundOf_L19 N K n) t x1 x3 x4 s0 s1 = some w → W p l e (rm_ 1 21) s m args below meth c H locs 0 0 (MQ below (QiT D d a w.1 w.2 s.heap.size) args s 0 0 (AT a s.heap.size)) (F0 m 78 ls [.int s0, .int s1]) := by
            intro t x1 x3 x4 s0 s1 H locs ls hT hl hf
            unfold fX4_soundOf_J78 at hf
            obtain ⟨w_78, h_78, hf⟩ := bind_e hf
            refine s_calli (vs := [.int s0]) (rest := [.int s1]) C (fun q h => Or.inr h) hT (fun sz => mX4_soundOfTwo l N s0 _ h_78 sz) (va_cwS 1 C.2.2.2.2 (lw_S q1639 q1640 q129 q1641) rfl rfl rfl hdX4_soundOfTwo ⟨Nat.le_of_ble_eq_true rfl, Nat.le_of_ble_eq_true rfl⟩) rfl hl.1 rfl (Nat.le_of_ble_eq_true rfl) dX4_soundOf_78 ⟨Nat.zero_le _, Nat.zero_le _⟩ (fun H locs hT => ?_)
            refine lv_iadd hx hb dX4_soundOf_81 ?_
            refine lv_topi (fun x2_82 ex => ?_)
            have hf := lett_e ex hf
            refine lv_istore_n (lv' := [(2, .int x2_82), (0, .ref (a 42)), (1, .int x1), (3, .int x3), (4, .int x4)]) hx hb dX4_soundOf_82 rfl hl (by decide) rfl (fun ls hl => ?_)
            obtain ⟨x4_83, ex⟩ : ∃ y : Int32, y = (x4 + (1 : Int32)) := ⟨_, rfl⟩
            have hf := lett_e ex hf
            refine lv_iinc (v := x4_83) (lv' := [(4, .int x4_83), (2, .int x2_82), (0, .ref (a 42)), (1, .int x1), (3, .int x3)]) hx hb dX4_soundOf_83 hl (k := 4) rfl (by rw [ex]; rfl) (by decide) rfl (fun ls hl => ?_)
            refine lv_goto (tgt := 19) hx hb dX4_soundOf_86 (by decide) ?_
            exact ih t x1 x2_82 x3 x4_83 _ _ _ hT (lv_sub hl [2, 3, 1, 4, 0] rfl) hf
          intro t x1 x2 x3 x4 H locs ls hT hl hf
          replace hf : fX4_soundOf_B19 N K (fX4_soundOf_L19 N K n) t x1 x2 x3 x4 = some w := hf
          unfold fX4_soundOf_B19 at hf
          refine lv_iload hx hb dX4_soundOf_19 (lv_at hl 4 rfl) ?_
          refine lv_aload_n hx hb dX4_soundOf_21 rfl (lv_at hl 0 rfl) ?_
          refine t_get C hV hT 20 (by decide) q1267 rfl dX4_soundOf_22 ?_
          refine lv_iconst (v := 3) hx hb dX4_soundOf_25 (by decide) ?_
          refine g_ild C hV hT 10 3 rfl (vin_of (by decide)) (by decide) dX4_soundOf_26 ?_
          refine lv_icmp_ge (tgt := 89) hx hb dX4_soundOf_27 (by decide) (fun hc => ?_) (fun hc => ?_)
          · have hf := ite_t hc hf
            exact hE t x1 x2 x3 _ _ _ hT (lv_sub hl [0, 1, 2, 3] rfl) hf
          · have hf := ite_f hc hf
            refine lv_iload_n hx hb dX4_soundOf_30 rfl (lv_at hl 1 rfl) ?_
            refine lv_iload_n hx hb dX4_soundOf_31 rfl (lv_at hl 3 rfl) ?_
            obtain ⟨w_32, h_32, hf⟩ := bind_e hf
            refine s_calli (vs := [.int x1, .int x3]) (rest := []) C (fun q h => Or.inr h) hT (fun sz => mX4_isOf l N x1 x3 _ h_32 sz) (va_cwS 2 C.2.2.2.2 (lw_S q1629 q1630 q129 q1631) rfl rfl rfl hdX4_isOf ⟨Nat.le_of_ble_eq_true rfl, Nat.le_of_ble_eq_true rfl⟩) rfl hl.1 rfl (Nat.le_of_ble_eq_true rfl) dX4_soundOf_32 ⟨Nat.zero_le _, Nat.zero_le _⟩ (fun H locs hT => ?_)
            refine lv_if_eq (tgt := 83) hx hb dX4_soundOf_35 (by decide) (fun hc => ?_) (fun hc => ?_)
            · have hf := ite_t hc hf
              obtain ⟨x4_83, ex⟩ : ∃ y : Int32, y = (x4 + (1 : Int32)) := ⟨_, rfl⟩
              have hf := lett_e ex hf
              refine lv_iinc (v := x4_83) (lv' := [(4, .int x4_83), (0, .ref (a 42)), (1, .int x1), (2, .int x2), (3, .int x3)]) hx hb dX4_soundOf_83 hl (k := 4) rfl (by rw [ex]; rfl) (by decide) rfl (fun ls hl => ?_)
              refine lv_goto (tgt := 19) hx hb dX4_soundOf_86 (by decide) ?_
              exact ih t x1 x2 x3 x4_83 _ _ _ hT (lv_sub hl [1, 2, 3, 4, 0] rfl) hf
            · have hf := ite_f hc hf
              refine lv_iload_n hx hb dX4_soundOf_38 rfl (lv_at hl 1 rfl) ?_
              refine lv_iload hx hb dX4_soundOf_39 (lv_at hl 4 rfl) ?_
              obtain ⟨w_41, h_41, hf⟩ := bind_e hf
              refine s_calli (vs := [.int x1, .int x4]) (rest := []) C (fun q h => Or.inr h) hT (fun sz => mX4_isOf l N x1 x4 _ h_41 sz) (va_cwS 2 C.2.2.2.2 (lw_S q1629 q1630 q129 q1631) rfl rfl rfl hdX4_isOf ⟨Nat.le_of_ble_eq_true rfl, Nat.le_of_ble_eq_true rfl⟩) rfl hl.1 rfl (Nat.le_of_ble_eq_true rfl) dX4_soundOf_41 ⟨Nat.zero_le _, Nat.zero_le _⟩ (fun H locs hT => ?_)
              refine lv_if_ne (tgt := 50) hx hb dX4_soundOf_44 (by decide) (fun hc => ?_) (fun hc => ?_)
              · have hf := ite_t hc hf
                refine lv_aload_n hx hb dX4_soundOf_50 rfl (lv_at hl 0 rfl) ?_
                refine lv_iload_n hx hb dX4_soundOf_51 rfl (lv_at hl 3 rfl) ?_
                obtain ⟨w_52, h_52, hf⟩ := bind_e hf
                refine t_calli (vs := [.int x3]) (rest := []) C hV hT (fun sz => mX4_partOf l D d a N t x3 _ h_52 sz) (cwV 1 C.2.2.2.2 (lw_V q1569 q1571 qs80 q129 q1572) rfl rfl rfl hdX4_partOf ⟨Nat.le_of_ble_eq_true rfl, Nat.le_of_ble_eq_true rfl⟩) rfl hl.1 rfl (Nat.le_of_ble_eq_true rfl) dX4_soundOf_52 (fun H locs hT => ?_)
                refine lv_aload_n hx hb dX4_soundOf_55 rfl (lv_at hl 0 rfl) ?_
                refine lv_iload hx hb dX4_soundOf_56 (lv_at hl 4 rfl) ?_
                obtain ⟨w_58, h_58, hf⟩ := bind_e hf
                refine t_calli (vs := [.int x4]) (rest := [.int w_52.1]) C hV hT (fun sz => mX4_partOf l D d a N w_52.2 x4 _ h_58 sz) (cwV 1 C.2.2.2.2 (lw_V q1569 q1571 qs80 q129 q1572) rfl rfl rfl hdX4_partOf ⟨Nat.le_of_ble_eq_true rfl, Nat.le_of_ble_eq_true rfl⟩) rfl hl.1 rfl (Nat.le_of_ble_eq_true rfl) dX4_soundOf_58 (fun H locs hT => ?_)
                refine lv_isub hx hb dX4_soundOf_61 ?_
                refine lv_topi (fun x5_62 ex => ?_)
                have hf := lett_e ex hf
                refine lv_istore (lv' := [(5, .int x5_62), (0, .ref (a 42)), (1, .int x1), (2, .int x2), (3, .int x3), (4, .int x4)]) hx hb dX4_soundOf_62 hl (by decide) rfl (fun ls hl => ?_)
                refine lv_iload_n hx hb dX4_soundOf_64 rfl (lv_at hl 3 rfl) ?_
                refine lv_iload hx hb dX4_soundOf_65 (lv_at hl 0 rfl) ?_
                refine lv_if_ge (tgt := 76) hx hb dX4_soundOf_67 (by decide) (fun hc => ?_) (fun hc => ?_)
                · have hf := ite_t hc hf
                  refine lv_iload hx hb dX4_soundOf_76 (lv_at hl 0 rfl) ?_
                  exact hJ78 w_58.2 x1 x3 x4 x5_62 x2 _ _ _ hT (lv_sub hl [1, 2, 4, 5] rfl) hf
                · have hf := ite_f hc hf
                  refine lv_iload hx hb dX4_soundOf_70 (lv_at hl 0 rfl) ?_
                  refine lv_ineg hx hb dX4_soundOf_72 ?_
                  refine lv_goto (tgt := 78) hx hb dX4_soundOf_73 (by decide) ?_
                  exact hJ78 w_58.2 x1 x3 x4 (-x5_62) x2 _ _ _ hT (lv_sub hl [1, 2, 4, 5] rfl) hf
              · have hf := ite_f (fun q => q hc) hf
                refine lv_goto (tgt := 83) hx hb dX4_soundOf_47 (by decide) ?_
                obtain ⟨x4_83, ex⟩ : ∃ y : Int32, y = (x4 + (1 : Int32)) := ⟨_, rfl⟩
                have hf := lett_e ex hf
                refine lv_iinc (v := x4_83) (lv' := [(4, .int x4_83), (0, .ref (a 42)), (1, .int x1), (2, .int x2), (3, .int x3)]) hx hb dX4_soundOf_83 hl (k := 4) rfl (by rw [ex]; rfl) (by decide) rfl (fun ls hl => ?_)
                refine lv_goto (tgt := 19) hx hb dX4_soundOf_86 (by decide) ?_
                exact ih t x1 x2 x3 x4_83 _ _ _ hT (lv_sub hl [1, 2, 3, 4, 0] rfl) hf
      intro t x1 x2 x3 H locs ls hT hl hf
      replace hf : fX4_soundOf_B4 N K (fX4_soundOf_L4 N K n) t x1 x2 x3 = some w := hf
      unfold fX4_soundOf_B4 at hf
      refine lv_iload_n hx hb dX4_soundOf_4 rfl (lv_at hl 3 rfl) ?_
      refine lv_aload_n hx hb dX4_soundOf_5 rfl (lv_at hl 0 rfl) ?_
      refine t_get C hV hT 20 (by decide) q1267 rfl dX4_soundOf_6 ?_
      refine lv_iconst (v := 3) hx hb dX4_soundOf_9 (by decide) ?_
      refine g_ild C hV hT 10 3 rfl (vin_of (by decide)) (by decide) dX4_soundOf_10 ?_
      refine lv_icmp_ge (tgt := 95) hx hb dX4_soundOf_11 (by decide) (fun hc => ?_) (fun hc => ?_)
      · have hf := ite_t hc hf
        exact hE t x2 _ _ _ hT (lv_sub hl [2] rfl) hf
      · have hf := ite_f hc hf
        refine lv_iload_n hx hb dX4_soundOf_14 rfl (lv_at hl 3 rfl) ?_
        refine lv_iconst (v := 1) hx hb dX4_soundOf_15 (by decide) ?_
        refine lv_iadd hx hb dX4_soundOf_16 ?_
        refine lv_topi (fun x4_17 ex => ?_)
        have hf := lett_e ex hf
        refine lv_istore (lv' := [(4, .int x4_17), (0, .ref (a 42)), (1, .int x1), (2, .int x2), (3, .int x3)]) hx hb dX4_soundOf_17 hl (by decide) rfl (fun ls hl => ?_)
        refine hL19 _ (fun t x1 x2 x3 H locs ls hT hl hf => ?_) N t x1 x2 x3 x4_17 _ _ _ hT (lv_sub hl [1, 2, 3, 4, 0] rfl) hf
        obtain ⟨x3_89, ex⟩ : ∃ y : Int32, y = (x3 + (1 : Int32)) := ⟨_, rfl⟩
        have hf := lett_e ex hf
        refine lv_iinc (v := x3_89) (lv' := [(3, .int x3_89), (0, .ref (a 42)), (1, .int x1), (2, .int x2)]) hx hb dX4_soundOf_89 hl (k := 3) rfl (by rw [ex]; rfl) (by decide) rfl (fun ls hl => ?_)
        refine lv_goto (tgt := 4) hx hb dX4_soundOf_92 (by decide) ?_
        exact ih t x1 x2 x3_89 _ _ _ hT (lv_sub hl [1, 2, 3, 0] rfl) hf
  refine W.eq (by rw [hargs]) (t_in (vs := [.ref (a 42), .int x1]) (n := 6) (Nat.le_of_ble_eq_true rfl) (fun ls hl => ?_))
  have hl : lv_has ls 6 [(0, .ref (a 42)), (1, .int x1)] := hl
  unfold fX4_soundOf at hf
  skip
  refine lv_iconst (v := 0) hx hb dX4_soundOf_0 (by decide) ?_
  refine lv_istore_n (lv' := [(2, .int (0 : Int32)), (0, .ref (a 42)), (1, .int x1)]) hx hb dX4_soundOf_1 rfl hl (by decide) rfl (fun ls hl => ?_)
  refine lv_iconst (v := 0) hx hb dX4_soundOf_2 (by decide) ?_
  refine lv_istore_n (lv' := [(3, .int (0 : Int32)), (2, .int (0 : Int32)), (0, .ref (a 42)), (1, .int x1)]) hx hb dX4_soundOf_3 rfl hl (by decide) rfl (fun ls hl => ?_)
  refine hL4 _ (fun t x2 H locs ls hT hl hf => ?_) N t x1 (0 : Int32) (0 : Int32) _ _ _ hT (lv_sub hl [2, 3, 1, 0] rfl) hf
  refine lv_iload_n hx hb dX4_soundOf_95 rfl (lv_at hl 0 rfl) ?_
  exact t_iret C hT hf hr hlocks dX4_soundOf_96
def fX4_sumOver_B4 (N : Nat) (K : TS → Int32 → Option (Int32 × TS)) (kb : TS → Int32 → Int32 → Int32 → Option (Int32 × TS)) (t : TS) (x1 : Int32) (x2 : Int32) (x3 : Int32) : Option (Int32 × TS) :=
  (if (t.2.1 20 3) ≤ x3 then (K t x2) else (ix (((11 : Int32) + ((5 : Int32) * x3)) + x1) 121 (lett (x2 + (t.2.1 20 ((((11 : Int32) + ((5 : Int32) * x3)) + x1)).toNatClampNeg)) fun x2_29 => (lett (x3 + (1 : Int32)) fun x3_30 => (kb t x1 x2_29 x3_30)))))
def fX4_sumOver_L4 (N : Nat) (K : TS → Int32 → Option (Int32 × TS)) : Nat → TS → Int32 → Int32 → Int32 → Option (Int32 × TS)
  | 0 => fun _ _ _ _ => none
  | n + 1 => fun t x1 x2 x3 => fX4_sumOver_B4 N K (fX4_sumOver_L4 N K n) t x1 x2 x3
def fX4_sumOver (N : Nat) (t : TS) (x1 : Int32) : Option (Int32 × TS) :=
  (fX4_sumOver_L4 N (fun t x2 => (some (x2, t))) N t x1 (0 : Int32) (0 : Int32))
theorem hdX4_sumOver : yX4_sumOver.cls = RX4 ∧ yX4_sumOver.cls ≠ "java/lang/invoke/MethodHandle" ∧ yX4_sumOver.cls ≠ "java/lang/invoke/VarHandle" ∧ (parseMethodDescriptor yX4_sumOver.desc).map (fun d => d.parameters.length) = some 1 := by decide +kernel
set_option maxHeartbeats 4000000 in
theorem mX4_sumOver (l : Launch) (D : va_G) (d : Nat → ClassId) (a : Nat → Nat) (N : Nat) (t : TS) (x1 : Int32) (w : Int32 × TS) (hf : fX4_sumOver N t x1 = some w) (sz : Nat) : Met l yX4_sumOver (ws_ yX4_sumOver cX4_sumOver 4 (some .int)) (rm_ 0 0) (PcT D d a [.int x1] t sz) (QiT D d a w.1 w.2 sz) 0 0 (AT a sz) := by
  refine Met.ofW (cc := cX4_sumOver) (maxL := 4) (ret := (some .int)) plX4 rfl ?_
  intro p e s m args below meth c s₁ B hml hv
  obtain ⟨C, hV, hT, hr, hlocks, hargs, rfl⟩ := t_enter B hml rfl hv
  have hx := C.1
  have hb := C.2.1
  show W p l e (rm_ 0 0) s m args below meth c s.heap [] 0 0 (MQ below (QiT D d a w.1 w.2 s.heap.size) args s 0 0 (AT a s.heap.size)) _
  have hL4 : ∀ (K : TS → Int32 → Option (Int32 × TS)), (∀ (t : TS) (x2 : Int32) (H : Heap) (locs : List Loc) (ls : Array Slot), TH D (AT a s.heap.size) s.heap (wT d a t) H locs → lv_has ls 4 [(2, .int x2)] → K t x2 = some w → W p l e (rm_ 0 0) s m args below meth c H locs 0 0 (MQ below (QiT D d a w.1 w.2 s.heap.size) args s 0 0 (AT a s.heap.size)) (F0 m 36 ls [])) → ∀ (n : Nat) (t : TS) (x1 : Int32) (x2 : Int32) (x3 : Int32) (H : Heap) (locs : List Loc) (ls : Array Slot), TH D (AT a s.heap.size) s.heap (wT d a t) H locs → lv_has ls 4 [(0, .ref (a 42)), (1, .int x1), (2, .int x2), (3, .int x3)] → fX4_sumOver_L4 N K n t x1 x2 x3 = some w → W p l e (rm_ 0 0) s m args below meth c H locs 0 0 (MQ below (QiT D d a w.1 w.2 s.heap.size) args s 0 0 (AT a s.heap.size)) (F0 m 4 ls []) := by
    intro K hE n
    induction n with
    | zero =>
      intro t x1 x2 x3 H locs ls hT hl hf
      cases hf
    | succ n ih =>
      intro t x1 x2 x3 H locs ls hT hl hf
      replace hf : fX4_sumOver_B4 N K (fX4_sumOver_L4 N K n) t x1 x2 x3 = some w := hf
      unfold fX4_sumOver_B4 at hf
      refine lv_iload_n hx hb dX4_sumOver_4 rfl (lv_at hl 3 rfl) ?_
      refine lv_aload_n hx hb dX4_sumOver_5 rfl (lv_at hl 0 rfl) ?_
      refine t_get C hV hT 20 (by decide) q1267 rfl dX4_sumOver_6 ?_
      refine lv_iconst (v := 3) hx hb dX4_sumOver_9 (by decide) ?_
      refine g_ild C hV hT 10 3 rfl (vin_of (by decide)) (by decide) dX4_sumOver_10 ?_
      refine lv_icmp_ge (tgt := 36) hx hb dX4_sumOver_11 (by decide) (fun hc => ?_) (fun hc => ?_)
      · have hf := ite_t hc hf
        exact hE t x2 _ _ _ hT (lv_sub hl [2] rfl) hf
      · have hf := ite_f hc hf
        refine lv_iload_n hx hb dX4_sumOver_14 rfl (lv_at hl 2 rfl) ?_
        refine lv_aload_n hx hb dX4_sumOver_15 rfl (lv_at hl 0 rfl) ?_
        refine t_get C hV hT 20 (by decide) q1267 rfl dX4_sumOver_16 ?_
        refine lv_bipush (v := 11) hx hb dX4_sumOver_19 (by decide) ?_
        refine lv_iconst (v := 5) hx hb dX4_sumOver_21 (by decide) ?_
        refine lv_iload_n hx hb dX4_sumOver_22 rfl (lv_at hl 3 rfl) ?_
        refine lv_imul hx hb dX4_sumOver_23 ?_
        refine lv_iadd hx hb dX4_sumOver_24 ?_
        refine lv_iload_n hx hb dX4_sumOver_25 rfl (lv_at hl 1 rfl) ?_
        refine lv_iadd hx hb dX4_sumOver_26 ?_
        obtain ⟨hi, hf⟩ := ix_e hf
        refine g_ild C hV hT 10 _ rfl hi rfl dX4_sumOver_27 ?_
        refine lv_iadd hx hb dX4_sumOver_28 ?_
        refine lv_topi (fun x2_29 ex => ?_)
        have hf := lett_e ex hf
        refine lv_istore_n (lv' := [(2, .int x2_29), (0, .ref (a 42)), (1, .int x1), (3, .int x3)]) hx hb dX4_sumOver_29 rfl hl (by decide) rfl (fun ls hl => ?_)
        obtain ⟨x3_30, ex⟩ : ∃ y : Int32, y = (x3 + (1 : Int32)) := ⟨_, rfl⟩
        have hf := lett_e ex hf
        refine lv_iinc (v := x3_30) (lv' := [(3, .int x3_30), (2, .int x2_29), (0, .ref (a 42)), (1, .int x1)]) hx hb dX4_sumOver_30 hl (k := 3) rfl (by rw [ex]; rfl) (by decide) rfl (fun ls hl => ?_)
        refine lv_goto (tgt := 4) hx hb dX4_sumOver_33 (by decide) ?_
        exact ih t x1 x2_29 x3_30 _ _ _ hT (lv_sub hl [2, 3, 1, 0] rfl) hf
  refine W.eq (by rw [hargs]) (t_in (vs := [.ref (a 42), .int x1]) (n := 4) (Nat.le_of_ble_eq_true rfl) (fun ls hl => ?_))
  have hl : lv_has ls 4 [(0, .ref (a 42)), (1, .int x1)] := hl
  unfold fX4_sumOver at hf
  skip
  refine lv_iconst (v := 0) hx hb dX4_sumOver_0 (by decide) ?_
  refine lv_istore_n (lv' := [(2, .int (0 : Int32)), (0, .ref (a 42)), (1, .int x1)]) hx hb dX4_sumOver_1 rfl hl (by decide) rfl (fun ls hl => ?_)
  refine lv_iconst (v := 0) hx hb dX4_sumOver_2 (by decide) ?_
  refine lv_istore_n (lv' := [(3, .int (0 : Int32)), (2, .int (0 : Int32)), (0, .ref (a 42)), (1, .int x1)]) hx hb dX4_sumOver_3 rfl hl (by decide) rfl (fun ls hl => ?_)
  refine hL4 _ (fun t x2 H locs ls hT hl hf => ?_) N t x1 (0 : Int32) (0 : Int32) _ _ _ hT (lv_sub hl [2, 3, 1, 0] rfl) hf
  refine lv_iload_n hx hb dX4_sumOver_36 rfl (lv_at hl 0 rfl) ?_
  exact t_iret C hT hf hr hlocks dX4_sumOver_37
