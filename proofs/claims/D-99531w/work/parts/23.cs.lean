set_option maxRecDepth 100000
theorem plX0 : plainName RX0 = true := by decide +kernel
theorem plJ14 : plainName RJ14 = true := by decide +kernel
theorem plJ2 : plainName RJ2 = true := by decide +kernel
theorem plX1 : plainName RX1 = true := by decide +kernel
theorem plX2 : plainName RX2 = true := by decide +kernel
def fX0_in (N : Nat) (x0 : Int64) (x2 : Int64) (x4 : Int64) : Option (Int32) :=
  (if (lg_cmp x0 x2) < 0 then (some (0 : Int32)) else (if 0 < (lg_cmp x0 x4) then (some (0 : Int32)) else (some (1 : Int32))))
theorem hdX0_in : yX0_in.cls ≠ "java/lang/invoke/MethodHandle" ∧ yX0_in.cls ≠ "java/lang/invoke/VarHandle" ∧ (parseMethodDescriptor yX0_in.desc).map (fun d => d.parameters.length) = some 3 := by decide +kernel
set_option maxHeartbeats 4000000 in
theorem mX0_in (l : Launch) (N : Nat) (x0 : Int64) (x2 : Int64) (x4 : Int64) (w : Int32) (hf : fX0_in N x0 x2 x4 = some w) (sz : Nat) : Met l yX0_in (ws_ yX0_in cX0_in 6 (some .boolean)) (rm_ 0 0) (PcS [.long x0, .long x2, .long x4] sz) (QiS w sz) 0 0 (fun q => sz ≤ q) := by
  refine Met.ofW (cc := cX0_in) (maxL := 6) (ret := (some .boolean)) plX0 rfl ?_
  intro p e s m args below meth c s₁ B hml hv
  obtain ⟨C, hT, hr, hlocks, hargs, rfl⟩ := s_enter (D := db_D0) (own := RX0) B hml rfl hv
  have hx := C.1
  have hb := C.2.1
  show W p l e (rm_ 0 0) s m args below meth c s.heap [] 0 0 (MQ below (QiS w s.heap.size) args s 0 0 (fun q => s.heap.size ≤ q)) _
  refine W.eq (by rw [hargs]) (t_in (vs := [.long x0, .long x2, .long x4]) (n := 6) (Nat.le_of_ble_eq_true rfl) (fun ls hl => ?_))
  have hl : lv_has ls 6 [(0, .long x0), (2, .long x2), (4, .long x4)] := hl
  unfold fX0_in at hf
  refine lv_lload_n hx hb dX0_in_0 rfl (lv_at hl 0 rfl) ?_
  refine lv_lload_n hx hb dX0_in_1 rfl (lv_at hl 1 rfl) ?_
  refine W.lcmp hx hb dX0_in_2 ?_
  refine lv_if_lt (tgt := 17) hx hb dX0_in_3 (by decide) (fun hc => ?_) (fun hc => ?_)
  · have hf := ite_t hc hf
    refine lv_iconst (v := 0) hx hb dX0_in_17 (by decide) ?_
    exact s_zret C hT hf (Or.inl rfl) hr hlocks dX0_in_18
  · have hf := ite_f hc hf
    refine lv_lload_n hx hb dX0_in_6 rfl (lv_at hl 0 rfl) ?_
    refine lv_lload hx hb dX0_in_7 (lv_at hl 2 rfl) ?_
    refine W.lcmp hx hb dX0_in_9 ?_
    refine lv_if_gt (tgt := 17) hx hb dX0_in_10 (by decide) (fun hc => ?_) (fun hc => ?_)
    · have hf := ite_t hc hf
      refine lv_iconst (v := 0) hx hb dX0_in_17 (by decide) ?_
      exact s_zret C hT hf (Or.inl rfl) hr hlocks dX0_in_18
    · have hf := ite_f hc hf
      refine lv_iconst (v := 1) hx hb dX0_in_13 (by decide) ?_
      refine lv_goto (tgt := 18) hx hb dX0_in_14 (by decide) ?_
      exact s_zret C hT hf (Or.inr rfl) hr hlocks dX0_in_18
def fX0_has (N : Nat) (x0 : Int32) (x1 : Int32) : Option (Int32) :=
  (if ¬ ((x0 >>> (x1 &&& 31)) &&& (1 : Int32)) = (1 : Int32) then (some (0 : Int32)) else (some (1 : Int32)))
theorem hdX0_has : yX0_has.cls ≠ "java/lang/invoke/MethodHandle" ∧ yX0_has.cls ≠ "java/lang/invoke/VarHandle" ∧ (parseMethodDescriptor yX0_has.desc).map (fun d => d.parameters.length) = some 2 := by decide +kernel
set_option maxHeartbeats 4000000 in
theorem mX0_has (l : Launch) (N : Nat) (x0 : Int32) (x1 : Int32) (w : Int32) (hf : fX0_has N x0 x1 = some w) (sz : Nat) : Met l yX0_has (ws_ yX0_has cX0_has 2 (some .boolean)) (rm_ 0 0) (PcS [.int x0, .int x1] sz) (QiS w sz) 0 0 (fun q => sz ≤ q) := by
  refine Met.ofW (cc := cX0_has) (maxL := 2) (ret := (some .boolean)) plX0 rfl ?_
  intro p e s m args below meth c s₁ B hml hv
  obtain ⟨C, hT, hr, hlocks, hargs, rfl⟩ := s_enter (D := db_D0) (own := RX0) B hml rfl hv
  have hx := C.1
  have hb := C.2.1
  show W p l e (rm_ 0 0) s m args below meth c s.heap [] 0 0 (MQ below (QiS w s.heap.size) args s 0 0 (fun q => s.heap.size ≤ q)) _
  refine W.eq (by rw [hargs]) (t_in (vs := [.int x0, .int x1]) (n := 2) (Nat.le_of_ble_eq_true rfl) (fun ls hl => ?_))
  have hl : lv_has ls 2 [(0, .int x0), (1, .int x1)] := hl
  unfold fX0_has at hf
  refine lv_iload_n hx hb dX0_has_0 rfl (lv_at hl 0 rfl) ?_
  refine lv_iload_n hx hb dX0_has_1 rfl (lv_at hl 1 rfl) ?_
  refine lv_ishr hx hb dX0_has_2 ?_
  refine lv_iconst (v := 1) hx hb dX0_has_3 (by decide) ?_
  refine lv_iand hx hb dX0_has_4 ?_
  refine lv_iconst (v := 1) hx hb dX0_has_5 (by decide) ?_
  refine lv_icmp_ne (tgt := 13) hx hb dX0_has_6 (by decide) (fun hc => ?_) (fun hc => ?_)
  · have hf := ite_t hc hf
    refine lv_iconst (v := 0) hx hb dX0_has_13 (by decide) ?_
    exact s_zret C hT hf (Or.inl rfl) hr hlocks dX0_has_14
  · have hf := ite_f (fun q => q hc) hf
    refine lv_iconst (v := 1) hx hb dX0_has_9 (by decide) ?_
    refine lv_goto (tgt := 14) hx hb dX0_has_10 (by decide) ?_
    exact s_zret C hT hf (Or.inr rfl) hr hlocks dX0_has_14
def fX0_bit (N : Nat) (x0 : Int32) : Option (Int32) :=
  (if x0 = 0 then (some (0 : Int32)) else (some (1 : Int32)))
theorem hdX0_bit : yX0_bit.cls ≠ "java/lang/invoke/MethodHandle" ∧ yX0_bit.cls ≠ "java/lang/invoke/VarHandle" ∧ (parseMethodDescriptor yX0_bit.desc).map (fun d => d.parameters.length) = some 1 := by decide +kernel
set_option maxHeartbeats 4000000 in
theorem mX0_bit (l : Launch) (N : Nat) (x0 : Int32) (w : Int32) (hf : fX0_bit N x0 = some w) (sz : Nat) : Met l yX0_bit (ws_ yX0_bit cX0_bit 1 (some .int)) (rm_ 0 0) (PcS [.int x0] sz) (QiS w sz) 0 0 (fun q => sz ≤ q) := by
  refine Met.ofW (cc := cX0_bit) (maxL := 1) (ret := (some .int)) plX0 rfl ?_
  intro p e s m args below meth c s₁ B hml hv
  obtain ⟨C, hT, hr, hlocks, hargs, rfl⟩ := s_enter (D := db_D0) (own := RX0) B hml rfl hv
  have hx := C.1
  have hb := C.2.1
  show W p l e (rm_ 0 0) s m args below meth c s.heap [] 0 0 (MQ below (QiS w s.heap.size) args s 0 0 (fun q => s.heap.size ≤ q)) _
  refine W.eq (by rw [hargs]) (t_in (vs := [.int x0]) (n := 1) (Nat.le_of_ble_eq_true rfl) (fun ls hl => ?_))
  have hl : lv_has ls 1 [(0, .int x0)] := hl
  unfold fX0_bit at hf
  refine lv_iload_n hx hb dX0_bit_0 rfl (lv_at hl 0 rfl) ?_
  refine lv_if_eq (tgt := 8) hx hb dX0_bit_1 (by decide) (fun hc => ?_) (fun hc => ?_)
  · have hf := ite_t hc hf
    refine lv_iconst (v := 0) hx hb dX0_bit_8 (by decide) ?_
    exact s_iret C hT hf hr hlocks dX0_bit_9
  · have hf := ite_f hc hf
    refine lv_iconst (v := 1) hx hb dX0_bit_4 (by decide) ?_
    refine lv_goto (tgt := 9) hx hb dX0_bit_5 (by decide) ?_
    exact s_iret C hT hf hr hlocks dX0_bit_9
def fJ14_bitCount (N : Nat) (x0 : Int32) : Option (Int32) :=
  (lett (x0 - (((x0).toUInt32 >>> (((1 : Int32)).toUInt32 &&& Int32.toUInt32 31)).toInt32 &&& (1431655765 : Int32))) fun x0_9 => (lett ((x0_9 &&& (858993459 : Int32)) + (((x0_9).toUInt32 >>> (((2 : Int32)).toUInt32 &&& Int32.toUInt32 31)).toInt32 &&& (858993459 : Int32))) fun x0_23 => (lett ((x0_23 + ((x0_23).toUInt32 >>> (((4 : Int32)).toUInt32 &&& Int32.toUInt32 31)).toInt32) &&& (252645135 : Int32)) fun x0_33 => (lett (x0_33 + ((x0_33).toUInt32 >>> (((8 : Int32)).toUInt32 &&& Int32.toUInt32 31)).toInt32) fun x0_40 => (lett (x0_40 + ((x0_40).toUInt32 >>> (((16 : Int32)).toUInt32 &&& Int32.toUInt32 31)).toInt32) fun x0_47 => (some (x0_47 &&& (63 : Int32))))))))
theorem hdJ14_bitCount : yJ14_bitCount.cls ≠ "java/lang/invoke/MethodHandle" ∧ yJ14_bitCount.cls ≠ "java/lang/invoke/VarHandle" ∧ (parseMethodDescriptor yJ14_bitCount.desc).map (fun d => d.parameters.length) = some 1 := by decide +kernel
set_option maxHeartbeats 4000000 in
theorem mJ14_bitCount (l : Launch) (N : Nat) (x0 : Int32) (w : Int32) (hf : fJ14_bitCount N x0 = some w) (sz : Nat) : Met l yJ14_bitCount (ws_ yJ14_bitCount cJ14_bitCount 1 (some .int)) (rm_ 0 0) (PcS [.int x0] sz) (QiS w sz) 0 0 (fun q => sz ≤ q) := by
  refine Met.ofW (cc := cJ14_bitCount) (maxL := 1) (ret := (some .int)) plJ14 rfl ?_
  intro p e s m args below meth c s₁ B hml hv
  obtain ⟨C, hT, hr, hlocks, hargs, rfl⟩ := s_enter (D := db_D0) (own := RJ14) B hml rfl hv
  have hx := C.1
  have hb := C.2.1
  show W p l e (rm_ 0 0) s m args below meth c s.heap [] 0 0 (MQ below (QiS w s.heap.size) args s 0 0 (fun q => s.heap.size ≤ q)) _
  refine W.eq (by rw [hargs]) (t_in (vs := [.int x0]) (n := 1) (Nat.le_of_ble_eq_true rfl) (fun ls hl => ?_))
  have hl : lv_has ls 1 [(0, .int x0)] := hl
  unfold fJ14_bitCount at hf
  refine lv_iload_n hx hb dJ14_bitCount_0 rfl (lv_at hl 0 rfl) ?_
  refine lv_iload_n hx hb dJ14_bitCount_1 rfl (lv_at hl 0 rfl) ?_
  refine lv_iconst (v := 1) hx hb dJ14_bitCount_2 (by decide) ?_
  refine lv_iushr hx hb dJ14_bitCount_3 rfl ?_
  refine g_ldcw (v := 1431655765) C q961 dJ14_bitCount_4 ?_
  refine lv_iand hx hb dJ14_bitCount_7 ?_
  refine lv_isub hx hb dJ14_bitCount_8 ?_
  refine lv_topi (fun x0_9 ex => ?_)
  have hf := lett_e ex hf
  refine lv_istore_n (lv' := [(0, .int x0_9)]) hx hb dJ14_bitCount_9 rfl hl (by decide) rfl (fun ls hl => ?_)
  refine lv_iload_n hx hb dJ14_bitCount_10 rfl (lv_at hl 0 rfl) ?_
  refine g_ldcw (v := 858993459) C q962 dJ14_bitCount_11 ?_
  refine lv_iand hx hb dJ14_bitCount_14 ?_
  refine lv_iload_n hx hb dJ14_bitCount_15 rfl (lv_at hl 0 rfl) ?_
  refine lv_iconst (v := 2) hx hb dJ14_bitCount_16 (by decide) ?_
  refine lv_iushr hx hb dJ14_bitCount_17 rfl ?_
  refine g_ldcw (v := 858993459) C q962 dJ14_bitCount_18 ?_
  refine lv_iand hx hb dJ14_bitCount_21 ?_
  refine lv_iadd hx hb dJ14_bitCount_22 ?_
  refine lv_topi (fun x0_23 ex => ?_)
  have hf := lett_e ex hf
  refine lv_istore_n (lv' := [(0, .int x0_23)]) hx hb dJ14_bitCount_23 rfl hl (by decide) rfl (fun ls hl => ?_)
  refine lv_iload_n hx hb dJ14_bitCount_24 rfl (lv_at hl 0 rfl) ?_
  refine lv_iload_n hx hb dJ14_bitCount_25 rfl (lv_at hl 0 rfl) ?_
  refine lv_iconst (v := 4) hx hb dJ14_bitCount_26 (by decide) ?_
  refine lv_iushr hx hb dJ14_bitCount_27 rfl ?_
  refine lv_iadd hx hb dJ14_bitCount_28 ?_
  refine g_ldcw (v := 252645135) C q963 dJ14_bitCount_29 ?_
  refine lv_iand hx hb dJ14_bitCount_32 ?_
  refine lv_topi (fun x0_33 ex => ?_)
  have hf := lett_e ex hf
  refine lv_istore_n (lv' := [(0, .int x0_33)]) hx hb dJ14_bitCount_33 rfl hl (by decide) rfl (fun ls hl => ?_)
  refine lv_iload_n hx hb dJ14_bitCount_34 rfl (lv_at hl 0 rfl) ?_
  refine lv_iload_n hx hb dJ14_bitCount_35 rfl (lv_at hl 0 rfl) ?_
  refine lv_bipush (v := 8) hx hb dJ14_bitCount_36 (by decide) ?_
  refine lv_iushr hx hb dJ14_bitCount_38 rfl ?_
  refine lv_iadd hx hb dJ14_bitCount_39 ?_
  refine lv_topi (fun x0_40 ex => ?_)
  have hf := lett_e ex hf
  refine lv_istore_n (lv' := [(0, .int x0_40)]) hx hb dJ14_bitCount_40 rfl hl (by decide) rfl (fun ls hl => ?_)
  refine lv_iload_n hx hb dJ14_bitCount_41 rfl (lv_at hl 0 rfl) ?_
  refine lv_iload_n hx hb dJ14_bitCount_42 rfl (lv_at hl 0 rfl) ?_
  refine lv_bipush (v := 16) hx hb dJ14_bitCount_43 (by decide) ?_
  refine lv_iushr hx hb dJ14_bitCount_45 rfl ?_
  refine lv_iadd hx hb dJ14_bitCount_46 ?_
  refine lv_topi (fun x0_47 ex => ?_)
  have hf := lett_e ex hf
  refine lv_istore_n (lv' := [(0, .int x0_47)]) hx hb dJ14_bitCount_47 rfl hl (by decide) rfl (fun ls hl => ?_)
  refine lv_iload_n hx hb dJ14_bitCount_48 rfl (lv_at hl 0 rfl) ?_
  refine lv_bipush (v := 63) hx hb dJ14_bitCount_49 (by decide) ?_
  refine lv_iand hx hb dJ14_bitCount_51 ?_
  exact s_iret C hT hf hr hlocks dJ14_bitCount_52
def fJ2_size (N : Nat) (m0 : Int32) (n0 : Int32) : Option (Int32) :=
  (some n0)
theorem hdJ2_size : yJ2_size.cls = RJ2 ∧ yJ2_size.cls ≠ "java/lang/invoke/MethodHandle" ∧ yJ2_size.cls ≠ "java/lang/invoke/VarHandle" ∧ (parseMethodDescriptor yJ2_size.desc).map (fun d => d.parameters.length) = some 0 := by decide +kernel
set_option maxHeartbeats 4000000 in
theorem mJ2_size (l : Launch) (D : va_G) (d : Nat → ClassId) (sd : Nat) (b : Nat) (b2 : Nat) (N : Nat) (m0 : Int32) (n0 : Int32) (w : Int32) (hf : fJ2_size N m0 n0 = some w) (sz : Nat) : Met l yJ2_size (ws_ yJ2_size cJ2_size 1 (some .int)) (rm_ 0 0) (GPc D d sd [.ref b] [] (fun P => P b (.inr (4, [.int m0, .ref b2, .int n0]))) sz) (GQi D w [] [] sz) 0 0 (va_A [] sz) := by
  refine Met.ofW (cc := cJ2_size) (maxL := 1) (ret := (some .int)) plJ2 rfl ?_
  intro p e s m args below meth c s₁ B hml hv
  obtain ⟨C, hX, hR, hT, hr, hlocks, hargs, rfl⟩ := g_enter (own := RJ2) B hml rfl hv
  have hx := C.1
  have hb := C.2.1
  have hV := hX.1
  obtain ⟨A, hA0⟩ : ∃ A, A = va_A [] s.heap.size := ⟨_, rfl⟩
  rw [← hA0] at hX hR hT
  show W p l e (rm_ 0 0) s m args below meth c s.heap [] 0 0 (MQ below (GQi D w [] [] s.heap.size) args s 0 0 (va_A [] s.heap.size)) _
  rw [← hA0]
  refine W.eq (by rw [hargs]) (t_in (vs := [.ref b]) (n := 1) (Nat.le_of_ble_eq_true rfl) (fun ls hl => ?_))
  have hl : lv_has ls 1 [(0, .ref b)] := hl
  unfold fJ2_size at hf
  refine lv_aload_n hx hb dJ2_size_0 rfl (lv_at hl 0 rfl) ?_
  refine r_get C hV (hR.at hT.2.2) (ci := 4) rfl in_J2 2 (by decide) q185 rfl dJ2_size_1 ?_
  exact n_iret hA0 C hT hf hr hlocks dJ2_size_4
def fX1_roads (N : Nat) (j : JS) : Option (Int32) :=
  ((fJ2_size N (j.1 5) (j.1 0)).bind fun w_4 => (some w_4))
theorem hdX1_roads : yX1_roads.cls = RX1 ∧ yX1_roads.cls ≠ "java/lang/invoke/MethodHandle" ∧ yX1_roads.cls ≠ "java/lang/invoke/VarHandle" ∧ (parseMethodDescriptor yX1_roads.desc).map (fun d => d.parameters.length) = some 0 := by decide +kernel
set_option maxHeartbeats 4000000 in
theorem mX1_roads (l : Launch) (D : va_G) (d : Nat → ClassId) (sd : Nat) (ja : Nat → Nat) (N : Nat) (j : JS) (w : Int32) (hf : fX1_roads N j = some w) (sz : Nat) : Met l yX1_roads (ws_ yX1_roads cX1_roads 1 (some .int)) (rm_ 1 20) (GPc D d sd [.ref (ja 0)] [] (JAt d ja j) sz) (GQi D w [] [] sz) 0 0 (va_A [] sz) := by
  refine Met.ofW (cc := cX1_roads) (maxL := 1) (ret := (some .int)) plX1 rfl ?_
  intro p e s m args below meth c s₁ B hml hv
  obtain ⟨C, hX, hR, hT, hr, hlocks, hargs, rfl⟩ := g_enter (own := RX1) B hml rfl hv
  have hx := C.1
  have hb := C.2.1
  have hV := hX.1
  obtain ⟨A, hA0⟩ : ∃ A, A = va_A [] s.heap.size := ⟨_, rfl⟩
  rw [← hA0] at hX hR hT
  show W p l e (rm_ 1 20) s m args below meth c s.heap [] 0 0 (MQ below (GQi D w [] [] s.heap.size) args s 0 0 (va_A [] s.heap.size)) _
  rw [← hA0]
  have hJ := hR
  refine W.eq (by rw [hargs]) (t_in (vs := [.ref (ja 0)]) (n := 1) (Nat.le_of_ble_eq_true rfl) (fun ls hl => ?_))
  have hl : lv_has ls 1 [(0, .ref (ja 0))] := hl
  unfold fX1_roads at hf
  refine lv_aload_n hx hb dX1_roads_0 rfl (lv_at hl 0 rfl) ?_
  refine r_get C hV (hJ.1.at hT.2.2) (ci := 3) rfl in_X1 0 (by decide) q196 rfl dX1_roads_1 ?_
  obtain ⟨w_4, h_4, hf⟩ := bind_e hf
  refine g_calli (vs := []) (rest := []) C hX hT (A_new hA0) (Cut.none _) (hJ.2.1.step hT.2.2 (Anil (A_new hA0) hT.2.2.1)) (fun sz => mJ2_size l D d sd (ja 1) (ja 2) N (j.1 5) (j.1 0) _ h_4 sz) (cwV 0 C.2.2.2.2 (lw_V q587 q588 q589 q124 q590) rfl rfl rfl hdJ2_size ⟨Nat.le_of_ble_eq_true rfl, Nat.le_of_ble_eq_true rfl⟩) (g_recv hV (hJ.2.1.at hT.2.2) (ci := 4) rfl) rfl hl.1 rfl (Nat.le_of_ble_eq_true rfl) dX1_roads_4 ⟨Nat.zero_le _, Nat.zero_le _⟩ (fun H locs hT => ?_)
  exact n_iret hA0 C hT hf hr hlocks dX1_roads_7
def fX1_areFree_B2 (N : Nat) (j : JS) (K : Option (Int32)) (kb : Int32 → Int32 → Option (Int32)) (x1 : Int32) (x2 : Int32) : Option (Int32) :=
  ((fX1_roads N j).bind fun w_4 => (if w_4 ≤ x2 then (K ) else ((fX0_has N x1 x2).bind fun w_12 => (if w_12 = 0 then (lett (x2 + (1 : Int32)) fun x2_31 => (kb x1 x2_31)) else (ix x2 6 (if ((j.2 1 (x2).toNatClampNeg) &&& x1) = 0 then (lett (x2 + (1 : Int32)) fun x2_31 => (kb x1 x2_31)) else (some (0 : Int32))))))))
def fX1_areFree_L2 (N : Nat) (j : JS) (K : Option (Int32)) : Nat → Int32 → Int32 → Option (Int32)
  | 0 => fun _ _ => none
  | n + 1 => fun x1 x2 => fX1_areFree_B2 N j K (fX1_areFree_L2 N j K n) x1 x2
def fX1_areFree (N : Nat) (j : JS) (x1 : Int32) : Option (Int32) :=
  (fX1_areFree_L2 N j (some (1 : Int32)) N x1 (0 : Int32))
theorem hdX1_areFree : yX1_areFree.cls = RX1 ∧ yX1_areFree.cls ≠ "java/lang/invoke/MethodHandle" ∧ yX1_areFree.cls ≠ "java/lang/invoke/VarHandle" ∧ (parseMethodDescriptor yX1_areFree.desc).map (fun d => d.parameters.length) = some 1 := by decide +kernel
set_option maxHeartbeats 4000000 in
theorem mX1_areFree (l : Launch) (D : va_G) (d : Nat → ClassId) (sd : Nat) (ja : Nat → Nat) (N : Nat) (j : JS) (x1 : Int32) (w : Int32) (hf : fX1_areFree N j x1 = some w) (sz : Nat) : Met l yX1_areFree (ws_ yX1_areFree cX1_areFree 3 (some .boolean)) (rm_ 2 40) (GPc D d sd [.ref (ja 0), .int x1] [] (JAt d ja j) sz) (GQi D w [] [] sz) 0 0 (va_A [] sz) := by
  refine Met.ofW (cc := cX1_areFree) (maxL := 3) (ret := (some .boolean)) plX1 rfl ?_
  intro p e s m args below meth c s₁ B hml hv
  obtain ⟨C, hX, hR, hT, hr, hlocks, hargs, rfl⟩ := g_enter (own := RX1) B hml rfl hv
  have hx := C.1
  have hb := C.2.1
  have hV := hX.1
  obtain ⟨A, hA0⟩ : ∃ A, A = va_A [] s.heap.size := ⟨_, rfl⟩
  rw [← hA0] at hX hR hT
  show W p l e (rm_ 2 40) s m args below meth c s.heap [] 0 0 (MQ below (GQi D w [] [] s.heap.size) args s 0 0 (va_A [] s.heap.size)) _
  rw [← hA0]
  have hJ := hR
  have hL2 : ∀ (K : Option (Int32)), (∀  (H : Heap) (locs : List Loc) (ls : Array Slot), TH D A s.heap [] H locs → lv_has ls 3 [] → K  = some w → W p l e (rm_ 2 40) s m args below meth c H locs 0 0 (MQ below (GQi D w [] [] s.heap.size) args s 0 0 A) (F0 m 37 ls [])) → ∀ (n : Nat) (x1 : Int32) (x2 : Int32) (H : Heap) (locs : List Loc) (ls : Array Slot), TH D A s.heap [] H locs → lv_has ls 3 [(0, .ref (ja 0)), (1, .int x1), (2, .int x2)] → fX1_areFree_L2 N j K n x1 x2 = some w → W p l e (rm_ 2 40) s m args below meth c H locs 0 0 (MQ below (GQi D w [] [] s.heap.size) args s 0 0 A) (F0 m 2 ls []) := by
    intro K hE n
    induction n with
    | zero =>
      intro x1 x2 H locs ls hT hl hf
      cases hf
    | succ n ih =>
      intro x1 x2 H locs ls hT hl hf
      replace hf : fX1_areFree_B2 N j K (fX1_areFree_L2 N j K n) x1 x2 = some w := hf
      unfold fX1_areFree_B2 at hf
      refine lv_iload_n hx hb dX1_areFree_2 rfl (lv_at hl 2 rfl) ?_
      refine lv_aload_n hx hb dX1_areFree_3 rfl (lv_at hl 0 rfl) ?_
      obtain ⟨w_4, h_4, hf⟩ := bind_e hf
      refine g_calli (vs := []) (rest := [.int x2]) C hX hT (A_new hA0) (Cut.none _) (hJ.step hT.2.2 (Anil (A_new hA0) hT.2.2.1)) (fun sz => mX1_roads l D d sd ja N j _ h_4 sz) (cwV 0 C.2.2.2.2 (lw_V q1076 q584 q585 q121 q586) rfl rfl rfl hdX1_roads ⟨Nat.le_of_ble_eq_true rfl, Nat.le_of_ble_eq_true rfl⟩) (g_recv hV (hJ.1.at hT.2.2) (ci := 3) rfl) rfl hl.1 rfl (Nat.le_of_ble_eq_true rfl) dX1_areFree_4 ⟨Nat.zero_le _, Nat.zero_le _⟩ (fun H locs hT => ?_)
      refine lv_icmp_ge (tgt := 37) hx hb dX1_areFree_7 (by decide) (fun hc => ?_) (fun hc => ?_)
      · have hf := ite_t hc hf
        exact hE  _ _ _ hT (lv_sub hl [] rfl) hf
      · have hf := ite_f hc hf
        refine lv_iload_n hx hb dX1_areFree_10 rfl (lv_at hl 1 rfl) ?_
        refine lv_iload_n hx hb dX1_areFree_11 rfl (lv_at hl 2 rfl) ?_
        obtain ⟨w_12, h_12, hf⟩ := bind_e hf
        refine n_calli (vs := [.int x1, .int x2]) (rest := []) C (A_new hA0) hT (fun sz => mX0_has l N x1 x2 _ h_12 sz) ⟨va_cnB 2 C.2.2.2.2 (lw_meth q954) rfl rfl rfl (hX.2.1 _ q1077 rfl) (C.2.2.2.2 _ q120) hdX0_has ⟨Nat.le_of_ble_eq_true rfl, Nat.le_of_ble_eq_true rfl⟩, C.2.2.2.2 _ q953, trivial⟩ rfl hl.1 rfl (Nat.le_of_ble_eq_true rfl) dX1_areFree_12 ⟨Nat.zero_le _, Nat.zero_le _⟩ (fun H locs hT => ?_)
        refine lv_if_eq (tgt := 31) hx hb dX1_areFree_15 (by decide) (fun hc => ?_) (fun hc => ?_)
        · have hf := ite_t hc hf
          obtain ⟨x2_31, ex⟩ : ∃ y : Int32, y = (x2 + (1 : Int32)) := ⟨_, rfl⟩
          have hf := lett_e ex hf
          refine lv_iinc (v := x2_31) (lv' := [(2, .int x2_31), (0, .ref (ja 0)), (1, .int x1)]) hx hb dX1_areFree_31 hl (k := 2) rfl (by rw [ex]; rfl) (by decide) rfl (fun ls hl => ?_)
          refine lv_goto (tgt := 2) hx hb dX1_areFree_34 (by decide) ?_
          exact ih x1 x2_31 _ _ _ hT (lv_sub hl [1, 2, 0] rfl) hf
        · have hf := ite_f hc hf
          refine lv_aload_n hx hb dX1_areFree_18 rfl (lv_at hl 0 rfl) ?_
          refine r_get C hV (hJ.1.at hT.2.2) (ci := 3) rfl in_X1 1 (by decide) q199 rfl dX1_areFree_19 ?_
          refine lv_iload_n hx hb dX1_areFree_22 rfl (lv_at hl 2 rfl) ?_
          obtain ⟨hi, hf⟩ := ix_e hf
          refine r_ild C hV (hJ.2.2.1.at hT.2.2) _ hi rfl dX1_areFree_23 ?_
          refine lv_iload_n hx hb dX1_areFree_24 rfl (lv_at hl 1 rfl) ?_
          refine lv_iand hx hb dX1_areFree_25 ?_
          refine lv_if_eq (tgt := 31) hx hb dX1_areFree_26 (by decide) (fun hc => ?_) (fun hc => ?_)
          · have hf := ite_t hc hf
            obtain ⟨x2_31, ex⟩ : ∃ y : Int32, y = (x2 + (1 : Int32)) := ⟨_, rfl⟩
            have hf := lett_e ex hf
            refine lv_iinc (v := x2_31) (lv' := [(2, .int x2_31), (0, .ref (ja 0)), (1, .int x1)]) hx hb dX1_areFree_31 hl (k := 2) rfl (by rw [ex]; rfl) (by decide) rfl (fun ls hl => ?_)
            refine lv_goto (tgt := 2) hx hb dX1_areFree_34 (by decide) ?_
            exact ih x1 x2_31 _ _ _ hT (lv_sub hl [1, 2, 0] rfl) hf
          · have hf := ite_f hc hf
            refine lv_iconst (v := 0) hx hb dX1_areFree_29 (by decide) ?_
            exact n_zret hA0 C hT hf (Or.inl rfl) hr hlocks dX1_areFree_30
  refine W.eq (by rw [hargs]) (t_in (vs := [.ref (ja 0), .int x1]) (n := 3) (Nat.le_of_ble_eq_true rfl) (fun ls hl => ?_))
  have hl : lv_has ls 3 [(0, .ref (ja 0)), (1, .int x1)] := hl
  unfold fX1_areFree at hf
  refine lv_iconst (v := 0) hx hb dX1_areFree_0 (by decide) ?_
  refine lv_istore_n (lv' := [(2, .int (0 : Int32)), (0, .ref (ja 0)), (1, .int x1)]) hx hb dX1_areFree_1 rfl hl (by decide) rfl (fun ls hl => ?_)
  refine hL2 _ (fun  H locs ls hT hl hf => ?_) N x1 (0 : Int32) _ _ _ hT (lv_sub hl [1, 2, 0] rfl) hf
  refine lv_iconst (v := 1) hx hb dX1_areFree_37 (by decide) ?_
  exact n_zret hA0 C hT hf (Or.inr rfl) hr hlocks dX1_areFree_38
def fX2_sumOf_B4 (N : Nat) (n0 : Nat) (f0 : Nat → Int32) (K : Int32 → Option (Int32)) (kb : Int32 → Int32 → Option (Int32)) (x1 : Int32) (x2 : Int32) : Option (Int32) :=
  (if (Int32.ofNat n0) ≤ x2 then (K x1) else (ix x2 n0 (lett (x1 + (f0 (x2).toNatClampNeg)) fun x1_15 => (lett (x2 + (1 : Int32)) fun x2_16 => (kb x1_15 x2_16)))))
def fX2_sumOf_L4 (N : Nat) (n0 : Nat) (f0 : Nat → Int32) (K : Int32 → Option (Int32)) : Nat → Int32 → Int32 → Option (Int32)
  | 0 => fun _ _ => none
  | n + 1 => fun x1 x2 => fX2_sumOf_B4 N n0 f0 K (fX2_sumOf_L4 N n0 f0 K n) x1 x2
def fX2_sumOf (N : Nat) (n0 : Nat) (f0 : Nat → Int32) : Option (Int32) :=
  (fX2_sumOf_L4 N n0 f0 (fun x1 => (some x1)) N (0 : Int32) (0 : Int32))
theorem hdX2_sumOf : yX2_sumOf.cls ≠ "java/lang/invoke/MethodHandle" ∧ yX2_sumOf.cls ≠ "java/lang/invoke/VarHandle" ∧ (parseMethodDescriptor yX2_sumOf.desc).map (fun d => d.parameters.length) = some 1 := by decide +kernel
set_option maxHeartbeats 4000000 in
theorem mX2_sumOf (l : Launch) (D : va_G) (d : Nat → ClassId) (sd : Nat) (b : Nat) (N : Nat) (n0 : Nat) (f0 : Nat → Int32) (w : Int32) (hf : fX2_sumOf N n0 f0 = some w) (sz : Nat) : Met l yX2_sumOf (ws_ yX2_sumOf cX2_sumOf 3 (some .int)) (rm_ 0 0) (GPc D d sd [.ref b] [] (fun P => P b (.inl (d 0, n0, .inl f0))) sz) (GQi D w [] [] sz) 0 0 (va_A [] sz) := by
  refine Met.ofW (cc := cX2_sumOf) (maxL := 3) (ret := (some .int)) plX2 rfl ?_
  intro p e s m args below meth c s₁ B hml hv
  obtain ⟨C, hX, hR, hT, hr, hlocks, hargs, rfl⟩ := g_enter (own := RX2) B hml rfl hv
  have hx := C.1
  have hb := C.2.1
  have hV := hX.1
  obtain ⟨A, hA0⟩ : ∃ A, A = va_A [] s.heap.size := ⟨_, rfl⟩
  rw [← hA0] at hX hR hT
  show W p l e (rm_ 0 0) s m args below meth c s.heap [] 0 0 (MQ below (GQi D w [] [] s.heap.size) args s 0 0 (va_A [] s.heap.size)) _
  rw [← hA0]
  have hL4 : ∀ (K : Int32 → Option (Int32)), (∀ (x1 : Int32) (H : Heap) (locs : List Loc) (ls : Array Slot), TH D A s.heap [] H locs → lv_has ls 3 [(1, .int x1)] → K x1 = some w → W p l e (rm_ 0 0) s m args below meth c H locs 0 0 (MQ below (GQi D w [] [] s.heap.size) args s 0 0 A) (F0 m 22 ls [])) → ∀ (n : Nat) (x1 : Int32) (x2 : Int32) (H : Heap) (locs : List Loc) (ls : Array Slot), TH D A s.heap [] H locs → lv_has ls 3 [(0, .ref b), (1, .int x1), (2, .int x2)] → fX2_sumOf_L4 N n0 f0 K n x1 x2 = some w → W p l e (rm_ 0 0) s m args below meth c H locs 0 0 (MQ below (GQi D w [] [] s.heap.size) args s 0 0 A) (F0 m 4 ls []) := by
    intro K hE n
    induction n with
    | zero =>
      intro x1 x2 H locs ls hT hl hf
      cases hf
    | succ n ih =>
      intro x1 x2 H locs ls hT hl hf
      replace hf : fX2_sumOf_B4 N n0 f0 K (fX2_sumOf_L4 N n0 f0 K n) x1 x2 = some w := hf
      unfold fX2_sumOf_B4 at hf
      refine lv_iload_n hx hb dX2_sumOf_4 rfl (lv_at hl 2 rfl) ?_
      refine lv_aload_n hx hb dX2_sumOf_5 rfl (lv_at hl 0 rfl) ?_
      refine r_alen C hV (hR.at hT.2.2) (t0 := 0) rfl rfl dX2_sumOf_6 ?_
      refine lv_icmp_ge (tgt := 22) hx hb dX2_sumOf_7 (by decide) (fun hc => ?_) (fun hc => ?_)
      · have hf := ite_t hc hf
        exact hE x1 _ _ _ hT (lv_sub hl [1] rfl) hf
      · have hf := ite_f hc hf
        refine lv_iload_n hx hb dX2_sumOf_10 rfl (lv_at hl 1 rfl) ?_
        refine lv_aload_n hx hb dX2_sumOf_11 rfl (lv_at hl 0 rfl) ?_
        refine lv_iload_n hx hb dX2_sumOf_12 rfl (lv_at hl 2 rfl) ?_
        obtain ⟨hi, hf⟩ := ix_e hf
        refine r_ild C hV (hR.at hT.2.2) _ hi rfl dX2_sumOf_13 ?_
        refine lv_iadd hx hb dX2_sumOf_14 ?_
        refine lv_topi (fun x1_15 ex => ?_)
        have hf := lett_e ex hf
        refine lv_istore_n (lv' := [(1, .int x1_15), (0, .ref b), (2, .int x2)]) hx hb dX2_sumOf_15 rfl hl (by decide) rfl (fun ls hl => ?_)
        obtain ⟨x2_16, ex⟩ : ∃ y : Int32, y = (x2 + (1 : Int32)) := ⟨_, rfl⟩
        have hf := lett_e ex hf
        refine lv_iinc (v := x2_16) (lv' := [(2, .int x2_16), (1, .int x1_15), (0, .ref b)]) hx hb dX2_sumOf_16 hl (k := 2) rfl (by rw [ex]; rfl) (by decide) rfl (fun ls hl => ?_)
        refine lv_goto (tgt := 4) hx hb dX2_sumOf_19 (by decide) ?_
        exact ih x1_15 x2_16 _ _ _ hT (lv_sub hl [2, 1, 0] rfl) hf
  refine W.eq (by rw [hargs]) (t_in (vs := [.ref b]) (n := 3) (Nat.le_of_ble_eq_true rfl) (fun ls hl => ?_))
  have hl : lv_has ls 3 [(0, .ref b)] := hl
  unfold fX2_sumOf at hf
  refine lv_iconst (v := 0) hx hb dX2_sumOf_0 (by decide) ?_
  refine lv_istore_n (lv' := [(1, .int (0 : Int32)), (0, .ref b)]) hx hb dX2_sumOf_1 rfl hl (by decide) rfl (fun ls hl => ?_)
  refine lv_iconst (v := 0) hx hb dX2_sumOf_2 (by decide) ?_
  refine lv_istore_n (lv' := [(2, .int (0 : Int32)), (1, .int (0 : Int32)), (0, .ref b)]) hx hb dX2_sumOf_3 rfl hl (by decide) rfl (fun ls hl => ?_)
  refine hL4 _ (fun x1 H locs ls hT hl hf => ?_) N (0 : Int32) (0 : Int32) _ _ _ hT (lv_sub hl [2, 1, 0] rfl) hf
  refine lv_iload_n hx hb dX2_sumOf_22 rfl (lv_at hl 0 rfl) ?_
  exact n_iret hA0 C hT hf hr hlocks dX2_sumOf_23
