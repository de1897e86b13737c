set_option maxRecDepth 100000
/-! ===== ArrayList.get over a list that is only read ===== -/
theorem plJ7 : plainName RJ7 = true := by decide +kernel
theorem plJ13 : plainName RJ13 = true := by decide +kernel
theorem hdJ7_checkIndex : yJ7_checkIndex.cls ≠ "java/lang/invoke/MethodHandle" ∧ yJ7_checkIndex.cls ≠ "java/lang/invoke/VarHandle" ∧ (parseMethodDescriptor yJ7_checkIndex.desc).map (fun d => d.parameters.length) = some 3 := by decide +kernel
theorem hdJ13_checkIndex : yJ13_checkIndex.cls ≠ "java/lang/invoke/MethodHandle" ∧ yJ13_checkIndex.cls ≠ "java/lang/invoke/VarHandle" ∧ (parseMethodDescriptor yJ13_checkIndex.desc).map (fun d => d.parameters.length) = some 2 := by decide +kernel
theorem hdJ2_elementData : yJ2_elementData.cls = RJ2 ∧ yJ2_elementData.cls ≠ "java/lang/invoke/MethodHandle" ∧ yJ2_elementData.cls ≠ "java/lang/invoke/VarHandle" ∧ (parseMethodDescriptor yJ2_elementData.desc).map (fun d => d.parameters.length) = some 1 := by decide +kernel
theorem hdJ2_get : yJ2_get.cls = RJ2 ∧ yJ2_get.cls ≠ "java/lang/invoke/MethodHandle" ∧ yJ2_get.cls ≠ "java/lang/invoke/VarHandle" ∧ (parseMethodDescriptor yJ2_get.desc).map (fun d => d.parameters.length) = some 1 := by decide +kernel
set_option maxHeartbeats 4000000 in
theorem mJ7_checkIndex (l : Launch) (x n : Int32) (h0 : ¬ x < 0) (h1 : x < n) (sz : Nat) : Met l yJ7_checkIndex (ws_ yJ7_checkIndex cJ7_checkIndex 3 (some .int)) (rm_ 0 0) (PcS [.int x, .int n, .null] sz) (QiS x sz) 0 0 (fun q => sz ≤ q) := by
  refine Met.ofW (cc := cJ7_checkIndex) (maxL := 3) (ret := (some .int)) plJ7 rfl ?_
  intro p e s m args below meth c s₁ B hml hv
  obtain ⟨C, hT, hr, hlocks, hargs, rfl⟩ := s_enter (D := db_D0) (own := RJ7) B hml rfl hv
  have hx := C.1
  have hb := C.2.1
  show W p l e (rm_ 0 0) s m args below meth c s.heap [] 0 0 (MQ below (QiS x s.heap.size) args s 0 0 (fun q => s.heap.size ≤ q)) _
  refine W.eq (by rw [hargs]) (t_in (vs := [.int x, .int n, .null]) (n := 3) (Nat.le_of_ble_eq_true rfl) (fun ls hl => ?_))
  have hl : lv_has ls 3 [(0, .int x), (1, .int n), (2, .null)] := hl
  refine lv_iload_n hx hb dJ7_checkIndex_0 rfl (lv_at hl 0 rfl) ?_
  refine lv_if_lt (tgt := 9) hx hb dJ7_checkIndex_1 (by decide) (fun hc => absurd hc h0) (fun _ => ?_)
  refine lv_iload_n hx hb dJ7_checkIndex_4 rfl (lv_at hl 0 rfl) ?_
  refine lv_iload_n hx hb dJ7_checkIndex_5 rfl (lv_at hl 1 rfl) ?_
  refine lv_icmp_lt (tgt := 16) hx hb dJ7_checkIndex_6 (by decide) (fun _ => ?_) (fun hc => absurd h1 hc)
  refine lv_iload_n hx hb dJ7_checkIndex_16 rfl (lv_at hl 0 rfl) ?_
  exact s_iret C hT rfl hr hlocks dJ7_checkIndex_17
set_option maxHeartbeats 4000000 in
theorem mJ13_checkIndex (l : Launch) (x n : Int32) (h0 : ¬ x < 0) (h1 : x < n) (sz : Nat) : Met l yJ13_checkIndex (ws_ yJ13_checkIndex cJ13_checkIndex 2 (some .int)) (rm_ 1 22) (PcS [.int x, .int n] sz) (QiS x sz) 0 0 (fun q => sz ≤ q) := by
  refine Met.ofW (cc := cJ13_checkIndex) (maxL := 2) (ret := (some .int)) plJ13 rfl ?_
  intro p e s m args below meth c s₁ B hml hv
  obtain ⟨C, hT, hr, hlocks, hargs, rfl⟩ := s_enter (D := db_D0) (own := RJ13) B hml rfl hv
  have hx := C.1
  have hb := C.2.1
  show W p l e (rm_ 1 22) s m args below meth c s.heap [] 0 0 (MQ below (QiS x s.heap.size) args s 0 0 (fun q => s.heap.size ≤ q)) _
  refine W.eq (by rw [hargs]) (t_in (vs := [.int x, .int n]) (n := 2) (Nat.le_of_ble_eq_true rfl) (fun ls hl => ?_))
  have hl : lv_has ls 2 [(0, .int x), (1, .int n)] := hl
  refine lv_iload_n hx hb dJ13_checkIndex_0 rfl (lv_at hl 0 rfl) ?_
  refine lv_iload_n hx hb dJ13_checkIndex_1 rfl (lv_at hl 1 rfl) ?_
  refine lv_null hx hb dJ13_checkIndex_2 ?_
  refine s_calli (vs := [.int x, .int n, .null]) (rest := []) C (fun q h => h) hT (fun sz => mJ7_checkIndex l x n h0 h1 sz) (va_cwS 3 C.2.2.2.2 (lw_S q703 q547 q133 q548) rfl rfl rfl hdJ7_checkIndex ⟨Nat.le_of_ble_eq_true rfl, Nat.le_of_ble_eq_true rfl⟩) rfl hl.1 rfl (Nat.le_of_ble_eq_true rfl) dJ13_checkIndex_3 ⟨Nat.zero_le _, Nat.zero_le _⟩ (fun H locs hT => ?_)
  exact s_iret C hT rfl hr hlocks dJ13_checkIndex_6
abbrev LRo (d : Nat → ClassId) (b b2 : Nat) (mc n : Int32) (cap : Nat) (f : Nat → Option Nat) : (Nat → va_E → Prop) → Prop := fun P => P b (.inr (4, [.int mc, .ref b2, .int n])) ∧ P b2 (.inl (d 6, cap, .inr (.inr (.inr (.inr f)))))
theorem LRo.step {D : va_G} {d : Nat → ClassId} {b b2 cap : Nat} {mc n : Int32} {f : Nat → Option Nat} {A B : Nat → Prop} {H0 H : Heap} {locs : List Loc} (h : LRo d b b2 mc n cap f (FzP D A H0)) (hS : va_S A H0 H locs) (hB : ∀ q, B q → A q) : LRo d b b2 mc n cap f (FzP D B H) := ⟨h.1.step hS hB, h.2.step hS hB⟩
set_option maxHeartbeats 4000000 in
theorem mJ2_elementData (l : Launch) (D : va_G) (d : Nat → ClassId) (sd : Nat) (b b2 : Nat) (mc n : Int32) (cap : Nat) (f : Nat → Option Nat) (i : Int32) (x : Nat) (hi : vp_in i cap) (hfx : f i.toNatClampNeg = some x) (sz : Nat) : Met l yJ2_elementData (ws_ yJ2_elementData cJ2_elementData 2 (some (.object "java/lang/Object"))) (rm_ 0 0) (GPc D d sd [.ref b, .int i] [] (LRo d b b2 mc n cap f) sz) (GQq D (some x) [] [] sz) 0 0 (va_A [] sz) := by
  refine Met.ofW (cc := cJ2_elementData) (maxL := 2) (ret := (some (.object "java/lang/Object"))) plJ2 rfl ?_
  intro p e s m args below meth c s₁ B hml hv
  obtain ⟨C, hX, hR, hT, hr, hlocks, hargs, rfl⟩ := g_enter (own := RJ2) B hml rfl hv
  have hx := C.1
  have hb := C.2.1
  have hV := hX.1
  show W p l e (rm_ 0 0) s m args below meth c s.heap [] 0 0 (MQ below (GQq D (some x) [] [] s.heap.size) args s 0 0 (va_A [] s.heap.size)) _
  refine W.eq (by rw [hargs]) (t_in (vs := [.ref b, .int i]) (n := 2) (Nat.le_of_ble_eq_true rfl) (fun ls hl => ?_))
  have hl : lv_has ls 2 [(0, .ref b), (1, .int i)] := hl
  refine lv_aload_n hx hb dJ2_elementData_0 rfl (lv_at hl 0 rfl) ?_
  refine r_get C hV (hR.1.at hT.2.2) (ci := 4) rfl in_J2 1 (by decide) q184 rfl dJ2_elementData_1 ?_
  refine lv_iload_n hx hb dJ2_elementData_4 rfl (lv_at hl 1 rfl) ?_
  refine r_qld C hV (hR.2.at hT.2.2) (t0 := 6) rfl hi hfx dJ2_elementData_5 ?_
  exact g_aret (r := some x) C hT hr (Or.inl ⟨_, rfl⟩) hlocks dJ2_elementData_6
theorem nI_clampI {n : Int32} (h : ¬ n < 0) {x : Int32} (h0 : ¬ x < 0) (hi : x.toNatClampNeg < n.toNatClampNeg) : x < n := by
  rw [Int32.lt_iff_toInt_lt] at h h0 ⊢
  have e : (0 : Int32).toInt = 0 := rfl
  rw [e] at h h0
  have e1 : x.toNatClampNeg = x.toInt.toNat := rfl
  have e2 : n.toNatClampNeg = n.toInt.toNat := rfl
  omega
set_option maxHeartbeats 4000000 in
theorem mJ2_get (l : Launch) (D : va_G) (d : Nat → ClassId) (sd : Nat) (b b2 : Nat) (mc n : Int32) (cap : Nat) (f : Nat → Option Nat) (i : Int32) (x : Nat) (hi : vp_in i n.toNatClampNeg) (hcap : n.toNatClampNeg ≤ cap) (hfx : f i.toNatClampNeg = some x) (sz : Nat) : Met l yJ2_get (ws_ yJ2_get cJ2_get 2 (some (.object "java/lang/Object"))) (rm_ 2 43) (GPc D d sd [.ref b, .int i] [] (LRo d b b2 mc n cap f) sz) (GQq D (some x) [] [] sz) 0 0 (va_A [] sz) := by
  refine Met.ofW (cc := cJ2_get) (maxL := 2) (ret := (some (.object "java/lang/Object"))) plJ2 rfl ?_
  intro p e s m args below meth c s₁ B hml hv
  obtain ⟨C, hX, hR, hT, hr, hlocks, hargs, rfl⟩ := g_enter (own := RJ2) B hml rfl hv
  have hx := C.1
  have hb := C.2.1
  have hV := hX.1
  obtain ⟨A, hA0⟩ : ∃ A, A = va_A [] s.heap.size := ⟨_, rfl⟩
  rw [← hA0] at hX hR hT
  show W p l e (rm_ 2 43) s m args below meth c s.heap [] 0 0 (MQ below (GQq D (some x) [] [] s.heap.size) args s 0 0 (va_A [] s.heap.size)) _
  rw [← hA0]
  have h0 : ¬ i < 0 := fun z => hi (Or.inl z)
  have h2 : i.toNatClampNeg < n.toNatClampNeg := Nat.not_le.mp fun q => hi (Or.inr q)
  have hn0 : ¬ n < 0 := by
    intro z
    have e2 : n.toNatClampNeg = n.toInt.toNat := rfl
    rw [Int32.lt_iff_toInt_lt] at z
    have e : (0 : Int32).toInt = 0 := rfl
    rw [e] at z
    omega
  have h1 := nI_clampI hn0 h0 h2
  refine W.eq (by rw [hargs]) (t_in (vs := [.ref b, .int i]) (n := 2) (Nat.le_of_ble_eq_true rfl) (fun ls hl => ?_))
  have hl : lv_has ls 2 [(0, .ref b), (1, .int i)] := hl
  refine lv_iload_n hx hb dJ2_get_0 rfl (lv_at hl 1 rfl) ?_
  refine lv_aload_n hx hb dJ2_get_1 rfl (lv_at hl 0 rfl) ?_
  refine r_get C hV (hR.1.at hT.2.2) (ci := 4) rfl in_J2 2 (by decide) q185 rfl dJ2_get_2 ?_
  refine s_calli (vs := [.int i, .int n]) (rest := []) C (A_new hA0) hT (fun sz => mJ13_checkIndex l i n h0 h1 sz) (va_cwS 2 C.2.2.2.2 (lw_S q700 q701 q141 q702) rfl rfl rfl hdJ13_checkIndex ⟨Nat.le_of_ble_eq_true rfl, Nat.le_of_ble_eq_true rfl⟩) rfl hl.1 rfl (Nat.le_of_ble_eq_true rfl) dJ2_get_5 ⟨Nat.zero_le _, Nat.zero_le _⟩ (fun H locs hT => ?_)
  refine lv_pop hx hb dJ2_get_8 rfl ?_
  refine lv_aload_n hx hb dJ2_get_9 rfl (lv_at hl 0 rfl) ?_
  refine lv_iload_n hx hb dJ2_get_10 rfl (lv_at hl 1 rfl) ?_
  refine g_callq (vs := [.int i]) (rest := []) C hX hT (A_new hA0) (Cut.none _) (Ro := LRo d b b2 mc n cap f) (LRo.step hR hT.2.2 (Anil (A_new hA0) hT.2.2.1)) (fun sz => mJ2_elementData l D d sd b b2 mc n cap f i x (fun z => z.elim h0 (fun q => hi (Or.inr (Nat.le_trans hcap q)))) hfx sz) (cwV 1 C.2.2.2.2 (lw_V q704 q705 q706 q124 q707) rfl rfl rfl hdJ2_elementData ⟨Nat.le_of_ble_eq_true rfl, Nat.le_of_ble_eq_true rfl⟩) (g_recv hV (hR.1.at hT.2.2) (ci := 4) rfl) rfl hl.1 rfl (Nat.le_of_ble_eq_true rfl) dJ2_get_11 ⟨Nat.zero_le _, Nat.zero_le _⟩ (fun H locs hT => ?_)
  subst hA0
  exact g_aret (r := some x) C hT hr (Or.inl ⟨_, rfl⟩) hlocks dJ2_get_14
theorem JAt.road {d : Nat → ClassId} {ja : Nat → Nat} {j : JS} {P : Nat → va_E → Prop} (hJ : JAt d ja j P) {i : Int32} (hi : vp_in i (j.1 0).toNatClampNeg) : ∃ (cap : Nat) (f : Nat → Option Nat), (j.1 0).toNatClampNeg ≤ cap ∧ P (ja 2) (.inl (d 6, cap, .inr (.inr (.inr (.inr f))))) ∧ f i.toNatClampNeg = some (ja (10 + i.toNatClampNeg)) ∧ P (ja (10 + i.toNatClampNeg)) (.inr (7, [.int (j.2 10 i.toNatClampNeg), .int (j.2 11 i.toNatClampNeg), .int (j.2 12 i.toNatClampNeg)])) := by
  obtain ⟨h1, h2, h3, h4, n, cap, f, e1, e2, e3, e4, e5⟩ := hJ
  have e6 : (j.1 0).toNatClampNeg = n := by rw [e1]; exact nI_clamp (by omega)
  have h5 : i.toNatClampNeg < n := by rw [← e6]; exact Nat.not_le.mp fun q => hi (Or.inr q)
  exact ⟨cap, f, by rw [e6]; exact e3, e4, (e5 _ h5).1, (e5 _ h5).2⟩
