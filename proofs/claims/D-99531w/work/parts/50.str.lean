set_option maxRecDepth 100000
theorem plJ5 : plainName RJ5 = true := by decide +kernel
theorem plJ6 : plainName RJ6 = true := by decide +kernel
def db_ch (i k : Nat) : Int32 := (db_byt.getD i []).getD k 0
theorem db_ch_ok : ∀ i, i < 19 → ∀ k, k < db_len.getD i 0 → (((db_ch i k &&& 255).toUInt32 % 65536).toInt32 = db_ch i k ∧ narrow .char (.int (db_ch i k)) = .int (db_ch i k)) := by decide +kernel
theorem db_len_ok : ∀ i, i < 19 → ((Int32.ofNat (db_len.getD i 0)) >>> ((0 : Int32) &&& 31) = nI (db_len.getD i 0) ∧ db_len.getD i 0 < 64) := by decide +kernel
theorem hdJ5_coder : yJ5_coder.cls = RJ5 ∧ yJ5_coder.cls ≠ "java/lang/invoke/MethodHandle" ∧ yJ5_coder.cls ≠ "java/lang/invoke/VarHandle" ∧ (parseMethodDescriptor yJ5_coder.desc).map (fun d => d.parameters.length) = some 0 := by decide +kernel
set_option maxHeartbeats 4000000 in
theorem mJ5_coder (l : Launch) (D : va_G) (d : Nat → ClassId) (sd : Nat) (i : Nat) (hi : i < 19) (sz : Nat) : Met l yJ5_coder (ws_ yJ5_coder cJ5_coder 1 (some Jvm.ClassFile.FieldType.byte)) (rm_ 0 0) (GPc D d sd [.ref (d (100 + i))] [] (fun _ => True) sz) (GQi D 0 [] [] sz) 0 0 (va_A [] sz) := by
  refine Met.ofW (cc := cJ5_coder) (maxL := 1) (ret := (some Jvm.ClassFile.FieldType.byte)) plJ5 rfl ?_
  intro p e s m args below meth c s₁ B hml hv
  obtain ⟨C, hX, hR, hT, hr, hlocks, hargs, rfl⟩ := g_enter (own := RJ5) B hml rfl hv
  have hx := C.1
  have hb := C.2.1
  have hZ := hX.2.2.2.2
  have hS5 := hZ.2.2.2.2.1
  have hA : ∀ q, s.heap.size ≤ q → va_A [] s.heap.size q := fun q h => by rw [va_A_map]; exact Or.inr h
  show W p l e (rm_ 0 0) s m args below meth c s.heap [] 0 0 (MQ below (GQi D 0 [] [] s.heap.size) args s 0 0 (va_A [] s.heap.size)) _
  refine W.eq (by rw [hargs]) (t_in (vs := [.ref (d (100 + i))]) (n := 1) (Nat.le_of_ble_eq_true rfl) (fun ls hl => ?_))
  have hl : lv_has ls 1 [(0, .ref (d (100 + i)))] := hl
  refine va_gets (C := "java/lang/String") (n := "COMPACT_STRINGS") (d := "Z") hx hb hZ.2.2.2.2.2.1 hT.2.2 C.2.2.2.1 (C.2.2.2.2 _ q528) (fun _ h => h) dJ5_coder_0 ?_
  refine lv_if_eq (tgt := 13) hx hb dJ5_coder_3 (by decide) (fun hc => absurd hc (by decide)) (fun _ => ?_)
  refine lv_aload_n hx hb dJ5_coder_6 rfl (lv_at hl 0 rfl) ?_
  refine vk_getf hx hb (hS5.1 i hi).2.1 hT.2.2 C.2.2.2.1 (C.2.2.2.2 _ q1904) (fun _ h => h) dJ5_coder_7 ?_
  refine lv_goto (tgt := 14) hx hb dJ5_coder_10 (by decide) ?_
  exact W.zret C.1 C.2.1 hr (v := 0) (by decide) (fun t0 ht hW => ⟨⟨_, (), rfl, rfl, by show va_P D db_cls [] t0.heap; rw [ht]; exact hT.1⟩, hT.2.2.F ht⟩) hT.2.2.2.2 dJ5_coder_14 hlocks
theorem hdJ5_isLatin1 : yJ5_isLatin1.cls = RJ5 ∧ yJ5_isLatin1.cls ≠ "java/lang/invoke/MethodHandle" ∧ yJ5_isLatin1.cls ≠ "java/lang/invoke/VarHandle" ∧ (parseMethodDescriptor yJ5_isLatin1.desc).map (fun d => d.parameters.length) = some 0 := by decide +kernel
set_option maxHeartbeats 4000000 in
theorem mJ5_isLatin1 (l : Launch) (D : va_G) (d : Nat → ClassId) (sd : Nat) (i : Nat) (hi : i < 19) (sz : Nat) : Met l yJ5_isLatin1 (ws_ yJ5_isLatin1 cJ5_isLatin1 1 (some .boolean)) (rm_ 0 0) (GPc D d sd [.ref (d (100 + i))] [] (fun _ => True) sz) (GQi D 1 [] [] sz) 0 0 (va_A [] sz) := by
  refine Met.ofW (cc := cJ5_isLatin1) (maxL := 1) (ret := (some .boolean)) plJ5 rfl ?_
  intro p e s m args below meth c s₁ B hml hv
  obtain ⟨C, hX, hR, hT, hr, hlocks, hargs, rfl⟩ := g_enter (own := RJ5) B hml rfl hv
  have hx := C.1
  have hb := C.2.1
  have hZ := hX.2.2.2.2
  have hS5 := hZ.2.2.2.2.1
  have hA : ∀ q, s.heap.size ≤ q → va_A [] s.heap.size q := fun q h => by rw [va_A_map]; exact Or.inr h
  show W p l e (rm_ 0 0) s m args below meth c s.heap [] 0 0 (MQ below (GQi D 1 [] [] s.heap.size) args s 0 0 (va_A [] s.heap.size)) _
  refine W.eq (by rw [hargs]) (t_in (vs := [.ref (d (100 + i))]) (n := 1) (Nat.le_of_ble_eq_true rfl) (fun ls hl => ?_))
  have hl : lv_has ls 1 [(0, .ref (d (100 + i)))] := hl
  refine va_gets (C := "java/lang/String") (n := "COMPACT_STRINGS") (d := "Z") hx hb hZ.2.2.2.2.2.1 hT.2.2 C.2.2.2.1 (C.2.2.2.2 _ q528) (fun _ h => h) dJ5_isLatin1_0 ?_
  refine lv_if_eq (tgt := 17) hx hb dJ5_isLatin1_3 (by decide) (fun hc => absurd hc (by decide)) (fun _ => ?_)
  refine lv_aload_n hx hb dJ5_isLatin1_6 rfl (lv_at hl 0 rfl) ?_
  refine vk_getf hx hb (hS5.1 i hi).2.1 hT.2.2 C.2.2.2.1 (C.2.2.2.2 _ q1904) (fun _ h => h) dJ5_isLatin1_7 ?_
  refine lv_if_ne (tgt := 17) hx hb dJ5_isLatin1_10 (by decide) (fun hc => absurd rfl hc) (fun _ => ?_)
  refine lv_iconst (v := 1) hx hb dJ5_isLatin1_13 (by decide) ?_
  refine lv_goto (tgt := 18) hx hb dJ5_isLatin1_14 (by decide) ?_
  exact W.zret C.1 C.2.1 hr (v := 1) (by decide) (fun t0 ht hW => ⟨⟨_, (), rfl, rfl, by show va_P D db_cls [] t0.heap; rw [ht]; exact hT.1⟩, hT.2.2.F ht⟩) hT.2.2.2.2 dJ5_isLatin1_18 hlocks
theorem hdJ5_length : yJ5_length.cls = RJ5 ∧ yJ5_length.cls ≠ "java/lang/invoke/MethodHandle" ∧ yJ5_length.cls ≠ "java/lang/invoke/VarHandle" ∧ (parseMethodDescriptor yJ5_length.desc).map (fun d => d.parameters.length) = some 0 := by decide +kernel
set_option maxHeartbeats 4000000 in
theorem mJ5_length (l : Launch) (D : va_G) (d : Nat → ClassId) (sd : Nat) (i : Nat) (hi : i < 19) (sz : Nat) : Met l yJ5_length (ws_ yJ5_length cJ5_length 1 (some .int)) (rm_ 1 20) (GPc D d sd [.ref (d (100 + i))] [] (fun _ => True) sz) (GQi D (nI (db_len.getD i 0)) [] [] sz) 0 0 (va_A [] sz) := by
  refine Met.ofW (cc := cJ5_length) (maxL := 1) (ret := (some .int)) plJ5 rfl ?_
  intro p e s m args below meth c s₁ B hml hv
  obtain ⟨C, hX, hR, hT, hr, hlocks, hargs, rfl⟩ := g_enter (own := RJ5) B hml rfl hv
  have hx := C.1
  have hb := C.2.1
  have hZ := hX.2.2.2.2
  have hS5 := hZ.2.2.2.2.1
  have hA : ∀ q, s.heap.size ≤ q → va_A [] s.heap.size q := fun q h => by rw [va_A_map]; exact Or.inr h
  show W p l e (rm_ 1 20) s m args below meth c s.heap [] 0 0 (MQ below (GQi D (nI (db_len.getD i 0)) [] [] s.heap.size) args s 0 0 (va_A [] s.heap.size)) _
  refine W.eq (by rw [hargs]) (t_in (vs := [.ref (d (100 + i))]) (n := 1) (Nat.le_of_ble_eq_true rfl) (fun ls hl => ?_))
  have hl : lv_has ls 1 [(0, .ref (d (100 + i)))] := hl
  refine lv_aload_n hx hb dJ5_length_0 rfl (lv_at hl 0 rfl) ?_
  refine vk_getf hx hb (hS5.1 i hi).2.2.1 hT.2.2 C.2.2.2.1 (C.2.2.2.2 _ q1903) (fun _ h => h) dJ5_length_1 ?_
  refine va_tlen (v := Int32.ofNat (db_len.getD i 0)) hx hb (hS5.1 i hi).2.2.2 hT.2.2 rfl dJ5_length_4 ?_
  refine lv_aload_n hx hb dJ5_length_5 rfl (lv_at hl 0 rfl) ?_
  refine g_calli (vs := []) (rest := [.int (Int32.ofNat (db_len.getD i 0))]) C hX hT hA (Cut.none _) trivial (fun sz => mJ5_coder l D d sd i hi sz) (cwV 0 C.2.2.2.2 (lw_V q524 q525 q526 q131 q527) rfl rfl rfl hdJ5_coder ⟨Nat.le_of_ble_eq_true rfl, Nat.le_of_ble_eq_true rfl⟩) (vk_recv (i := i) (adK := fun i => d (100 + i)) hS5 hi hT.2.2) rfl hl.1 rfl (Nat.le_of_ble_eq_true rfl) dJ5_length_6 ⟨Nat.zero_le _, Nat.zero_le _⟩ (fun H locs hT => ?_)
  refine lv_ishr hx hb dJ5_length_9 ?_
  rw [(db_len_ok i hi).1]
  exact g_iret C hT hr hlocks dJ5_length_10
set_option maxHeartbeats 4000000 in
theorem mJ7_checkIndexR (l : Launch) (z : Nat) (x n : Int32) (h0 : ¬ x < 0) (h1 : x < n) (sz : Nat) : Met l yJ7_checkIndex (ws_ yJ7_checkIndex cJ7_checkIndex 3 (some .int)) (rm_ 0 0) (PcS [.int x, .int n, .ref z] sz) (QiS x sz) 0 0 (fun q => sz ≤ q) := by
  refine Met.ofW (cc := cJ7_checkIndex) (maxL := 3) (ret := (some .int)) plJ7 rfl ?_
  intro p e s m args below meth c s₁ B hml hv
  obtain ⟨C, hT, hr, hlocks, hargs, rfl⟩ := s_enter (D := db_D0) (own := RJ7) B hml rfl hv
  have hx := C.1
  have hb := C.2.1
  show W p l e (rm_ 0 0) s m args below meth c s.heap [] 0 0 (MQ below (QiS x s.heap.size) args s 0 0 (fun q => s.heap.size ≤ q)) _
  refine W.eq (by rw [hargs]) (t_in (vs := [.int x, .int n, .ref z]) (n := 3) (Nat.le_of_ble_eq_true rfl) (fun ls hl => ?_))
  have hl : lv_has ls 3 [(0, .int x), (1, .int n), (2, .ref z)] := hl
  refine lv_iload_n hx hb dJ7_checkIndex_0 rfl (lv_at hl 0 rfl) ?_
  refine lv_if_lt (tgt := 9) hx hb dJ7_checkIndex_1 (by decide) (fun hc => absurd hc h0) (fun _ => ?_)
  refine lv_iload_n hx hb dJ7_checkIndex_4 rfl (lv_at hl 0 rfl) ?_
  refine lv_iload_n hx hb dJ7_checkIndex_5 rfl (lv_at hl 1 rfl) ?_
  refine lv_icmp_lt (tgt := 16) hx hb dJ7_checkIndex_6 (by decide) (fun _ => ?_) (fun hc => absurd h1 hc)
  refine lv_iload_n hx hb dJ7_checkIndex_16 rfl (lv_at hl 0 rfl) ?_
  exact s_iret C hT rfl hr hlocks dJ7_checkIndex_17
theorem hdJ5_checkIndex : yJ5_checkIndex.cls ≠ "java/lang/invoke/MethodHandle" ∧ yJ5_checkIndex.cls ≠ "java/lang/invoke/VarHandle" ∧ (parseMethodDescriptor yJ5_checkIndex.desc).map (fun d => d.parameters.length) = some 2 := by decide +kernel
set_option maxHeartbeats 4000000 in
theorem mJ5_checkIndex (l : Launch) (D : va_G) (d : Nat → ClassId) (sd : Nat) (x n : Int32) (h0 : ¬ x < 0) (h1 : x < n) (sz : Nat) : Met l yJ5_checkIndex (ws_ yJ5_checkIndex cJ5_checkIndex 2 none) (rm_ 1 22) (GPc D d sd [.int x, .int n] [] (fun _ => True) sz) (GQv D [] [] sz) 0 0 (va_A [] sz) := by
  refine Met.ofW (cc := cJ5_checkIndex) (maxL := 2) (ret := none) plJ5 rfl ?_
  intro p e s m args below meth c s₁ B hml hv
  obtain ⟨C, hX, hR, hT, hr, hlocks, hargs, rfl⟩ := g_enter (own := RJ5) B hml rfl hv
  have hx := C.1
  have hb := C.2.1
  have hZ := hX.2.2.2.2
  have hS5 := hZ.2.2.2.2.1
  have hA : ∀ q, s.heap.size ≤ q → va_A [] s.heap.size q := fun q h => by rw [va_A_map]; exact Or.inr h
  show W p l e (rm_ 1 22) s m args below meth c s.heap [] 0 0 (MQ below (GQv D [] [] s.heap.size) args s 0 0 (va_A [] s.heap.size)) _
  refine W.eq (by rw [hargs]) (t_in (vs := [.int x, .int n]) (n := 2) (Nat.le_of_ble_eq_true rfl) (fun ls hl => ?_))
  have hl : lv_has ls 2 [(0, .int x), (1, .int n)] := hl
  refine lv_iload_n hx hb dJ5_checkIndex_0 rfl (lv_at hl 0 rfl) ?_
  refine lv_iload_n hx hb dJ5_checkIndex_1 rfl (lv_at hl 1 rfl) ?_
  rcases hZ.2.2.2.2.2.2.1 with hq | ⟨z, hq⟩
  · refine va_gets (C := "jdk/internal/util/Preconditions") (n := "SIOOBE_FORMATTER") (d := "Ljava/util/function/BiFunction;") hx hb hq hT.2.2 C.2.2.2.1 (C.2.2.2.2 _ q544) (fun _ h => h) dJ5_checkIndex_2 ?_
    refine s_calli (vs := [.int x, .int n, .null]) (rest := []) C hA hT (fun sz => mJ7_checkIndex l x n h0 h1 sz) (va_cwS 3 C.2.2.2.2 (lw_S q546 q547 q133 q548) rfl rfl rfl hdJ7_checkIndex ⟨Nat.le_of_ble_eq_true rfl, Nat.le_of_ble_eq_true rfl⟩) rfl hl.1 rfl (Nat.le_of_ble_eq_true rfl) dJ5_checkIndex_5 ⟨Nat.zero_le _, Nat.zero_le _⟩ (fun H locs hT => ?_)
    refine lv_pop hx hb dJ5_checkIndex_8 rfl ?_
    exact g_vret C hT hr hlocks dJ5_checkIndex_9
  · refine va_gets (C := "jdk/internal/util/Preconditions") (n := "SIOOBE_FORMATTER") (d := "Ljava/util/function/BiFunction;") hx hb hq hT.2.2 C.2.2.2.1 (C.2.2.2.2 _ q544) (fun _ h => h) dJ5_checkIndex_2 ?_
    refine s_calli (vs := [.int x, .int n, .ref z]) (rest := []) C hA hT (fun sz => mJ7_checkIndexR l z x n h0 h1 sz) (va_cwS 3 C.2.2.2.2 (lw_S q546 q547 q133 q548) rfl rfl rfl hdJ7_checkIndex ⟨Nat.le_of_ble_eq_true rfl, Nat.le_of_ble_eq_true rfl⟩) rfl hl.1 rfl (Nat.le_of_ble_eq_true rfl) dJ5_checkIndex_5 ⟨Nat.zero_le _, Nat.zero_le _⟩ (fun H locs hT => ?_)
    refine lv_pop hx hb dJ5_checkIndex_8 rfl ?_
    exact g_vret C hT hr hlocks dJ5_checkIndex_9
theorem hdJ6_charAt : yJ6_charAt.cls ≠ "java/lang/invoke/MethodHandle" ∧ yJ6_charAt.cls ≠ "java/lang/invoke/VarHandle" ∧ (parseMethodDescriptor yJ6_charAt.desc).map (fun d => d.parameters.length) = some 2 := by decide +kernel
set_option maxHeartbeats 4000000 in
theorem mJ6_charAt (l : Launch) (D : va_G) (d : Nat → ClassId) (sd : Nat) (i : Nat) (hi : i < 19) (k : Nat) (hk : k < db_len.getD i 0) (sz : Nat) : Met l yJ6_charAt (ws_ yJ6_charAt cJ6_charAt 2 (some Jvm.ClassFile.FieldType.char)) (rm_ 2 43) (GPc D d sd [.ref (d (200 + i)), .int (nI k)] [] (fun _ => True) sz) (GQi D (db_ch i k) [] [] sz) 0 0 (va_A [] sz) := by
  refine Met.ofW (cc := cJ6_charAt) (maxL := 2) (ret := (some Jvm.ClassFile.FieldType.char)) plJ6 rfl ?_
  intro p e s m args below meth c s₁ B hml hv
  obtain ⟨C, hX, hR, hT, hr, hlocks, hargs, rfl⟩ := g_enter (own := RJ6) B hml rfl hv
  have hx := C.1
  have hb := C.2.1
  have hZ := hX.2.2.2.2
  have hS5 := hZ.2.2.2.2.1
  have hA : ∀ q, s.heap.size ≤ q → va_A [] s.heap.size q := fun q h => by rw [va_A_map]; exact Or.inr h
  show W p l e (rm_ 2 43) s m args below meth c s.heap [] 0 0 (MQ below (GQi D (db_ch i k) [] [] s.heap.size) args s 0 0 (va_A [] s.heap.size)) _
  refine W.eq (by rw [hargs]) (t_in (vs := [.ref (d (200 + i)), .int (nI k)]) (n := 2) (Nat.le_of_ble_eq_true rfl) (fun ls hl => ?_))
  have hl : lv_has ls 2 [(0, .ref (d (200 + i))), (1, .int (nI k))] := hl
  obtain ⟨-, hlen⟩ := db_len_ok i hi
  have hin : vp_in (nI k) (db_len.getD i 0) := vp_in_nI hk (by omega)
  refine lv_iload_n hx hb dJ6_charAt_0 rfl (lv_at hl 1 rfl) ?_
  refine lv_aload_n hx hb dJ6_charAt_1 rfl (lv_at hl 0 rfl) ?_
  refine va_tlen (v := nI (db_len.getD i 0)) hx hb (hS5.1 i hi).2.2.2 hT.2.2 rfl dJ6_charAt_2 ?_
  refine g_scallv (vs := [.int (nI k), .int (nI (db_len.getD i 0))]) (rest := []) C hX hT hA (Cut.none _) trivial (fun sz => mJ5_checkIndex l D d sd (nI k) (nI (db_len.getD i 0)) (nI_pos (by omega)) (nI_lt hk (by omega)) sz) (va_cwS 2 C.2.2.2.2 (lw_S q541 q542 q131 q543) rfl rfl rfl hdJ5_checkIndex ⟨Nat.le_of_ble_eq_true rfl, Nat.le_of_ble_eq_true rfl⟩) rfl hl.1 rfl (Nat.le_of_ble_eq_true rfl) dJ6_charAt_3 ⟨Nat.zero_le _, Nat.zero_le _⟩ (fun H locs hT => ?_)
  refine lv_aload_n hx hb dJ6_charAt_6 rfl (lv_at hl 0 rfl) ?_
  refine lv_iload_n hx hb dJ6_charAt_7 rfl (lv_at hl 1 rfl) ?_
  refine va_tb hx hb (hS5.1 i hi).2.2.2 hT.2.2 hin (v := .int (db_ch i k)) (by rw [nI_clamp (by omega)]; rfl) dJ6_charAt_8 ?_
  refine lv_sipush (v := 255) hx hb dJ6_charAt_9 (by decide) ?_
  refine lv_iand hx hb dJ6_charAt_12 ?_
  obtain ⟨e1, e2⟩ := db_ch_ok i hi k hk
  refine lv_i2c (v := db_ch i k) hx hb dJ6_charAt_13 e1 ?_
  exact W.zret C.1 C.2.1 hr (v := db_ch i k) e2 (fun t0 ht hW => ⟨⟨_, (), rfl, rfl, by show va_P D db_cls [] t0.heap; rw [ht]; exact hT.1⟩, hT.2.2.F ht⟩) hT.2.2.2.2 dJ6_charAt_14 hlocks
theorem hdJ5_charAt : yJ5_charAt.cls = RJ5 ∧ yJ5_charAt.cls ≠ "java/lang/invoke/MethodHandle" ∧ yJ5_charAt.cls ≠ "java/lang/invoke/VarHandle" ∧ (parseMethodDescriptor yJ5_charAt.desc).map (fun d => d.parameters.length) = some 1 := by decide +kernel
set_option maxHeartbeats 4000000 in
theorem mJ5_charAt (l : Launch) (D : va_G) (d : Nat → ClassId) (sd : Nat) (i : Nat) (hi : i < 19) (k : Nat) (hk : k < db_len.getD i 0) (sz : Nat) : Met l yJ5_charAt (ws_ yJ5_charAt cJ5_charAt 2 (some Jvm.ClassFile.FieldType.char)) (rm_ 3 64) (GPc D d sd [.ref (d (100 + i)), .int (nI k)] [] (fun _ => True) sz) (GQi D (db_ch i k) [] [] sz) 0 0 (va_A [] sz) := by
  refine Met.ofW (cc := cJ5_charAt) (maxL := 2) (ret := (some Jvm.ClassFile.FieldType.char)) plJ5 rfl ?_
  intro p e s m args below meth c s₁ B hml hv
  obtain ⟨C, hX, hR, hT, hr, hlocks, hargs, rfl⟩ := g_enter (own := RJ5) B hml rfl hv
  have hx := C.1
  have hb := C.2.1
  have hZ := hX.2.2.2.2
  have hS5 := hZ.2.2.2.2.1
  have hA : ∀ q, s.heap.size ≤ q → va_A [] s.heap.size q := fun q h => by rw [va_A_map]; exact Or.inr h
  show W p l e (rm_ 3 64) s m args below meth c s.heap [] 0 0 (MQ below (GQi D (db_ch i k) [] [] s.heap.size) args s 0 0 (va_A [] s.heap.size)) _
  refine W.eq (by rw [hargs]) (t_in (vs := [.ref (d (100 + i)), .int (nI k)]) (n := 2) (Nat.le_of_ble_eq_true rfl) (fun ls hl => ?_))
  have hl : lv_has ls 2 [(0, .ref (d (100 + i))), (1, .int (nI k))] := hl
  refine lv_aload_n hx hb dJ5_charAt_0 rfl (lv_at hl 0 rfl) ?_
  refine g_calli (vs := []) (rest := []) C hX hT hA (Cut.none _) trivial (fun sz => mJ5_isLatin1 l D d sd i hi sz) (cwV 0 C.2.2.2.2 (lw_V q534 q535 q536 q131 q537) rfl rfl rfl hdJ5_isLatin1 ⟨Nat.le_of_ble_eq_true rfl, Nat.le_of_ble_eq_true rfl⟩) (vk_recv (i := i) (adK := fun i => d (100 + i)) hS5 hi hT.2.2) rfl hl.1 rfl (Nat.le_of_ble_eq_true rfl) dJ5_charAt_1 ⟨Nat.zero_le _, Nat.zero_le _⟩ (fun H locs hT => ?_)
  refine lv_if_eq (tgt := 16) hx hb dJ5_charAt_4 (by decide) (fun hc => absurd hc (by decide)) (fun _ => ?_)
  refine lv_aload_n hx hb dJ5_charAt_7 rfl (lv_at hl 0 rfl) ?_
  refine vk_getf hx hb (hS5.1 i hi).2.2.1 hT.2.2 C.2.2.2.1 (C.2.2.2.2 _ q1903) (fun _ h => h) dJ5_charAt_8 ?_
  refine lv_iload_n hx hb dJ5_charAt_11 rfl (lv_at hl 1 rfl) ?_
  refine g_scalli (vs := [.ref (d (200 + i)), .int (nI k)]) (rest := []) C hX hT hA (Cut.none _) trivial (fun sz => mJ6_charAt l D d sd i hi k hk sz) (va_cwS 2 C.2.2.2.2 (lw_S q538 q539 q132 q540) rfl rfl rfl hdJ6_charAt ⟨Nat.le_of_ble_eq_true rfl, Nat.le_of_ble_eq_true rfl⟩) rfl hl.1 rfl (Nat.le_of_ble_eq_true rfl) dJ5_charAt_12 ⟨Nat.zero_le _, Nat.zero_le _⟩ (fun H locs hT => ?_)
  obtain ⟨e1, e2⟩ := db_ch_ok i hi k hk
  exact W.zret C.1 C.2.1 hr (v := db_ch i k) e2 (fun t0 ht hW => ⟨⟨_, (), rfl, rfl, by show va_P D db_cls [] t0.heap; rw [ht]; exact hT.1⟩, hT.2.2.F ht⟩) hT.2.2.2.2 dJ5_charAt_15 hlocks
