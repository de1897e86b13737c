set_option maxRecDepth 100000
theorem plJ0 : plainName RJ0 = true := by decide +kernel
theorem plX17 : plainName RX17 = true := by decide +kernel
theorem plJ1 : plainName RJ1 = true := by decide +kernel
theorem hdJ0_init : yJ0_init.cls ≠ "java/lang/invoke/MethodHandle" ∧ yJ0_init.cls ≠ "java/lang/invoke/VarHandle" ∧ (parseMethodDescriptor yJ0_init.desc).map (fun d => d.parameters.length) = some 0 := by decide +kernel
set_option maxHeartbeats 8000000 in
theorem mJ0_init (l : Launch) (D : va_G) (d : Nat → ClassId) (sd : Nat) (b : Nat) (sz : Nat) : Met l yJ0_init (ws_ yJ0_init cJ0_init 1 none) ({ frames := 1, cells := 0, slots := 0, locals := 40 } : Room) (GPc D d sd [.ref b] ((b, .inr (4, [.int 0, .null, .int 0])) :: []) (fun _ => True) sz) (NQv D (fun _ : Unit => True) (fun _ => [(b, .inr (4, [.int 0, .null, .int 0]))]) ((b, .inr (4, [.int 0, .null, .int 0])) :: []) sz) 0 0 (va_A ((b, .inr (4, [.int 0, .null, .int 0])) :: []) sz) := by
  refine Met.ofW (cc := cJ0_init) (maxL := 1) (ret := none) plJ0 rfl ?_
  intro p e s m args below meth c s₁ B hml hv
  obtain ⟨C, hX, hR, hT, hr, hlocks, hargs, rfl⟩ := g_enter (own := RJ0) B hml rfl hv
  have hx := C.1
  have hb := C.2.1
  have hV := hX.1
  have hin2 : meth.name = "<init>" := (name_of_methodNamed B.named B.method).1
  show W p l e ({ frames := 1, cells := 0, slots := 0, locals := 40 } : Room) s m args below meth c s.heap [] 0 0 (MQ below (NQv D (fun _ : Unit => True) (fun _ => [(b, .inr (4, [.int 0, .null, .int 0]))]) ((b, .inr (4, [.int 0, .null, .int 0])) :: []) s.heap.size) args s 0 0 (va_A ((b, .inr (4, [.int 0, .null, .int 0])) :: []) s.heap.size)) _
  have hA : ∀ q, s.heap.size ≤ q → va_A ((b, .inr (4, [.int 0, .null, .int 0])) :: []) s.heap.size q := fun q h => Or.inr h
  refine W.eq (by rw [hargs]) (t_in (vs := [.ref b]) (n := 1) (Nat.le_of_ble_eq_true rfl) (fun ls hl => ?_))
  have hl : lv_has ls 1 [(0, .ref b)] := hl
  refine lv_aload_n hx hb dJ0_init_0 rfl (lv_at hl 0 rfl) ?_
  refine W.objInit hx hb C.2.2.2.1 (C.2.2.2.2 _ q179) (C.2.2.2.2 _ q160) (C.2.2.2.2 _ q161) rfl (hl.1.trans C.2.2.1.symm) rfl dJ0_init_1 (Nat.le_of_ble_eq_true rfl) (Nat.le_of_ble_eq_true rfl) ?_
  refine W.eq (g2 := F0 m 4 ls []) rfl ?_
  refine n_vret (fun _ => [(b, .inr (4, [.int 0, .null, .int 0]))]) () C hT trivial (fun q hq => hq) (D_nd hT.2.1) hr hlocks dJ0_init_4
theorem hdJ1_init : yJ1_init.cls ≠ "java/lang/invoke/MethodHandle" ∧ yJ1_init.cls ≠ "java/lang/invoke/VarHandle" ∧ (parseMethodDescriptor yJ1_init.desc).map (fun d => d.parameters.length) = some 0 := by decide +kernel
set_option maxHeartbeats 8000000 in
theorem mJ1_init (l : Launch) (D : va_G) (d : Nat → ClassId) (sd : Nat) (b : Nat) (sz : Nat) : Met l yJ1_init (ws_ yJ1_init cJ1_init 1 none) ({ frames := 2, cells := 0, slots := 0, locals := 80 } : Room) (GPc D d sd [.ref b] ((b, .inr (4, [.int 0, .null, .int 0])) :: []) (fun _ => True) sz) (NQv D (fun _ : Unit => True) (fun _ => [(b, .inr (4, [.int 0, .null, .int 0]))]) ((b, .inr (4, [.int 0, .null, .int 0])) :: []) sz) 0 0 (va_A ((b, .inr (4, [.int 0, .null, .int 0])) :: []) sz) := by
  refine Met.ofW (cc := cJ1_init) (maxL := 1) (ret := none) plJ1 rfl ?_
  intro p e s m args below meth c s₁ B hml hv
  obtain ⟨C, hX, hR, hT, hr, hlocks, hargs, rfl⟩ := g_enter (own := RJ1) B hml rfl hv
  have hx := C.1
  have hb := C.2.1
  have hV := hX.1
  have hin2 : meth.name = "<init>" := (name_of_methodNamed B.named B.method).1
  show W p l e ({ frames := 2, cells := 0, slots := 0, locals := 80 } : Room) s m args below meth c s.heap [] 0 0 (MQ below (NQv D (fun _ : Unit => True) (fun _ => [(b, .inr (4, [.int 0, .null, .int 0]))]) ((b, .inr (4, [.int 0, .null, .int 0])) :: []) s.heap.size) args s 0 0 (va_A ((b, .inr (4, [.int 0, .null, .int 0])) :: []) s.heap.size)) _
  have hA : ∀ q, s.heap.size ≤ q → va_A ((b, .inr (4, [.int 0, .null, .int 0])) :: []) s.heap.size q := fun q h => Or.inr h
  refine W.eq (by rw [hargs]) (t_in (vs := [.ref b]) (n := 1) (Nat.le_of_ble_eq_true rfl) (fun ls hl => ?_))
  have hl : lv_has ls 1 [(0, .ref b)] := hl
  refine lv_aload_n hx hb dJ1_init_0 rfl (lv_at hl 0 rfl) ?_
  refine n_calln (vs := []) (rest := []) C hX hT hA (Cutn.all hT.2.1) trivial (fun sz => mJ0_init l D d sd b sz) (cwI 0 C.2.2.2.2 (lw_meth q178) rfl rfl rfl (C.2.2.2.2 _ q122) (C.2.2.2.2 _ q176) (C.2.2.2.2 _ q177) rfl hdJ0_init ⟨Nat.le_of_ble_eq_true rfl, Nat.le_of_ble_eq_true rfl⟩) rfl hl.1 rfl (Nat.le_of_ble_eq_true rfl) dJ1_init_1 ⟨Nat.le_of_ble_eq_true rfl, Nat.le_of_ble_eq_true rfl⟩ (fun u1_ H locs hu1 hT _ _ => ?_)
  have hT : TH D (va_A ((b, .inr (4, [.int 0, .null, .int 0])) :: []) s.heap.size) s.heap ((b, .inr (4, [.int 0, .null, .int 0])) :: []) H _ := hT
  refine W.widen (k := 0) (n := 0) (Nat.le_of_ble_eq_true rfl) (Nat.le_of_ble_eq_true rfl) ?_
  refine lv_aload_n hx hb dJ1_init_4 rfl (lv_at hl 0 rfl) ?_
  refine lv_iconst (v := 0) hx hb dJ1_init_5 (by decide) ?_
  refine w_put (ws1 := ((b, .inr (4, [.int 0, .null, .int 0])) :: [])) C hV hT 0 rfl rfl in_J2 tyJ2_ok nmJ2 0 (by decide) q186 (upd_set (p0 := 0) hT.2.1 rfl rfl) rfl rfl rfl rfl (Nat.le_of_ble_eq_true rfl) dJ1_init_6 (fun H locs hT => ?_)
  refine n_vret (fun _ => [(b, .inr (4, [.int 0, .null, .int 0]))]) () C hT trivial (fun q hq => hq) (D_nd hT.2.1) hr hlocks dJ1_init_9
theorem hdJ2_init : yJ2_init.cls ≠ "java/lang/invoke/MethodHandle" ∧ yJ2_init.cls ≠ "java/lang/invoke/VarHandle" ∧ (parseMethodDescriptor yJ2_init.desc).map (fun d => d.parameters.length) = some 1 := by decide +kernel
set_option maxHeartbeats 8000000 in
theorem mJ2_init (l : Launch) (D : va_G) (d : Nat → ClassId) (sd : Nat) (b : Nat) (sz : Nat) : Met l yJ2_init (ws_ yJ2_init cJ2_init 2 none) ({ frames := 3, cells := 1, slots := 2, locals := 120 } : Room) (GPc D d sd [.ref b, .int 2] ((b, .inr (4, [.int 0, .null, .int 0])) :: []) (fun _ => True) sz) (NQv D (fun _ : Nat => True) (fun q => [(b, .inr (4, [.int 0, .ref q, .int 0])), (q, .inl (d 6, 2, .inr (.inr (.inr (.inr (fun _ => none))))))]) ((b, .inr (4, [.int 0, .null, .int 0])) :: []) sz) 1 2 (va_A ((b, .inr (4, [.int 0, .null, .int 0])) :: []) sz) := by
  refine Met.ofW (cc := cJ2_init) (maxL := 2) (ret := none) plJ2 rfl ?_
  intro p e s m args below meth c s₁ B hml hv
  obtain ⟨C, hX, hR, hT, hr, hlocks, hargs, rfl⟩ := g_enter (own := RJ2) B hml rfl hv
  have hx := C.1
  have hb := C.2.1
  have hV := hX.1
  have hin2 : meth.name = "<init>" := (name_of_methodNamed B.named B.method).1
  show W p l e ({ frames := 3, cells := 1, slots := 2, locals := 120 } : Room) s m args below meth c s.heap [] 0 0 (MQ below (NQv D (fun _ : Nat => True) (fun q => [(b, .inr (4, [.int 0, .ref q, .int 0])), (q, .inl (d 6, 2, .inr (.inr (.inr (.inr (fun _ => none))))))]) ((b, .inr (4, [.int 0, .null, .int 0])) :: []) s.heap.size) args s 1 2 (va_A ((b, .inr (4, [.int 0, .null, .int 0])) :: []) s.heap.size)) _
  have hA : ∀ q, s.heap.size ≤ q → va_A ((b, .inr (4, [.int 0, .null, .int 0])) :: []) s.heap.size q := fun q h => Or.inr h
  refine W.eq (by rw [hargs]) (t_in (vs := [.ref b, .int 2]) (n := 2) (Nat.le_of_ble_eq_true rfl) (fun ls hl => ?_))
  have hl : lv_has ls 2 [(0, .ref b), (1, .int 2)] := hl
  refine lv_aload_n hx hb dJ2_init_0 rfl (lv_at hl 0 rfl) ?_
  refine n_calln (vs := []) (rest := []) C hX hT hA (Cutn.all hT.2.1) trivial (fun sz => mJ1_init l D d sd b sz) (cwI 0 C.2.2.2.2 (lw_meth q175) rfl rfl rfl (C.2.2.2.2 _ q123) (C.2.2.2.2 _ q173) (C.2.2.2.2 _ q174) rfl hdJ1_init ⟨Nat.le_of_ble_eq_true rfl, Nat.le_of_ble_eq_true rfl⟩) rfl hl.1 rfl (Nat.le_of_ble_eq_true rfl) dJ2_init_1 ⟨Nat.le_of_ble_eq_true rfl, Nat.le_of_ble_eq_true rfl⟩ (fun u1_ H locs hu1 hT _ _ => ?_)
  have hT : TH D (va_A ((b, .inr (4, [.int 0, .null, .int 0])) :: []) s.heap.size) s.heap ((b, .inr (4, [.int 0, .null, .int 0])) :: []) H _ := hT
  refine W.widen (k := 0) (n := 0) (Nat.le_of_ble_eq_true rfl) (Nat.le_of_ble_eq_true rfl) ?_
  refine lv_iload_n hx hb dJ2_init_4 rfl (lv_at hl 1 rfl) ?_
  refine lv_if_le (tgt := 19) hx hb dJ2_init_5 (by decide) (fun hc => absurd hc (by decide)) (fun _ => ?_)
  refine lv_aload_n hx hb dJ2_init_8 rfl (lv_at hl 0 rfl) ?_
  refine lv_iload_n hx hb dJ2_init_9 rfl (lv_at hl 1 rfl) ?_
  refine n_newq (t0 := 6) (N' := 2) C hV hT hA q180 (hX.2.1.ao q181) rfl (by decide) (by decide) (Nat.le_of_ble_eq_true rfl) (Nat.le_of_ble_eq_true rfl) (Nat.le_of_ble_eq_true rfl) dJ2_init_10 (fun q10_ H hT => ?_)
  refine W.widen (k := 1) (n := 2) (Nat.le_of_ble_eq_true rfl) (Nat.le_of_ble_eq_true rfl) ?_
  have hT : TH D (va_A ((b, .inr (4, [.int 0, .null, .int 0])) :: []) s.heap.size) s.heap ((b, .inr (4, [.int 0, .null, .int 0])) :: [(q10_, .inl (d 6, 2, .inr (.inr (.inr (.inr (fun _ => none))))))]) H _ := hT
  refine w_put (ws1 := ((b, .inr (4, [.int 0, .ref q10_, .int 0])) :: [(q10_, .inl (d 6, 2, .inr (.inr (.inr (.inr (fun _ => none))))))])) C hV hT 0 rfl rfl in_J2 tyJ2_ok nmJ2 1 (by decide) q184 (upd_set (p0 := 0) hT.2.1 rfl rfl) rfl rfl rfl rfl (Nat.le_of_ble_eq_true rfl) dJ2_init_13 (fun H locs hT => ?_)
  refine lv_goto (tgt := 60) hx hb dJ2_init_16 (by decide) ?_
  refine n_vret (fun q => [(b, .inr (4, [.int 0, .ref q, .int 0])), (q, .inl (d 6, 2, .inr (.inr (.inr (.inr (fun _ => none))))))]) q10_ C hT trivial (fun q hq => hq) (D_nd hT.2.1) hr hlocks dJ2_init_60
/-- a junction that is being made, with no road -/
def wJ0 (d : Nat → ClassId) (b : Nat → Nat) : va_W := [(b 0, .inr (3, [.ref (b 1), .ref (b 3), .ref (b 4), .int 0, .int 0])), (b 1, .inr (4, [.int 0, .ref (b 2), .int 0])), (b 2, .inl (d 6, 2, .inr (.inr (.inr (.inr (fun _ => none)))))), (b 3, .inl (d 0, 6, .inl (fun _ => 0))), (b 4, .inl (d 0, 12, .inl (fun _ => 0)))]
theorem hdX1_init : yX1_init.cls ≠ "java/lang/invoke/MethodHandle" ∧ yX1_init.cls ≠ "java/lang/invoke/VarHandle" ∧ (parseMethodDescriptor yX1_init.desc).map (fun d => d.parameters.length) = some 0 := by decide +kernel
set_option maxHeartbeats 8000000 in
theorem mX1_init (l : Launch) (D : va_G) (d : Nat → ClassId) (sd : Nat) (b : Nat) (sz : Nat) : Met l yX1_init (ws_ yX1_init cX1_init 1 none) ({ frames := 6, cells := 4, slots := 23, locals := 300 } : Room) (GPc D d sd [.ref b] ((b, .inr (3, [.null, .null, .null, .int 0, .int 0])) :: []) (fun _ => True) sz) (NQv D (fun b' : Nat → Nat => b' 0 = b) (wJ0 d) ((b, .inr (3, [.null, .null, .null, .int 0, .int 0])) :: []) sz) 4 23 (va_A ((b, .inr (3, [.null, .null, .null, .int 0, .int 0])) :: []) sz) := by
  refine Met.ofW (cc := cX1_init) (maxL := 1) (ret := none) plX1 rfl ?_
  intro p e s m args below meth c s₁ B hml hv
  obtain ⟨C, hX, hR, hT, hr, hlocks, hargs, rfl⟩ := g_enter (own := RX1) B hml rfl hv
  have hx := C.1
  have hb := C.2.1
  have hV := hX.1
  have hin2 : meth.name = "<init>" := (name_of_methodNamed B.named B.method).1
  show W p l e ({ frames := 6, cells := 4, slots := 23, locals := 300 } : Room) s m args below meth c s.heap [] 0 0 (MQ below (NQv D (fun b' : Nat → Nat => b' 0 = b) (wJ0 d) ((b, .inr (3, [.null, .null, .null, .int 0, .int 0])) :: []) s.heap.size) args s 4 23 (va_A ((b, .inr (3, [.null, .null, .null, .int 0, .int 0])) :: []) s.heap.size)) _
  have hA : ∀ q, s.heap.size ≤ q → va_A ((b, .inr (3, [.null, .null, .null, .int 0, .int 0])) :: []) s.heap.size q := fun q h => Or.inr h
  refine W.eq (by rw [hargs]) (t_in (vs := [.ref b]) (n := 1) (Nat.le_of_ble_eq_true rfl) (fun ls hl => ?_))
  have hl : lv_has ls 1 [(0, .ref b)] := hl
  refine lv_aload_n hx hb dX1_init_0 rfl (lv_at hl 0 rfl) ?_
  refine W.objInit hx hb C.2.2.2.1 (C.2.2.2.2 _ q167) (C.2.2.2.2 _ q160) (C.2.2.2.2 _ q161) rfl (hl.1.trans C.2.2.1.symm) rfl dX1_init_1 (Nat.le_of_ble_eq_true rfl) (Nat.le_of_ble_eq_true rfl) ?_
  refine W.eq (g2 := F0 m 4 ls []) rfl ?_
  refine lv_aload_n hx hb dX1_init_4 rfl (lv_at hl 0 rfl) ?_
  refine n_new (ci := 4) (fs := [.int 0, .null, .int 0]) C hV hT hA in_J2 tyJ2_ok rfl q168 q169 q124 (fun j hj => match j, hj with | 0, _ => rfl | 1, _ => rfl | 2, _ => rfl | j + 3, hj => absurd hj (by omega)) (Nat.le_of_ble_eq_true rfl) (Nat.le_of_ble_eq_true rfl) dX1_init_5 (fun q5_ H hT => ?_)
  refine W.widen (k := 1) (n := 3) (Nat.le_of_ble_eq_true rfl) (Nat.le_of_ble_eq_true rfl) ?_
  have hT : TH D (va_A ((b, .inr (3, [.null, .null, .null, .int 0, .int 0])) :: []) s.heap.size) s.heap ((b, .inr (3, [.null, .null, .null, .int 0, .int 0])) :: [(q5_, .inr (4, [.int 0, .null, .int 0]))]) H _ := hT
  refine lv_dup hx hb dX1_init_8 rfl ?_
  refine lv_iconst (v := 2) hx hb dX1_init_9 (by decide) ?_
  refine n_calln (vs := [.int 2]) (rest := [.ref q5_, .ref b]) C hX hT hA (Cutn.app (wr := ((b, .inr (3, [.null, .null, .null, .int 0, .int 0])) :: [])) (wc := [(q5_, .inr (4, [.int 0, .null, .int 0]))]) hT.2.1) trivial (fun sz => mJ2_init l D d sd q5_ sz) (cwI 1 C.2.2.2.2 (lw_meth q172) rfl rfl rfl (C.2.2.2.2 _ q124) (C.2.2.2.2 _ q170) (C.2.2.2.2 _ q171) rfl hdJ2_init ⟨Nat.le_of_ble_eq_true rfl, Nat.le_of_ble_eq_true rfl⟩) rfl hl.1 rfl (Nat.le_of_ble_eq_true rfl) dX1_init_10 ⟨Nat.le_of_ble_eq_true rfl, Nat.le_of_ble_eq_true rfl⟩ (fun u10_ H locs hu10 hT _ _ => ?_)
  have hT : TH D (va_A ((b, .inr (3, [.null, .null, .null, .int 0, .int 0])) :: []) s.heap.size) s.heap ((b, .inr (3, [.null, .null, .null, .int 0, .int 0])) :: [(q5_, .inr (4, [.int 0, .ref u10_, .int 0])), (u10_, .inl (d 6, 2, .inr (.inr (.inr (.inr (fun _ => none))))))]) H _ := hT
  refine W.widen (k := 2) (n := 5) (Nat.le_of_ble_eq_true rfl) (Nat.le_of_ble_eq_true rfl) ?_
  refine w_putF (ws1 := ((b, .inr (3, [.ref q5_, .null, .null, .int 0, .int 0])) :: [(q5_, .inr (4, [.int 0, .ref u10_, .int 0])), (u10_, .inl (d 6, 2, .inr (.inr (.inr (.inr (fun _ => none))))))])) C hV hT 0 rfl rfl in_X1 tyX1_ok nmX1 0 (by decide) q196 (upd_set (p0 := 0) hT.2.1 rfl rfl) rfl hin2 rfl rfl rfl rfl (Nat.le_of_ble_eq_true rfl) dX1_init_13 (fun H locs hT => ?_)
  refine lv_aload_n hx hb dX1_init_16 rfl (lv_at hl 0 rfl) ?_
  refine lv_bipush (v := 6) hx hb dX1_init_17 (by decide) ?_
  refine n_newa (ty := .int) (t0 := 0) (N' := 6) (x := .inl (fun _ => 0)) (atype := .int) C hV hT hA q220 rfl rfl (fun _ => rfl) (by decide) (by decide) (Nat.le_of_ble_eq_true rfl) (Nat.le_of_ble_eq_true rfl) (Nat.le_of_ble_eq_true rfl) dX1_init_19 (fun q19_ H hT => ?_)
  refine W.widen (k := 3) (n := 11) (Nat.le_of_ble_eq_true rfl) (Nat.le_of_ble_eq_true rfl) ?_
  have hT : TH D (va_A ((b, .inr (3, [.null, .null, .null, .int 0, .int 0])) :: []) s.heap.size) s.heap ((b, .inr (3, [.ref q5_, .null, .null, .int 0, .int 0])) :: [(q5_, .inr (4, [.int 0, .ref u10_, .int 0])), (u10_, .inl (d 6, 2, .inr (.inr (.inr (.inr (fun _ => none)))))), (q19_, .inl (d 0, 6, .inl (fun _ => 0)))]) H _ := hT
  refine w_putF (ws1 := ((b, .inr (3, [.ref q5_, .ref q19_, .null, .int 0, .int 0])) :: [(q5_, .inr (4, [.int 0, .ref u10_, .int 0])), (u10_, .inl (d 6, 2, .inr (.inr (.inr (.inr (fun _ => none)))))), (q19_, .inl (d 0, 6, .inl (fun _ => 0)))])) C hV hT 0 rfl rfl in_X1 tyX1_ok nmX1 1 (by decide) q199 (upd_set (p0 := 0) hT.2.1 rfl rfl) rfl hin2 rfl rfl rfl rfl (Nat.le_of_ble_eq_true rfl) dX1_init_21 (fun H locs hT => ?_)
  refine lv_aload_n hx hb dX1_init_24 rfl (lv_at hl 0 rfl) ?_
  refine lv_bipush (v := 12) hx hb dX1_init_25 (by decide) ?_
  refine n_newa (ty := .int) (t0 := 0) (N' := 12) (x := .inl (fun _ => 0)) (atype := .int) C hV hT hA q220 rfl rfl (fun _ => rfl) (by decide) (by decide) (Nat.le_of_ble_eq_true rfl) (Nat.le_of_ble_eq_true rfl) (Nat.le_of_ble_eq_true rfl) dX1_init_27 (fun q27_ H hT => ?_)
  refine W.widen (k := 4) (n := 23) (Nat.le_of_ble_eq_true rfl) (Nat.le_of_ble_eq_true rfl) ?_
  have hT : TH D (va_A ((b, .inr (3, [.null, .null, .null, .int 0, .int 0])) :: []) s.heap.size) s.heap ((b, .inr (3, [.ref q5_, .ref q19_, .null, .int 0, .int 0])) :: [(q5_, .inr (4, [.int 0, .ref u10_, .int 0])), (u10_, .inl (d 6, 2, .inr (.inr (.inr (.inr (fun _ => none)))))), (q19_, .inl (d 0, 6, .inl (fun _ => 0))), (q27_, .inl (d 0, 12, .inl (fun _ => 0)))]) H _ := hT
  refine w_putF (ws1 := ((b, .inr (3, [.ref q5_, .ref q19_, .ref q27_, .int 0, .int 0])) :: [(q5_, .inr (4, [.int 0, .ref u10_, .int 0])), (u10_, .inl (d 6, 2, .inr (.inr (.inr (.inr (fun _ => none)))))), (q19_, .inl (d 0, 6, .inl (fun _ => 0))), (q27_, .inl (d 0, 12, .inl (fun _ => 0)))])) C hV hT 0 rfl rfl in_X1 tyX1_ok nmX1 2 (by decide) q202 (upd_set (p0 := 0) hT.2.1 rfl rfl) rfl hin2 rfl rfl rfl rfl (Nat.le_of_ble_eq_true rfl) dX1_init_29 (fun H locs hT => ?_)
  refine n_vret (wJ0 d) (fun k => ([b, q5_, u10_, q19_, q27_] : List Nat).getD k 0) C hT rfl (fun q hq => hq) (D_nd hT.2.1) hr hlocks dX1_init_32
def wI0 (d : Nat → ClassId) (a32 : Nat) (b c : Nat → Nat) : va_W := (b 0, .inr (16, [.null, .ref (c 0), .ref (b 1), .ref (b 2), .ref (b 3), .int 0, .int 0, .int 0, .ref a32])) :: (wS d c ss0 ++ [(b 1, .inl (d 0, 10, .inl (fun _ => 0))), (b 2, .inl (d 0, 10, .inl (fun _ => 0))), (b 3, .inl (d 0, 10, .inl (fun _ => 0)))])
theorem hdX17_init : yX17_init.cls ≠ "java/lang/invoke/MethodHandle" ∧ yX17_init.cls ≠ "java/lang/invoke/VarHandle" ∧ (parseMethodDescriptor yX17_init.desc).map (fun d => d.parameters.length) = some 1 := by decide +kernel
set_option maxHeartbeats 8000000 in
theorem mX17_init (l : Launch) (D : va_G) (d : Nat → ClassId) (sd : Nat) (b a32 : Nat) (sz : Nat) : Met l yX17_init (ws_ yX17_init cX17_init 2 none) ({ frames := 8, cells := 11, slots := 87, locals := 400 } : Room) (GPc D d sd [.ref b, .ref a32] ((b, .inr (16, [.null, .null, .null, .null, .null, .int 0, .int 0, .int 0, .null])) :: []) (fun _ => True) sz) (NQv D (fun bc : (Nat → Nat) × (Nat → Nat) => bc.1 0 = b) (fun bc : (Nat → Nat) × (Nat → Nat) => wI0 d a32 bc.1 bc.2) ((b, .inr (16, [.null, .null, .null, .null, .null, .int 0, .int 0, .int 0, .null])) :: []) sz) 11 87 (va_A ((b, .inr (16, [.null, .null, .null, .null, .null, .int 0, .int 0, .int 0, .null])) :: []) sz) := by
  refine Met.ofW (cc := cX17_init) (maxL := 2) (ret := none) plX17 rfl ?_
  intro p e s m args below meth c s₁ B hml hv
  obtain ⟨C, hX, hR, hT, hr, hlocks, hargs, rfl⟩ := g_enter (own := RX17) B hml rfl hv
  have hx := C.1
  have hb := C.2.1
  have hV := hX.1
  have hin2 : meth.name = "<init>" := (name_of_methodNamed B.named B.method).1
  show W p l e ({ frames := 8, cells := 11, slots := 87, locals := 400 } : Room) s m args below meth c s.heap [] 0 0 (MQ below (NQv D (fun bc : (Nat → Nat) × (Nat → Nat) => bc.1 0 = b) (fun bc : (Nat → Nat) × (Nat → Nat) => wI0 d a32 bc.1 bc.2) ((b, .inr (16, [.null, .null, .null, .null, .null, .int 0, .int 0, .int 0, .null])) :: []) s.heap.size) args s 11 87 (va_A ((b, .inr (16, [.null, .null, .null, .null, .null, .int 0, .int 0, .int 0, .null])) :: []) s.heap.size)) _
  have hA : ∀ q, s.heap.size ≤ q → va_A ((b, .inr (16, [.null, .null, .null, .null, .null, .int 0, .int 0, .int 0, .null])) :: []) s.heap.size q := fun q h => Or.inr h
  refine W.eq (by rw [hargs]) (t_in (vs := [.ref b, .ref a32]) (n := 2) (Nat.le_of_ble_eq_true rfl) (fun ls hl => ?_))
  have hl : lv_has ls 2 [(0, .ref b), (1, .ref a32)] := hl
  refine lv_aload_n hx hb dX17_init_0 rfl (lv_at hl 0 rfl) ?_
  refine lv_aload_n hx hb dX17_init_1 rfl (lv_at hl 1 rfl) ?_
  refine w_putF (ws1 := ((b, .inr (16, [.null, .null, .null, .null, .null, .int 0, .int 0, .int 0, .ref a32])) :: [])) C hV hT 0 rfl rfl in_X17 tyX17_ok nmX17 8 (by decide) q1208 (upd_set (p0 := 0) hT.2.1 rfl rfl) rfl hin2 rfl rfl rfl rfl (Nat.le_of_ble_eq_true rfl) dX17_init_2 (fun H locs hT => ?_)
  refine lv_aload_n hx hb dX17_init_5 rfl (lv_at hl 0 rfl) ?_
  refine W.objInit hx hb C.2.2.2.1 (C.2.2.2.2 _ q1197) (C.2.2.2.2 _ q160) (C.2.2.2.2 _ q161) rfl (hl.1.trans C.2.2.1.symm) rfl dX17_init_6 (Nat.le_of_ble_eq_true rfl) (Nat.le_of_ble_eq_true rfl) ?_
  refine W.eq (g2 := F0 m 9 ls []) rfl ?_
  refine lv_aload_n hx hb dX17_init_9 rfl (lv_at hl 0 rfl) ?_
  refine n_new (ci := 2) (fs := [.null, .null, .null, .null, .null, .null, .null, .int 0, .int 0]) C hV hT hA in_X2 tyX2_ok rfl q1198 q222 q125 (fun j hj => match j, hj with | 0, _ => rfl | 1, _ => rfl | 2, _ => rfl | 3, _ => rfl | 4, _ => rfl | 5, _ => rfl | 6, _ => rfl | 7, _ => rfl | 8, _ => rfl | j + 9, hj => absurd hj (by omega)) (Nat.le_of_ble_eq_true rfl) (Nat.le_of_ble_eq_true rfl) dX17_init_10 (fun q10_ H hT => ?_)
  refine W.widen (k := 1) (n := 9) (Nat.le_of_ble_eq_true rfl) (Nat.le_of_ble_eq_true rfl) ?_
  have hT : TH D (va_A ((b, .inr (16, [.null, .null, .null, .null, .null, .int 0, .int 0, .int 0, .null])) :: []) s.heap.size) s.heap ((b, .inr (16, [.null, .null, .null, .null, .null, .int 0, .int 0, .int 0, .ref a32])) :: [(q10_, .inr (2, [.null, .null, .null, .null, .null, .null, .null, .int 0, .int 0]))]) H _ := hT
  refine lv_dup hx hb dX17_init_13 rfl ?_
  refine n_callnN (vs := []) (rest := [.ref q10_, .ref b]) C hX hT hA (Cutn.app (wr := ((b, .inr (16, [.null, .null, .null, .null, .null, .int 0, .int 0, .int 0, .ref a32])) :: [])) (wc := [(q10_, .inr (2, [.null, .null, .null, .null, .null, .null, .null, .int 0, .int 0]))]) hT.2.1) trivial (fun sz => mX2_init l D d sd q10_ sz) ⟨va_cnB 0 C.2.2.2.2 (lw_meth q225) rfl rfl rfl (hX.2.1 _ q1199 rfl) (C.2.2.2.2 _ q125) hdX2_init ⟨Nat.le_of_ble_eq_true rfl, Nat.le_of_ble_eq_true rfl⟩, rfl, C.2.2.2.2 _ q224⟩ rfl hl.1 rfl (Nat.le_of_ble_eq_true rfl) dX17_init_14 ⟨Nat.le_of_ble_eq_true rfl, Nat.le_of_ble_eq_true rfl⟩ (fun u14_ H locs hu14 hT _ _ => ?_)
  have hu := hu14
  have hT : TH D (va_A ((b, .inr (16, [.null, .null, .null, .null, .null, .int 0, .int 0, .int 0, .null])) :: []) s.heap.size) s.heap ((b, .inr (16, [.null, .null, .null, .null, .null, .int 0, .int 0, .int 0, .ref a32])) :: (wS d u14_ ss0)) H _ := hT
  refine W.widen (k := 8) (n := 57) (Nat.le_of_ble_eq_true rfl) (Nat.le_of_ble_eq_true rfl) ?_
  refine w_putF (ws1 := ((b, .inr (16, [.null, .ref q10_, .null, .null, .null, .int 0, .int 0, .int 0, .ref a32])) :: (wS d u14_ ss0))) C hV hT 0 rfl rfl in_X17 tyX17_ok nmX17 1 (by decide) q1201 (upd_set (p0 := 0) hT.2.1 rfl rfl) rfl hin2 rfl rfl rfl rfl (Nat.le_of_ble_eq_true rfl) dX17_init_17 (fun H locs hT => ?_)
  refine lv_aload_n hx hb dX17_init_20 rfl (lv_at hl 0 rfl) ?_
  refine lv_bipush (v := 10) hx hb dX17_init_21 (by decide) ?_
  refine n_newa (ty := .int) (t0 := 0) (N' := 10) (x := .inl (fun _ => 0)) (atype := .int) C hV hT hA q220 rfl rfl (fun _ => rfl) (by decide) (by decide) (Nat.le_of_ble_eq_true rfl) (Nat.le_of_ble_eq_true rfl) (Nat.le_of_ble_eq_true rfl) dX17_init_23 (fun q23_ H hT => ?_)
  refine W.widen (k := 9) (n := 67) (Nat.le_of_ble_eq_true rfl) (Nat.le_of_ble_eq_true rfl) ?_
  have hT : TH D (va_A ((b, .inr (16, [.null, .null, .null, .null, .null, .int 0, .int 0, .int 0, .null])) :: []) s.heap.size) s.heap ((b, .inr (16, [.null, .ref q10_, .null, .null, .null, .int 0, .int 0, .int 0, .ref a32])) :: ((wS d u14_ ss0) ++ [(q23_, .inl (d 0, 10, .inl (fun _ => 0)))])) H _ := hT
  refine w_putF (ws1 := ((b, .inr (16, [.null, .ref q10_, .ref q23_, .null, .null, .int 0, .int 0, .int 0, .ref a32])) :: ((wS d u14_ ss0) ++ [(q23_, .inl (d 0, 10, .inl (fun _ => 0)))]))) C hV hT 0 rfl rfl in_X17 tyX17_ok nmX17 2 (by decide) q1202 (upd_set (p0 := 0) hT.2.1 rfl rfl) rfl hin2 rfl rfl rfl rfl (Nat.le_of_ble_eq_true rfl) dX17_init_25 (fun H locs hT => ?_)
  refine lv_aload_n hx hb dX17_init_28 rfl (lv_at hl 0 rfl) ?_
  refine lv_bipush (v := 10) hx hb dX17_init_29 (by decide) ?_
  refine n_newa (ty := .int) (t0 := 0) (N' := 10) (x := .inl (fun _ => 0)) (atype := .int) C hV hT hA q220 rfl rfl (fun _ => rfl) (by decide) (by decide) (Nat.le_of_ble_eq_true rfl) (Nat.le_of_ble_eq_true rfl) (Nat.le_of_ble_eq_true rfl) dX17_init_31 (fun q31_ H hT => ?_)
  refine W.widen (k := 10) (n := 77) (Nat.le_of_ble_eq_true rfl) (Nat.le_of_ble_eq_true rfl) ?_
  have hT : TH D (va_A ((b, .inr (16, [.null, .null, .null, .null, .null, .int 0, .int 0, .int 0, .null])) :: []) s.heap.size) s.heap ((b, .inr (16, [.null, .ref q10_, .ref q23_, .null, .null, .int 0, .int 0, .int 0, .ref a32])) :: ((wS d u14_ ss0) ++ [(q23_, .inl (d 0, 10, .inl (fun _ => 0))), (q31_, .inl (d 0, 10, .inl (fun _ => 0)))])) H _ := hT
  refine w_putF (ws1 := ((b, .inr (16, [.null, .ref q10_, .ref q23_, .ref q31_, .null, .int 0, .int 0, .int 0, .ref a32])) :: ((wS d u14_ ss0) ++ [(q23_, .inl (d 0, 10, .inl (fun _ => 0))), (q31_, .inl (d 0, 10, .inl (fun _ => 0)))]))) C hV hT 0 rfl rfl in_X17 tyX17_ok nmX17 3 (by decide) q1203 (upd_set (p0 := 0) hT.2.1 rfl rfl) rfl hin2 rfl rfl rfl rfl (Nat.le_of_ble_eq_true rfl) dX17_init_33 (fun H locs hT => ?_)
  refine lv_aload_n hx hb dX17_init_36 rfl (lv_at hl 0 rfl) ?_
  refine lv_bipush (v := 10) hx hb dX17_init_37 (by decide) ?_
  refine n_newa (ty := .int) (t0 := 0) (N' := 10) (x := .inl (fun _ => 0)) (atype := .int) C hV hT hA q220 rfl rfl (fun _ => rfl) (by decide) (by decide) (Nat.le_of_ble_eq_true rfl) (Nat.le_of_ble_eq_true rfl) (Nat.le_of_ble_eq_true rfl) dX17_init_39 (fun q39_ H hT => ?_)
  refine W.widen (k := 11) (n := 87) (Nat.le_of_ble_eq_true rfl) (Nat.le_of_ble_eq_true rfl) ?_
  have hT : TH D (va_A ((b, .inr (16, [.null, .null, .null, .null, .null, .int 0, .int 0, .int 0, .null])) :: []) s.heap.size) s.heap ((b, .inr (16, [.null, .ref q10_, .ref q23_, .ref q31_, .null, .int 0, .int 0, .int 0, .ref a32])) :: ((wS d u14_ ss0) ++ [(q23_, .inl (d 0, 10, .inl (fun _ => 0))), (q31_, .inl (d 0, 10, .inl (fun _ => 0))), (q39_, .inl (d 0, 10, .inl (fun _ => 0)))])) H _ := hT
  refine w_putF (ws1 := ((b, .inr (16, [.null, .ref q10_, .ref q23_, .ref q31_, .ref q39_, .int 0, .int 0, .int 0, .ref a32])) :: ((wS d u14_ ss0) ++ [(q23_, .inl (d 0, 10, .inl (fun _ => 0))), (q31_, .inl (d 0, 10, .inl (fun _ => 0))), (q39_, .inl (d 0, 10, .inl (fun _ => 0)))]))) C hV hT 0 rfl rfl in_X17 tyX17_ok nmX17 4 (by decide) q1204 (upd_set (p0 := 0) hT.2.1 rfl rfl) rfl hin2 rfl rfl rfl rfl (Nat.le_of_ble_eq_true rfl) dX17_init_41 (fun H locs hT => ?_)
  rw [← hu] at hT
  refine n_vret (fun bc : (Nat → Nat) × (Nat → Nat) => wI0 d a32 bc.1 bc.2) ((fun k => ([b, q23_, q31_, q39_] : List Nat).getD k 0), u14_) C hT rfl (fun q hq => hq) (D_nd hT.2.1) hr hlocks dX17_init_44
