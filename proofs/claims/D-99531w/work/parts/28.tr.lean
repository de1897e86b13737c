set_option maxRecDepth 100000
/-! ===== the trees of a rule: what their methods answer ===== -/
section GU
variable {p : Program} {l : Launch} {e : Env} {R : Room} {s : State} {m : MethodId} {args : Array Value} {below : List Frame} {meth : Method} {c : Code} {H : Heap} {locs : List Loc} {cells slots : Nat} {Q : State → Prop}
variable {cc : ByteArray} {nL pc : Nat} {ls : Array Slot} {rest : List Value} {D : va_G} {d : Nat → ClassId} {sd : Nat} {A : Nat → Prop} {own : String} {ws ws0 : va_W}
variable {x y : MethodName} {bytes : ByteArray} {maxL idx n : Nat} {rt : FieldType} {rm : Room} {vs st0 : List Value} {wc wc' ws' : va_W} {Ro : (Nat → va_E → Prop) → Prop}
theorem g_ucalll {r : Int64} {b : Nat} {C0 owner : String} (C : CallFix p m c cc nL s args lw_all own) (hX : RX D d sd A s s.heap) (hT : TH D A s.heap ws H locs) (hA : ∀ q, s.heap.size ≤ q → A q) (hC : Cut ws wc wc' ws') (hRo : Ro (FzP D (va_A wc H.size) H)) (hM : ∀ sz, Met l y (ws_ y bytes maxL (some rt)) rm (GPc D d sd (.ref b :: vs) wc Ro sz) (GQl D r wc' wc sz) 0 0 (va_A wc sz)) (cw : va_CU R s args own C0 owner idx x y bytes maxL (some rt) (ws_ y bytes maxL (some rt)) rm 0 0 n) (hrecv : ∃ cell : Cell, H[b]? = some cell ∧ cell.vm.isStatics = false ∧ s.vm.findClass C0 = some cell.cls) (hn : vs.length = n) (hsize : ls.size = nL) (hst : st0 = vs.reverse ++ .ref b :: rest) (hroom : (rest.map fun v => v.category).sum ≤ 8) (hdg : decode cc pc = .ok (.invokevirtual idx, 3)) (hf : cells + 0 ≤ R.cells ∧ slots + 0 ≤ R.slots)
    (k : ∀ (H1 : Heap) (locs1 : List Loc), TH D A s.heap ws' H1 locs1 → W p l e R s m args below meth c H1 locs1 cells slots Q (F0 m (pc + 3) ls (.long r :: rest))) : W p l e R s m args below meth c H locs cells slots Q (F0 m pc ls st0) := by
  obtain ⟨h1, h2, h3⟩ := g_pre (vs := .ref b :: vs) hX hT hA hC hRo
  refine va_calll (va_runU (As := vs) (rest := rest) C (hM H.size) cw ⟨h1, hrecv, h2⟩ rfl hn hsize hst (lv_room hroom) hdg hf) hT.2.2 (fun q _ h => h3 q h) h3 (fun r1 u T2 H1 locs1 ht hvm hw1 hB hz1 hk1 hS => ?_)
  subst hw1
  exact k H1 locs1 (g_after hT hC ht hB hk1 hS)
theorem g_ucalli {r : Int32} {b : Nat} {C0 owner : String} (C : CallFix p m c cc nL s args lw_all own) (hX : RX D d sd A s s.heap) (hT : TH D A s.heap ws H locs) (hA : ∀ q, s.heap.size ≤ q → A q) (hC : Cut ws wc wc' ws') (hRo : Ro (FzP D (va_A wc H.size) H)) (hM : ∀ sz, Met l y (ws_ y bytes maxL (some rt)) rm (GPc D d sd (.ref b :: vs) wc Ro sz) (GQi D r wc' wc sz) 0 0 (va_A wc sz)) (cw : va_CU R s args own C0 owner idx x y bytes maxL (some rt) (ws_ y bytes maxL (some rt)) rm 0 0 n) (hrecv : ∃ cell : Cell, H[b]? = some cell ∧ cell.vm.isStatics = false ∧ s.vm.findClass C0 = some cell.cls) (hn : vs.length = n) (hsize : ls.size = nL) (hst : st0 = vs.reverse ++ .ref b :: rest) (hroom : (rest.map fun v => v.category).sum ≤ 8) (hdg : decode cc pc = .ok (.invokevirtual idx, 3)) (hf : cells + 0 ≤ R.cells ∧ slots + 0 ≤ R.slots)
    (k : ∀ (H1 : Heap) (locs1 : List Loc), TH D A s.heap ws' H1 locs1 → W p l e R s m args below meth c H1 locs1 cells slots Q (F0 m (pc + 3) ls (.int r :: rest))) : W p l e R s m args below meth c H locs cells slots Q (F0 m pc ls st0) := by
  obtain ⟨h1, h2, h3⟩ := g_pre (vs := .ref b :: vs) hX hT hA hC hRo
  refine va_calli (va_runU (As := vs) (rest := rest) C (hM H.size) cw ⟨h1, hrecv, h2⟩ rfl hn hsize hst (lv_room hroom) hdg hf) hT.2.2 (fun q _ h => h3 q h) h3 (fun r1 u T2 H1 locs1 ht hvm hw1 hB hz1 hk1 hS => ?_)
  subst hw1
  exact k H1 locs1 (g_after hT hC ht hB hk1 hS)
theorem n_lret {v w : Int64} (hA0 : A = va_A [] s.heap.size) (C : CallFix p m c cc nL s args lw_all own) (hT : TH D A s.heap [] H locs) (hf : some v = some w) (hr : meth.sig.returnType = some .long) (hlocks : meth.locks = false) (hdg : decode cc pc = .ok (.lreturn, 1)) : W p l e R s m args below meth c H locs 0 0 (MQ below (GQl D w [] [] s.heap.size) args s 0 0 A) (F0 m pc ls [.long v]) := by
  subst hA0; cases hf; exact g_lret C hT hr hlocks hdg
end GU
def y_of : MethodName := ⟨RX8, "of", "([J)J"⟩
def y_is : MethodName := ⟨RX13, "is", "([J)Z"⟩
theorem lw_U {own : String} {idx : Nat} {C owner : String} {x y : MethodName} {b : ByteArray} {L : Nat} {r : Option FieldType} (h1 : Cond.methodLink own idx x ∈ lw_all) (h2 : Cond.sameMethod x.cls owner x.name x.desc ∈ lw_all) (h3 : Cond.selects C x y ∈ lw_all) (h4 : Cond.instanceMethod y ∈ lw_all) (h5 : Cond.initialized y.cls ∈ lw_all) (h6 : Cond.code y b L r ∈ lw_all) : GoodIn lw_all (va_wsU own idx C owner x y (ws_ y b L r)) := by
  refine lw_app ?_ (lw_meth h6)
  intro w hw
  simp only [List.mem_cons, List.not_mem_nil, or_false] at hw
  rcases hw with e | e | e | e | e
  · rw [e]; exact h1
  · rw [e]; exact h2
  · rw [e]; exact h3
  · rw [e]; exact h4
  · rw [e]; exact h5
theorem hd_of : RX8 ≠ "java/lang/invoke/MethodHandle" ∧ RX8 ≠ "java/lang/invoke/VarHandle" ∧ (parseMethodDescriptor y_of.desc).map (fun d => d.parameters.length) = some 1 := by decide +kernel
theorem hd_is : RX13 ≠ "java/lang/invoke/MethodHandle" ∧ RX13 ≠ "java/lang/invoke/VarHandle" ∧ (parseMethodDescriptor y_is.desc).map (fun d => d.parameters.length) = some 1 := by decide +kernel
abbrev WRo (d : Nat → ClassId) (aw : Nat) (wd : Nat → Int64) (P : Nat → va_E → Prop) : Prop := P aw (.inl (d 2, 12, .inr (.inl wd)))
abbrev JRo (d : Nat → ClassId) (m a x y aw : Nat) (fx fy : FV) (sg : Int32) (wd : Nat → Int64) (P : Nat → va_E → Prop) : Prop := P a (.inr (11, [.ref x, .ref y, .int sg])) ∧ VT P m x fx ∧ VT P m y fy ∧ WRo d aw wd P
def JM (l : Launch) (D : va_G) (d : Nat → ClassId) (sd m : Nat) : Prop := ∀ (a x y aw : Nat) (fx fy : FV) (sg : Int32) (wd : Nat → Int64) (sz : Nat), Met l yX11_of (ws_ yX11_of cX11_of 6 (some .long)) (rm_ (m + 1) (40 * (m + 1))) (GPc D d sd [.ref a, .ref aw] [] (JRo d m a x y aw fx fy sg wd) sz) (GQl D (jop sg (fx wd) (fy wd)) [] [] sz) 0 0 (va_A [] sz)
theorem plX9 : plainName RX9 = true := by decide +kernel
theorem plX10 : plainName RX10 = true := by decide +kernel
theorem plX11 : plainName RX11 = true := by decide +kernel
theorem plX14 : plainName RX14 = true := by decide +kernel
theorem plX15 : plainName RX15 = true := by decide +kernel
theorem plX16 : plainName RX16 = true := by decide +kernel
theorem plX12 : plainName RX12 = true := by decide +kernel
theorem plX7 : plainName RX7 = true := by decide +kernel
def fX9_of (N : Nat) (kk : Int32) (wd : Nat → Int64) : Option (Int64) :=
  (some (kk).toInt64)
set_option maxHeartbeats 4000000 in
theorem mX9_of (l : Launch) (D : va_G) (d : Nat → ClassId) (sd : Nat) (N : Nat) (a : Nat) (aw : Nat) (kk : Int32) (wd : Nat → Int64) (w : Int64) (hf : fX9_of N kk wd = some w) (sz : Nat) : Met l yX9_of (ws_ yX9_of cX9_of 2 (some .long)) (rm_ 0 0) (GPc D d sd [.ref a, .ref aw] [] (fun P => P a (.inr (9, [.int kk])) ∧ WRo d aw wd P) sz) (GQl D w [] [] sz) 0 0 (va_A [] sz) := by
  refine Met.ofW (cc := cX9_of) (maxL := 2) (ret := (some .long)) plX9 rfl ?_
  intro p e s m args below meth c s₁ B hml hv
  obtain ⟨C, hX, hR, hT, hr, hlocks, hargs, rfl⟩ := g_enter (own := RX9) B hml rfl hv
  have hx := C.1
  have hb := C.2.1
  have hV := hX.1
  obtain ⟨A, hA0⟩ : ∃ A, A = va_A [] s.heap.size := ⟨_, rfl⟩
  rw [← hA0] at hX hR hT
  show W p l e (rm_ 0 0) s m args below meth c s.heap [] 0 0 (MQ below (GQl D w [] [] s.heap.size) args s 0 0 (va_A [] s.heap.size)) _
  rw [← hA0]
  have hW := hR.2
  refine W.eq (by rw [hargs]) (t_in (vs := [.ref a, .ref aw]) (n := 2) (Nat.le_of_ble_eq_true rfl) (fun ls hl => ?_))
  have hl : lv_has ls 2 [(0, .ref a), (1, .ref aw)] := hl
  unfold fX9_of at hf
  refine lv_aload_n hx hb dX9_of_0 rfl (lv_at hl 0 rfl) ?_
  refine r_get C hV (hR.1.at hT.2.2) (ci := 9) rfl in_X9 0 (by decide) q759 rfl dX9_of_1 ?_
  refine lv_i2l hx hb dX9_of_4 rfl ?_
  exact n_lret hA0 C hT hf hr hlocks dX9_of_5
def fX10_of (N : Nat) (kk : Int32) (wd : Nat → Int64) : Option (Int64) :=
  (ix kk 12 (some (wd (kk).toNatClampNeg)))
set_option maxHeartbeats 4000000 in
theorem mX10_of (l : Launch) (D : va_G) (d : Nat → ClassId) (sd : Nat) (N : Nat) (a : Nat) (aw : Nat) (kk : Int32) (wd : Nat → Int64) (w : Int64) (hf : fX10_of N kk wd = some w) (sz : Nat) : Met l yX10_of (ws_ yX10_of cX10_of 2 (some .long)) (rm_ 0 0) (GPc D d sd [.ref a, .ref aw] [] (fun P => P a (.inr (10, [.int kk])) ∧ WRo d aw wd P) sz) (GQl D w [] [] sz) 0 0 (va_A [] sz) := by
  refine Met.ofW (cc := cX10_of) (maxL := 2) (ret := (some .long)) plX10 rfl ?_
  intro p e s m args below meth c s₁ B hml hv
  obtain ⟨C, hX, hR, hT, hr, hlocks, hargs, rfl⟩ := g_enter (own := RX10) B hml rfl hv
  have hx := C.1
  have hb := C.2.1
  have hV := hX.1
  obtain ⟨A, hA0⟩ : ∃ A, A = va_A [] s.heap.size := ⟨_, rfl⟩
  rw [← hA0] at hX hR hT
  show W p l e (rm_ 0 0) s m args below meth c s.heap [] 0 0 (MQ below (GQl D w [] [] s.heap.size) args s 0 0 (va_A [] s.heap.size)) _
  rw [← hA0]
  have hW := hR.2
  refine W.eq (by rw [hargs]) (t_in (vs := [.ref a, .ref aw]) (n := 2) (Nat.le_of_ble_eq_true rfl) (fun ls hl => ?_))
  have hl : lv_has ls 2 [(0, .ref a), (1, .ref aw)] := hl
  unfold fX10_of at hf
  refine lv_aload_n hx hb dX10_of_0 rfl (lv_at hl 1 rfl) ?_
  refine lv_aload_n hx hb dX10_of_1 rfl (lv_at hl 0 rfl) ?_
  refine r_get C hV (hR.1.at hT.2.2) (ci := 10) rfl in_X10 0 (by decide) q773 rfl dX10_of_2 ?_
  obtain ⟨hi, hf⟩ := ix_e hf
  refine r_lld C hV (hW.at hT.2.2) _ hi rfl dX10_of_5 ?_
  exact n_lret hA0 C hT hf hr hlocks dX10_of_6
section GVAL
variable {p : Program} {l : Launch} {e : Env} {R : Room} {s : State} {m : MethodId} {args : Array Value} {below : List Frame} {meth : Method} {c : Code} {H : Heap} {locs : List Loc} {cells slots : Nat} {Q : State → Prop}
variable {cc : ByteArray} {nL pc : Nat} {ls : Array Slot} {rest : List Value} {D : va_G} {d : Nat → ClassId} {sd : Nat} {A : Nat → Prop} {own : String} {ws ws0 : va_W}
set_option maxHeartbeats 4000000 in
/-- a call of Value.of on a tree that is only read -/
theorem g_val {n idx x aw : Nat} {fx : FV} {wd : Nat → Int64} (C : CallFix p m c cc nL s args lw_all own) (hX : RX D d sd A s s.heap) (hA : ∀ q, s.heap.size ≤ q → A q) (hT : TH D A s.heap ws H locs) (hJ : ∀ k, n = k + 1 → JM l D d sd k) (hv : VT (FzP D A s.heap) n x fx) (hw : FzP D (va_A [] H.size) H aw (.inl (d 2, 12, .inr (.inl wd)))) (hl : Cond.methodLink own idx y_of ∈ lw_all) (hfr : n + 1 ≤ R.frames) (hlo : 40 * n + 40 ≤ R.locals) (hsize : ls.size = nL) (hroom : (rest.map fun v => v.category).sum ≤ 8) (hdg : decode cc pc = .ok (.invokevirtual idx, 3)) (hf : cells + 0 ≤ R.cells ∧ slots + 0 ≤ R.slots)
    (k : ∀ (H1 : Heap) (locs1 : List Loc), TH D A s.heap ws H1 locs1 → W p l e R s m args below meth c H1 locs1 cells slots Q (F0 m (pc + 3) ls (.long (fx wd) :: rest))) : W p l e R s m args below meth c H locs cells slots Q (F0 m pc ls (.ref aw :: .ref x :: rest)) := by
  have hV := hX.1
  have hn := va_Nw.use (A := #[]) rfl (hX.2.1 _ q1000 rfl)
  have hS := Anil hA hT.2.2.1
  cases n with
  | zero => exact hv.elim
  | succ n =>
    rcases hv with ⟨kk, h1, h2⟩ | ⟨kk, h1, h2, h3⟩ | ⟨x1, y1, f1, g1, sg, h1, h2, h3, h4⟩
    · subst h2
      refine g_ucalll (vs := [.ref aw]) (rest := rest) C hX hT hA (Cut.none _) (Ro := fun P => P x (.inr (9, [.int kk])) ∧ WRo d aw wd P) ⟨h1.step hT.2.2 hS, hw⟩ (fun sz => mX9_of l D d sd 0 x aw kk wd _ rfl sz) (va_cwA (x := y_of) (owner := RX8) 1 C.2.2.2.2 (lw_U hl q1001 q1011 q1009 q144 q1010) rfl rfl rfl (hX.2.1 _ q1000 rfl) hd_of ⟨by dsimp only [rm_]; omega, by dsimp only [rm_]; omega⟩) (g_recv hV (h1.at hT.2.2) (ci := 9) rfl) rfl hsize rfl hroom hdg hf k
    · subst h3
      have h5 : ix kk 12 (some (wd kk.toNatClampNeg)) = some (wd kk.toNatClampNeg) := by unfold ix; rw [if_neg h2]
      refine g_ucalll (vs := [.ref aw]) (rest := rest) C hX hT hA (Cut.none _) (Ro := fun P => P x (.inr (10, [.int kk])) ∧ WRo d aw wd P) ⟨h1.step hT.2.2 hS, hw⟩ (fun sz => mX10_of l D d sd 0 x aw kk wd _ h5 sz) (va_cwA (x := y_of) (owner := RX8) 1 C.2.2.2.2 (lw_U hl q1001 q1002 q1003 q145 q1004) rfl rfl rfl (hX.2.1 _ q1000 rfl) hd_of ⟨by dsimp only [rm_]; omega, by dsimp only [rm_]; omega⟩) (g_recv hV (h1.at hT.2.2) (ci := 10) rfl) rfl hsize rfl hroom hdg hf k
    · subst h4
      have hm : ∀ q e, FzP D A s.heap q e → FzP D (va_A [] H.size) H q e := fun q e h => h.step hT.2.2 hS
      refine g_ucalll (vs := [.ref aw]) (rest := rest) C hX hT hA (Cut.none _) (Ro := JRo d n x x1 y1 aw f1 g1 sg wd) ⟨h1.step hT.2.2 hS, VT.mono hm _ _ _ h2, VT.mono hm _ _ _ h3, hw⟩ (fun sz => hJ n rfl x x1 y1 aw f1 g1 sg wd sz) (va_cwA (x := y_of) (owner := RX8) 1 C.2.2.2.2 (lw_U hl q1001 q1005 q1006 q146 q1007) rfl rfl rfl (hX.2.1 _ q1000 rfl) hd_of ⟨by dsimp only [rm_]; omega, by dsimp only [rm_]; omega⟩) (g_recv hV (h1.at hT.2.2) (ci := 11) rfl) rfl hsize rfl hroom hdg hf k
end GVAL
def fX11_of (N : Nat) (fx : FV) (fy : FV) (sg : Int32) (wd : Nat → Int64) : Option (Int64) :=
  (lett (fx wd) fun x2_8 => (lett (fy wd) fun x4_17 => (if ¬ sg = (43 : Int32) then (if ¬ sg = (45 : Int32) then (if ¬ sg = (42 : Int32) then (if ¬ (lg_cmp x4_17 (0 : Int64)) = 0 then (if ¬ sg = (47 : Int32) then (nzl x4_17 (some (lrem x2_8 x4_17))) else (nzl x4_17 (some (x2_8 / x4_17)))) else (some (0 : Int64))) else (some (x2_8 * x4_17))) else (some (x2_8 - x4_17))) else (some (x2_8 + x4_17)))))
set_option maxHeartbeats 4000000 in
theorem mX11_of (l : Launch) (D : va_G) (d : Nat → ClassId) (sd : Nat) (N mm : Nat) (hJ : ∀ k, mm = k + 1 → JM l D d sd k) (a : Nat) (x : Nat) (y : Nat) (aw : Nat) (fx : FV) (fy : FV) (sg : Int32) (wd : Nat → Int64) (w : Int64) (hf : fX11_of N fx fy sg wd = some w) (sz : Nat) : Met l yX11_of (ws_ yX11_of cX11_of 6 (some .long)) (rm_ (mm + 1) (40 * (mm + 1))) (GPc D d sd [.ref a, .ref aw] [] (JRo d mm a x y aw fx fy sg wd) sz) (GQl D w [] [] sz) 0 0 (va_A [] sz) := by
  refine Met.ofW (cc := cX11_of) (maxL := 6) (ret := (some .long)) plX11 rfl ?_
  intro p e s m args below meth c s₁ B hml hv
  obtain ⟨C, hX, hR, hT, hr, hlocks, hargs, rfl⟩ := g_enter (own := RX11) B hml rfl hv
  have hx := C.1
  have hb := C.2.1
  have hV := hX.1
  obtain ⟨A, hA0⟩ : ∃ A, A = va_A [] s.heap.size := ⟨_, rfl⟩
  rw [← hA0] at hX hR hT
  show W p l e (rm_ (mm + 1) (40 * (mm + 1))) s m args below meth c s.heap [] 0 0 (MQ below (GQl D w [] [] s.heap.size) args s 0 0 (va_A [] s.heap.size)) _
  rw [← hA0]
  have hW := hR.2.2.2
  refine W.eq (by rw [hargs]) (t_in (vs := [.ref a, .ref aw]) (n := 6) (Nat.le_of_ble_eq_true rfl) (fun ls hl => ?_))
  have hl : lv_has ls 6 [(0, .ref a), (1, .ref aw)] := hl
  unfold fX11_of at hf
  refine lv_aload_n hx hb dX11_of_0 rfl (lv_at hl 0 rfl) ?_
  refine r_get C hV (hR.1.at hT.2.2) (ci := 11) rfl in_X11 0 (by decide) q783 rfl dX11_of_1 ?_
  refine lv_aload_n hx hb dX11_of_4 rfl (lv_at hl 1 rfl) ?_
  refine g_val (n := mm) (rest := []) (wd := wd) C hX (A_new hA0) hT hJ hR.2.1 (hW.step hT.2.2 (Anil (A_new hA0) hT.2.2.1)) q1008 (by dsimp only [rm_]; omega) (by dsimp only [rm_]; omega) hl.1 (Nat.le_of_ble_eq_true rfl) dX11_of_5 ⟨Nat.zero_le _, Nat.zero_le _⟩ (fun H locs hT => ?_)
  refine lv_topl (fun x2_8 ex => ?_)
  have hf := lett_e ex hf
  refine lv_lstore_n (lv' := [(2, .long x2_8), (0, .ref a), (1, .ref aw)]) hx hb dX11_of_8 rfl hl (by decide) rfl (fun ls hl => ?_)
  refine lv_aload_n hx hb dX11_of_9 rfl (lv_at hl 1 rfl) ?_
  refine r_get C hV (hR.1.at hT.2.2) (ci := 11) rfl in_X11 1 (by decide) q784 rfl dX11_of_10 ?_
  refine lv_aload_n hx hb dX11_of_13 rfl (lv_at hl 2 rfl) ?_
  refine g_val (n := mm) (rest := []) (wd := wd) C hX (A_new hA0) hT hJ hR.2.2.1 (hW.step hT.2.2 (Anil (A_new hA0) hT.2.2.1)) q1008 (by dsimp only [rm_]; omega) (by dsimp only [rm_]; omega) hl.1 (Nat.le_of_ble_eq_true rfl) dX11_of_14 ⟨Nat.zero_le _, Nat.zero_le _⟩ (fun H locs hT => ?_)
  refine lv_topl (fun x4_17 ex => ?_)
  have hf := lett_e ex hf
  refine lv_lstore (lv' := [(4, .long x4_17), (2, .long x2_8), (0, .ref a), (1, .ref aw)]) hx hb dX11_of_17 hl (by decide) rfl (fun ls hl => ?_)
  refine lv_aload_n hx hb dX11_of_19 rfl (lv_at hl 2 rfl) ?_
  refine r_get C hV (hR.1.at hT.2.2) (ci := 11) rfl in_X11 2 (by decide) q785 rfl dX11_of_20 ?_
  refine lv_bipush (v := 43) hx hb dX11_of_23 (by decide) ?_
  refine lv_icmp_ne (tgt := 35) hx hb dX11_of_25 (by decide) (fun hc => ?_) (fun hc => ?_)
  · have hf := ite_t hc hf
    refine lv_aload_n hx hb dX11_of_35 rfl (lv_at hl 2 rfl) ?_
    refine r_get C hV (hR.1.at hT.2.2) (ci := 11) rfl in_X11 2 (by decide) q785 rfl dX11_of_36 ?_
    refine lv_bipush (v := 45) hx hb dX11_of_39 (by decide) ?_
    refine lv_icmp_ne (tgt := 51) hx hb dX11_of_41 (by decide) (fun hc => ?_) (fun hc => ?_)
    · have hf := ite_t hc hf
      refine lv_aload_n hx hb dX11_of_51 rfl (lv_at hl 2 rfl) ?_
      refine r_get C hV (hR.1.at hT.2.2) (ci := 11) rfl in_X11 2 (by decide) q785 rfl dX11_of_52 ?_
      refine lv_bipush (v := 42) hx hb dX11_of_55 (by decide) ?_
      refine lv_icmp_ne (tgt := 67) hx hb dX11_of_57 (by decide) (fun hc => ?_) (fun hc => ?_)
      · have hf := ite_t hc hf
        refine lv_lload hx hb dX11_of_67 (lv_at hl 0 rfl) ?_
        refine lv_lconst (v := 0) hx hb dX11_of_69 (by decide) ?_
        refine W.lcmp hx hb dX11_of_70 ?_
        refine lv_if_ne (tgt := 78) hx hb dX11_of_71 (by decide) (fun hc => ?_) (fun hc => ?_)
        · have hf := ite_t hc hf
          refine lv_aload_n hx hb dX11_of_78 rfl (lv_at hl 2 rfl) ?_
          refine r_get C hV (hR.1.at hT.2.2) (ci := 11) rfl in_X11 2 (by decide) q785 rfl dX11_of_79 ?_
          refine lv_bipush (v := 47) hx hb dX11_of_82 (by decide) ?_
          refine lv_icmp_ne (tgt := 94) hx hb dX11_of_84 (by decide) (fun hc => ?_) (fun hc => ?_)
          · have hf := ite_t hc hf
            refine lv_lload_n hx hb dX11_of_94 rfl (lv_at hl 1 rfl) ?_
            refine lv_lload hx hb dX11_of_95 (lv_at hl 0 rfl) ?_
            obtain ⟨hn, hf⟩ := nzl_e hf
            refine g_lrem hx hb dX11_of_97 hn ?_
            exact n_lret hA0 C hT hf hr hlocks dX11_of_98
          · have hf := ite_f (fun q => q hc) hf
            refine lv_lload_n hx hb dX11_of_87 rfl (lv_at hl 1 rfl) ?_
            refine lv_lload hx hb dX11_of_88 (lv_at hl 0 rfl) ?_
            obtain ⟨hn, hf⟩ := nzl_e hf
            refine lv_ldiv hx hb dX11_of_90 hn ?_
            refine lv_goto (tgt := 98) hx hb dX11_of_91 (by decide) ?_
            exact n_lret hA0 C hT hf hr hlocks dX11_of_98
        · have hf := ite_f (fun q => q hc) hf
          refine lv_lconst (v := 0) hx hb dX11_of_74 (by decide) ?_
          refine lv_goto (tgt := 98) hx hb dX11_of_75 (by decide) ?_
          exact n_lret hA0 C hT hf hr hlocks dX11_of_98
      · have hf := ite_f (fun q => q hc) hf
        refine lv_lload_n hx hb dX11_of_60 rfl (lv_at hl 1 rfl) ?_
        refine lv_lload hx hb dX11_of_61 (lv_at hl 0 rfl) ?_
        refine lv_lmul hx hb dX11_of_63 ?_
        refine lv_goto (tgt := 98) hx hb dX11_of_64 (by decide) ?_
        exact n_lret hA0 C hT hf hr hlocks dX11_of_98
    · have hf := ite_f (fun q => q hc) hf
      refine lv_lload_n hx hb dX11_of_44 rfl (lv_at hl 1 rfl) ?_
      refine lv_lload hx hb dX11_of_45 (lv_at hl 0 rfl) ?_
      refine lv_lsub hx hb dX11_of_47 ?_
      refine lv_goto (tgt := 98) hx hb dX11_of_48 (by decide) ?_
      exact n_lret hA0 C hT hf hr hlocks dX11_of_98
  · have hf := ite_f (fun q => q hc) hf
    refine lv_lload_n hx hb dX11_of_28 rfl (lv_at hl 1 rfl) ?_
    refine lv_lload hx hb dX11_of_29 (lv_at hl 0 rfl) ?_
    refine lv_ladd hx hb dX11_of_31 ?_
    refine lv_goto (tgt := 98) hx hb dX11_of_32 (by decide) ?_
    exact n_lret hA0 C hT hf hr hlocks dX11_of_98
theorem fX11_ok (N : Nat) (fx fy : FV) (sg : Int32) (wd : Nat → Int64) : fX11_of N fx fy sg wd = some (jop sg (fx wd) (fy wd)) := by
  unfold fX11_of jop
  simp only [lett]
  have e : ∀ y : Int64, lg_cmp y 0 = 0 ↔ y = 0 := fun y => lg_cmp_eq y 0
  by_cases h1 : sg = 43
  · simp [h1]
  · by_cases h2 : sg = 45
    · simp [h1, h2]
    · by_cases h3 : sg = 42
      · simp [h1, h2, h3]
      · by_cases h4 : fy wd = 0
        · simp [h1, h2, h3, h4, e]
        · by_cases h5 : sg = 47
          · simp [h1, h2, h3, h4, h5, e, nzl]
          · simp [h1, h2, h3, h4, h5, e, nzl]
theorem JM_all (l : Launch) (D : va_G) (d : Nat → ClassId) (sd : Nat) : ∀ m, JM l D d sd m := by
  intro m
  induction m with
  | zero => exact fun a x y aw fx fy sg wd sz => mX11_of l D d sd 0 0 (fun k h => absurd h (by omega)) a x y aw fx fy sg wd _ (fX11_ok 0 fx fy sg wd) sz
  | succ m ih => exact fun a x y aw fx fy sg wd sz => mX11_of l D d sd 0 (m + 1) (fun k h => by cases h; exact ih) a x y aw fx fy sg wd _ (fX11_ok 0 fx fy sg wd) sz
abbrev CRo (d : Nat → ClassId) (a x y aw : Nat) (fx fy : FV) (sg sm : Int32) (wd : Nat → Int64) (P : Nat → va_E → Prop) : Prop := P a (.inr (14, [.ref x, .ref y, .int sg, .int sm])) ∧ VT P 64 x fx ∧ VT P 64 y fy ∧ WRo d aw wd P
abbrev NRo (d : Nat → ClassId) (m a x aw : Nat) (fx : FC) (wd : Nat → Int64) (P : Nat → va_E → Prop) : Prop := P a (.inr (13, [.ref x])) ∧ CT P m x fx ∧ WRo d aw wd P
abbrev BRo (d : Nat → ClassId) (m a x y aw : Nat) (fx fy : FC) (o : Int32) (wd : Nat → Int64) (P : Nat → va_E → Prop) : Prop := P a (.inr (15, [.ref x, .ref y, .int o])) ∧ CT P m x fx ∧ CT P m y fy ∧ WRo d aw wd P
def CM (l : Launch) (D : va_G) (d : Nat → ClassId) (sd m : Nat) : Prop :=
  (∀ (a x aw : Nat) (fx : FC) (wd : Nat → Int64) (sz : Nat), Met l yX14_is (ws_ yX14_is cX14_is 2 (some .boolean)) (rm_ (m + 70) (40 * m + 2700)) (GPc D d sd [.ref a, .ref aw] [] (NRo d m a x aw fx wd) sz) (GQi D (if fx wd = 0 then 1 else 0) [] [] sz) 0 0 (va_A [] sz)) ∧
  ∀ (a x y aw : Nat) (fx fy : FC) (o : Int32) (wd : Nat → Int64) (sz : Nat), Met l yX16_is (ws_ yX16_is cX16_is 2 (some .boolean)) (rm_ (m + 70) (40 * m + 2700)) (GPc D d sd [.ref a, .ref aw] [] (BRo d m a x y aw fx fy o wd) sz) (GQi D (if o = 0 then (if fx wd = 0 then 0 else if fy wd = 0 then 0 else 1) else (if fx wd = 0 then (if fy wd = 0 then 0 else 1) else 1)) [] [] sz) 0 0 (va_A [] sz)
def fX15_is_J66 (N : Nat) (fx : FV) (fy : FV) (sg : Int32) (sm : Int32) (wd : Nat → Int64) (x2 : Int64) (x4 : Int64) : Option (Int32) :=
  (if ¬ sg = (62 : Int32) then (some (0 : Int32)) else (if (lg_cmp x2 x4) ≤ 0 then (some (0 : Int32)) else (some (1 : Int32))))
def fX15_is (N : Nat) (fx : FV) (fy : FV) (sg : Int32) (sm : Int32) (wd : Nat → Int64) : Option (Int32) :=
  (lett (fx wd) fun x2_8 => (lett (fy wd) fun x4_17 => (if ¬ (lg_cmp x2_8 x4_17) = 0 then (if ¬ sg = (60 : Int32) then (fX15_is_J66 N fx fy sg sm wd x2_8 x4_17) else (if (lg_cmp x2_8 x4_17) < 0 then (some (1 : Int32)) else (fX15_is_J66 N fx fy sg sm wd x2_8 x4_17))) else (if sg = (61 : Int32) then (some (1 : Int32)) else (if sm = 0 then (some (0 : Int32)) else (some (1 : Int32)))))))
set_option maxHeartbeats 4000000 in
theorem mX15_is (l : Launch) (D : va_G) (d : Nat → ClassId) (sd : Nat) (N : Nat) (a : Nat) (x : Nat) (y : Nat) (aw : Nat) (fx : FV) (fy : FV) (sg : Int32) (sm : Int32) (wd : Nat → Int64) (w : Int32) (hf : fX15_is N fx fy sg sm wd = some w) (sz : Nat) : Met l yX15_is (ws_ yX15_is cX15_is 6 (some .boolean)) (rm_ 69 2680) (GPc D d sd [.ref a, .ref aw] [] (CRo d a x y aw fx fy sg sm wd) sz) (GQi D w [] [] sz) 0 0 (va_A [] sz) := by
  refine Met.ofW (cc := cX15_is) (maxL := 6) (ret := (some .boolean)) plX15 rfl ?_
  intro p e s m args below meth c s₁ B hml hv
  obtain ⟨C, hX, hR, hT, hr, hlocks, hargs, rfl⟩ := g_enter (own := RX15) B hml rfl hv
  have hx := C.1
  have hb := C.2.1
  have hV := hX.1
  obtain ⟨A, hA0⟩ : ∃ A, A = va_A [] s.heap.size := ⟨_, rfl⟩
  rw [← hA0] at hX hR hT
  show W p l e (rm_ 69 2680) s m args below meth c s.heap [] 0 0 (MQ below (GQi D w [] [] s.heap.size) args s 0 0 (va_A [] s.heap.size)) _
  rw [← hA0]
  have hW := hR.2.2.2
  have hJ66 : ∀ (x2 : Int64) (x4 : Int64) (H : Heap) (locs : List Loc) (ls : Array Slot), TH D A s.heap [] H locs → lv_has ls 6 [(0, .ref a), (2, .long x2), (4, .long x4)] → fX15_is_J66 N fx fy sg sm wd x2 x4 = some w → W p l e (rm_ 69 2680) s m args below meth c H locs 0 0 (MQ below (GQi D w [] [] s.heap.size) args s 0 0 A) (F0 m 66 ls []) := by
    intro x2 x4 H locs ls hT hl hf
    unfold fX15_is_J66 at hf
    refine lv_aload_n hx hb dX15_is_66 rfl (lv_at hl 0 rfl) ?_
    refine r_get C hV (hR.1.at hT.2.2) (ci := 14) rfl in_X15 2 (by decide) q838 rfl dX15_is_67 ?_
    refine lv_bipush (v := 62) hx hb dX15_is_70 (by decide) ?_
    refine lv_icmp_ne (tgt := 86) hx hb dX15_is_72 (by decide) (fun hc => ?_) (fun hc => ?_)
    · have hf := ite_t hc hf
      refine lv_iconst (v := 0) hx hb dX15_is_86 (by decide) ?_
      exact n_zret hA0 C hT hf (Or.inl rfl) hr hlocks dX15_is_87
    · have hf := ite_f (fun q => q hc) hf
      refine lv_lload_n hx hb dX15_is_75 rfl (lv_at hl 1 rfl) ?_
      refine lv_lload hx hb dX15_is_76 (lv_at hl 2 rfl) ?_
      refine W.lcmp hx hb dX15_is_78 ?_
      refine lv_if_le (tgt := 86) hx hb dX15_is_79 (by decide) (fun hc => ?_) (fun hc => ?_)
      · have hf := ite_t hc hf
        refine lv_iconst (v := 0) hx hb dX15_is_86 (by decide) ?_
        exact n_zret hA0 C hT hf (Or.inl rfl) hr hlocks dX15_is_87
      · have hf := ite_f hc hf
        refine lv_iconst (v := 1) hx hb dX15_is_82 (by decide) ?_
        refine lv_goto (tgt := 87) hx hb dX15_is_83 (by decide) ?_
        exact n_zret hA0 C hT hf (Or.inr rfl) hr hlocks dX15_is_87
  refine W.eq (by rw [hargs]) (t_in (vs := [.ref a, .ref aw]) (n := 6) (Nat.le_of_ble_eq_true rfl) (fun ls hl => ?_))
  have hl : lv_has ls 6 [(0, .ref a), (1, .ref aw)] := hl
  unfold fX15_is at hf
  refine lv_aload_n hx hb dX15_is_0 rfl (lv_at hl 0 rfl) ?_
  refine r_get C hV (hR.1.at hT.2.2) (ci := 14) rfl in_X15 0 (by decide) q836 rfl dX15_is_1 ?_
  refine lv_aload_n hx hb dX15_is_4 rfl (lv_at hl 1 rfl) ?_
  refine g_val (n := 64) (rest := []) (wd := wd) C hX (A_new hA0) hT (fun k _ => JM_all l D d sd k) hR.2.1 (hW.step hT.2.2 (Anil (A_new hA0) hT.2.2.1)) q999 (by dsimp only [rm_]; omega) (by dsimp only [rm_]; omega) hl.1 (Nat.le_of_ble_eq_true rfl) dX15_is_5 ⟨Nat.zero_le _, Nat.zero_le _⟩ (fun H locs hT => ?_)
  refine lv_topl (fun x2_8 ex => ?_)
  have hf := lett_e ex hf
  refine lv_lstore_n (lv' := [(2, .long x2_8), (0, .ref a), (1, .ref aw)]) hx hb dX15_is_8 rfl hl (by decide) rfl (fun ls hl => ?_)
  refine lv_aload_n hx hb dX15_is_9 rfl (lv_at hl 1 rfl) ?_
  refine r_get C hV (hR.1.at hT.2.2) (ci := 14) rfl in_X15 1 (by decide) q837 rfl dX15_is_10 ?_
  refine lv_aload_n hx hb dX15_is_13 rfl (lv_at hl 2 rfl) ?_
  refine g_val (n := 64) (rest := []) (wd := wd) C hX (A_new hA0) hT (fun k _ => JM_all l D d sd k) hR.2.2.1 (hW.step hT.2.2 (Anil (A_new hA0) hT.2.2.1)) q999 (by dsimp only [rm_]; omega) (by dsimp only [rm_]; omega) hl.1 (Nat.le_of_ble_eq_true rfl) dX15_is_14 ⟨Nat.zero_le _, Nat.zero_le _⟩ (fun H locs hT => ?_)
  refine lv_topl (fun x4_17 ex => ?_)
  have hf := lett_e ex hf
  refine lv_lstore (lv' := [(4, .long x4_17), (2, .long x2_8), (0, .ref a), (1, .ref aw)]) hx hb dX15_is_17 hl (by decide) rfl (fun ls hl => ?_)
  refine lv_lload_n hx hb dX15_is_19 rfl (lv_at hl 1 rfl) ?_
  refine lv_lload hx hb dX15_is_20 (lv_at hl 0 rfl) ?_
  refine W.lcmp hx hb dX15_is_22 ?_
  refine lv_if_ne (tgt := 50) hx hb dX15_is_23 (by decide) (fun hc => ?_) (fun hc => ?_)
  · have hf := ite_t hc hf
    refine lv_aload_n hx hb dX15_is_50 rfl (lv_at hl 2 rfl) ?_
    refine r_get C hV (hR.1.at hT.2.2) (ci := 14) rfl in_X15 2 (by decide) q838 rfl dX15_is_51 ?_
    refine lv_bipush (v := 60) hx hb dX15_is_54 (by decide) ?_
    refine lv_icmp_ne (tgt := 66) hx hb dX15_is_56 (by decide) (fun hc => ?_) (fun hc => ?_)
    · have hf := ite_t hc hf
      exact hJ66 x2_8 x4_17 _ _ _ hT (lv_sub hl [2, 1, 0] rfl) hf
    · have hf := ite_f (fun q => q hc) hf
      refine lv_lload_n hx hb dX15_is_59 rfl (lv_at hl 1 rfl) ?_
      refine lv_lload hx hb dX15_is_60 (lv_at hl 0 rfl) ?_
      refine W.lcmp hx hb dX15_is_62 ?_
      refine lv_if_lt (tgt := 82) hx hb dX15_is_63 (by decide) (fun hc => ?_) (fun hc => ?_)
      · have hf := ite_t hc hf
        refine lv_iconst (v := 1) hx hb dX15_is_82 (by decide) ?_
        refine lv_goto (tgt := 87) hx hb dX15_is_83 (by decide) ?_
        exact n_zret hA0 C hT hf (Or.inr rfl) hr hlocks dX15_is_87
      · have hf := ite_f hc hf
        exact hJ66 x2_8 x4_17 _ _ _ hT (lv_sub hl [2, 1, 0] rfl) hf
  · have hf := ite_f (fun q => q hc) hf
    refine lv_aload_n hx hb dX15_is_26 rfl (lv_at hl 2 rfl) ?_
    refine r_get C hV (hR.1.at hT.2.2) (ci := 14) rfl in_X15 2 (by decide) q838 rfl dX15_is_27 ?_
    refine lv_bipush (v := 61) hx hb dX15_is_30 (by decide) ?_
    refine lv_icmp_eq (tgt := 42) hx hb dX15_is_32 (by decide) (fun hc => ?_) (fun hc => ?_)
    · have hf := ite_t hc hf
      refine lv_iconst (v := 1) hx hb dX15_is_42 (by decide) ?_
      refine lv_goto (tgt := 87) hx hb dX15_is_43 (by decide) ?_
      exact n_zret hA0 C hT hf (Or.inr rfl) hr hlocks dX15_is_87
    · have hf := ite_f hc hf
      refine lv_aload_n hx hb dX15_is_35 rfl (lv_at hl 2 rfl) ?_
      refine r_get C hV (hR.1.at hT.2.2) (ci := 14) rfl in_X15 3 (by decide) q839 rfl dX15_is_36 ?_
      refine lv_if_eq (tgt := 46) hx hb dX15_is_39 (by decide) (fun hc => ?_) (fun hc => ?_)
      · have hf := ite_t hc hf
        refine lv_iconst (v := 0) hx hb dX15_is_46 (by decide) ?_
        refine lv_goto (tgt := 87) hx hb dX15_is_47 (by decide) ?_
        exact n_zret hA0 C hT hf (Or.inl rfl) hr hlocks dX15_is_87
      · have hf := ite_f hc hf
        refine lv_iconst (v := 1) hx hb dX15_is_42 (by decide) ?_
        refine lv_goto (tgt := 87) hx hb dX15_is_43 (by decide) ?_
        exact n_zret hA0 C hT hf (Or.inr rfl) hr hlocks dX15_is_87
theorem fX15_ok (N : Nat) (fx fy : FV) (sg sm : Int32) (wd : Nat → Int64) : fX15_is N fx fy sg sm wd = some (jcmp sg sm (fx wd) (fy wd)) := by
  unfold fX15_is jcmp
  simp only [lett]
  have e : ∀ x y : Int64, lg_cmp x y = 0 ↔ x = y := fun x y => lg_cmp_eq x y
  have e1 : ∀ x y : Int64, lg_cmp x y < 0 ↔ x < y := fun x y => lg_cmp_lt x y
  have e2 : ∀ x y : Int64, lg_cmp x y ≤ 0 ↔ x ≤ y := fun x y => lg_cmp_le x y
  simp only [e, e1, e2]
  by_cases h1 : fx wd = fy wd
  · by_cases h2 : sg = 61
    · simp [h1, h2]
    · by_cases h3 : sm = 0
      · simp [h1, h2, h3]
      · simp [h1, h2, h3]
  · by_cases h2 : sg = 60
    · by_cases h3 : fx wd < fy wd
      · simp [h1, h2, h3, fX15_is_J66, e2]
      · simp [h1, h2, h3, fX15_is_J66, e2]
    · by_cases h3 : sg = 62
      · by_cases h4 : fx wd ≤ fy wd
        · simp [h1, h3, h4, fX15_is_J66, e2]
        · simp [h1, h3, h4, fX15_is_J66, e2]
      · simp [h1, h2, h3, fX15_is_J66, e2]
section GCON
variable {p : Program} {l : Launch} {e : Env} {R : Room} {s : State} {m : MethodId} {args : Array Value} {below : List Frame} {meth : Method} {c : Code} {H : Heap} {locs : List Loc} {cells slots : Nat} {Q : State → Prop}
variable {cc : ByteArray} {nL pc : Nat} {ls : Array Slot} {rest : List Value} {D : va_G} {d : Nat → ClassId} {sd : Nat} {A : Nat → Prop} {own : String} {ws ws0 : va_W}
set_option maxHeartbeats 4000000 in
/-- a call of Condition.is on a tree that is only read -/
theorem g_con {n idx x aw : Nat} {fx : FC} {wd : Nat → Int64} (C : CallFix p m c cc nL s args lw_all own) (hX : RX D d sd A s s.heap) (hA : ∀ q, s.heap.size ≤ q → A q) (hT : TH D A s.heap ws H locs) (hJ : ∀ k, n = k + 1 → CM l D d sd k) (hv : CT (FzP D A s.heap) n x fx) (hw : FzP D (va_A [] H.size) H aw (.inl (d 2, 12, .inr (.inl wd)))) (hl : Cond.methodLink own idx y_is ∈ lw_all) (hfr : n + 70 ≤ R.frames) (hlo : 40 * n + 2700 ≤ R.locals) (hsize : ls.size = nL) (hroom : (rest.map fun v => v.category).sum ≤ 8) (hdg : decode cc pc = .ok (.invokevirtual idx, 3)) (hf : cells + 0 ≤ R.cells ∧ slots + 0 ≤ R.slots)
    (k : ∀ (H1 : Heap) (locs1 : List Loc), TH D A s.heap ws H1 locs1 → W p l e R s m args below meth c H1 locs1 cells slots Q (F0 m (pc + 3) ls (.int (fx wd) :: rest))) : W p l e R s m args below meth c H locs cells slots Q (F0 m pc ls (.ref aw :: .ref x :: rest)) := by
  have hV := hX.1
  have hS := Anil hA hT.2.2.1
  have hm : ∀ q e, FzP D A s.heap q e → FzP D (va_A [] H.size) H q e := fun q e h => h.step hT.2.2 hS
  cases n with
  | zero => exact hv.elim
  | succ n =>
    rcases hv with ⟨x1, y1, f1, g1, sg, sm, h1, h2, h3, h4⟩ | ⟨x1, f1, h1, h2, h3⟩ | ⟨x1, y1, f1, g1, o, h1, h2, h3, h4⟩
    · subst h4
      refine g_ucalli (vs := [.ref aw]) (rest := rest) C hX hT hA (Cut.none _) (Ro := CRo d x x1 y1 aw f1 g1 sg sm wd) ⟨h1.step hT.2.2 hS, VT.mono hm _ _ _ h2, VT.mono hm _ _ _ h3, hw⟩ (fun sz => mX15_is l D d sd 0 x x1 y1 aw f1 g1 sg sm wd _ (fX15_ok 0 f1 g1 sg sm wd) sz) (va_cwA (x := y_is) (owner := RX13) 1 C.2.2.2.2 (lw_U hl q992 q1015 q997 q150 q998) rfl rfl rfl (hX.2.1 _ q991 rfl) hd_is ⟨by dsimp only [rm_]; omega, by dsimp only [rm_]; omega⟩) (g_recv hV (h1.at hT.2.2) (ci := 14) rfl) rfl hsize rfl hroom hdg hf k
    · subst h3
      refine g_ucalli (vs := [.ref aw]) (rest := rest) C hX hT hA (Cut.none _) (Ro := NRo d n x x1 aw f1 wd) ⟨h1.step hT.2.2 hS, CT.mono hm _ _ _ h2, hw⟩ (fun sz => (hJ n rfl).1 x x1 aw f1 wd sz) (va_cwA (x := y_is) (owner := RX13) 1 C.2.2.2.2 (lw_U hl q992 q1016 q1012 q149 q1013) rfl rfl rfl (hX.2.1 _ q991 rfl) hd_is ⟨by dsimp only [rm_]; omega, by dsimp only [rm_]; omega⟩) (g_recv hV (h1.at hT.2.2) (ci := 13) rfl) rfl hsize rfl hroom hdg hf k
    · subst h4
      refine g_ucalli (vs := [.ref aw]) (rest := rest) C hX hT hA (Cut.none _) (Ro := BRo d n x x1 y1 aw f1 g1 o wd) ⟨h1.step hT.2.2 hS, CT.mono hm _ _ _ h2, CT.mono hm _ _ _ h3, hw⟩ (fun sz => (hJ n rfl).2 x x1 y1 aw f1 g1 o wd sz) (va_cwA (x := y_is) (owner := RX13) 1 C.2.2.2.2 (lw_U hl q992 q993 q994 q151 q995) rfl rfl rfl (hX.2.1 _ q991 rfl) hd_is ⟨by dsimp only [rm_]; omega, by dsimp only [rm_]; omega⟩) (g_recv hV (h1.at hT.2.2) (ci := 15) rfl) rfl hsize rfl hroom hdg hf k
end GCON
def fX14_is (N : Nat) (fx : FC) (wd : Nat → Int64) : Option (Int32) :=
  (if ¬ (fx wd) = 0 then (some (0 : Int32)) else (some (1 : Int32)))
set_option maxHeartbeats 4000000 in
theorem mX14_is (l : Launch) (D : va_G) (d : Nat → ClassId) (sd : Nat) (N mm : Nat) (hJ : ∀ k, mm = k + 1 → CM l D d sd k) (a : Nat) (x : Nat) (aw : Nat) (fx : FC) (wd : Nat → Int64) (w : Int32) (hf : fX14_is N fx wd = some w) (sz : Nat) : Met l yX14_is (ws_ yX14_is cX14_is 2 (some .boolean)) (rm_ (mm + 70) (40 * mm + 2700)) (GPc D d sd [.ref a, .ref aw] [] (NRo d mm a x aw fx wd) sz) (GQi D w [] [] sz) 0 0 (va_A [] sz) := by
  refine Met.ofW (cc := cX14_is) (maxL := 2) (ret := (some .boolean)) plX14 rfl ?_
  intro p e s m args below meth c s₁ B hml hv
  obtain ⟨C, hX, hR, hT, hr, hlocks, hargs, rfl⟩ := g_enter (own := RX14) B hml rfl hv
  have hx := C.1
  have hb := C.2.1
  have hV := hX.1
  obtain ⟨A, hA0⟩ : ∃ A, A = va_A [] s.heap.size := ⟨_, rfl⟩
  rw [← hA0] at hX hR hT
  show W p l e (rm_ (mm + 70) (40 * mm + 2700)) s m args below meth c s.heap [] 0 0 (MQ below (GQi D w [] [] s.heap.size) args s 0 0 (va_A [] s.heap.size)) _
  rw [← hA0]
  have hW := hR.2.2
  refine W.eq (by rw [hargs]) (t_in (vs := [.ref a, .ref aw]) (n := 2) (Nat.le_of_ble_eq_true rfl) (fun ls hl => ?_))
  have hl : lv_has ls 2 [(0, .ref a), (1, .ref aw)] := hl
  unfold fX14_is at hf
  refine lv_aload_n hx hb dX14_is_0 rfl (lv_at hl 0 rfl) ?_
  refine r_get C hV (hR.1.at hT.2.2) (ci := 13) rfl in_X14 0 (by decide) q826 rfl dX14_is_1 ?_
  refine lv_aload_n hx hb dX14_is_4 rfl (lv_at hl 1 rfl) ?_
  refine g_con (n := mm) (rest := []) (wd := wd) C hX (A_new hA0) hT hJ hR.2.1 (hW.step hT.2.2 (Anil (A_new hA0) hT.2.2.1)) q1014 (by dsimp only [rm_]; omega) (by dsimp only [rm_]; omega) hl.1 (Nat.le_of_ble_eq_true rfl) dX14_is_5 ⟨Nat.zero_le _, Nat.zero_le _⟩ (fun H locs hT => ?_)
  refine lv_if_ne (tgt := 15) hx hb dX14_is_8 (by decide) (fun hc => ?_) (fun hc => ?_)
  · have hf := ite_t hc hf
    refine lv_iconst (v := 0) hx hb dX14_is_15 (by decide) ?_
    exact n_zret hA0 C hT hf (Or.inl rfl) hr hlocks dX14_is_16
  · have hf := ite_f (fun q => q hc) hf
    refine lv_iconst (v := 1) hx hb dX14_is_11 (by decide) ?_
    refine lv_goto (tgt := 16) hx hb dX14_is_12 (by decide) ?_
    exact n_zret hA0 C hT hf (Or.inr rfl) hr hlocks dX14_is_16
def fX16_is (N : Nat) (fx : FC) (fy : FC) (o : Int32) (wd : Nat → Int64) : Option (Int32) :=
  (if o = 0 then (if (fx wd) = 0 then (some (0 : Int32)) else (if (fy wd) = 0 then (some (0 : Int32)) else (some (1 : Int32)))) else (if ¬ (fx wd) = 0 then (some (1 : Int32)) else (if (fy wd) = 0 then (some (0 : Int32)) else (some (1 : Int32)))))
set_option maxHeartbeats 4000000 in
theorem mX16_is (l : Launch) (D : va_G) (d : Nat → ClassId) (sd : Nat) (N mm : Nat) (hJ : ∀ k, mm = k + 1 → CM l D d sd k) (a : Nat) (x : Nat) (y : Nat) (aw : Nat) (fx : FC) (fy : FC) (o : Int32) (wd : Nat → Int64) (w : Int32) (hf : fX16_is N fx fy o wd = some w) (sz : Nat) : Met l yX16_is (ws_ yX16_is cX16_is 2 (some .boolean)) (rm_ (mm + 70) (40 * mm + 2700)) (GPc D d sd [.ref a, .ref aw] [] (BRo d mm a x y aw fx fy o wd) sz) (GQi D w [] [] sz) 0 0 (va_A [] sz) := by
  refine Met.ofW (cc := cX16_is) (maxL := 2) (ret := (some .boolean)) plX16 rfl ?_
  intro p e s m args below meth c s₁ B hml hv
  obtain ⟨C, hX, hR, hT, hr, hlocks, hargs, rfl⟩ := g_enter (own := RX16) B hml rfl hv
  have hx := C.1
  have hb := C.2.1
  have hV := hX.1
  obtain ⟨A, hA0⟩ : ∃ A, A = va_A [] s.heap.size := ⟨_, rfl⟩
  rw [← hA0] at hX hR hT
  show W p l e (rm_ (mm + 70) (40 * mm + 2700)) s m args below meth c s.heap [] 0 0 (MQ below (GQi D w [] [] s.heap.size) args s 0 0 (va_A [] s.heap.size)) _
  rw [← hA0]
  have hW := hR.2.2.2
  refine W.eq (by rw [hargs]) (t_in (vs := [.ref a, .ref aw]) (n := 2) (Nat.le_of_ble_eq_true rfl) (fun ls hl => ?_))
  have hl : lv_has ls 2 [(0, .ref a), (1, .ref aw)] := hl
  unfold fX16_is at hf
  refine lv_aload_n hx hb dX16_is_0 rfl (lv_at hl 0 rfl) ?_
  refine r_get C hV (hR.1.at hT.2.2) (ci := 15) rfl in_X16 2 (by decide) q858 rfl dX16_is_1 ?_
  refine lv_if_eq (tgt := 37) hx hb dX16_is_4 (by decide) (fun hc => ?_) (fun hc => ?_)
  · have hf := ite_t hc hf
    refine lv_aload_n hx hb dX16_is_37 rfl (lv_at hl 0 rfl) ?_
    refine r_get C hV (hR.1.at hT.2.2) (ci := 15) rfl in_X16 0 (by decide) q856 rfl dX16_is_38 ?_
    refine lv_aload_n hx hb dX16_is_41 rfl (lv_at hl 1 rfl) ?_
    refine g_con (n := mm) (rest := []) (wd := wd) C hX (A_new hA0) hT hJ hR.2.1 (hW.step hT.2.2 (Anil (A_new hA0) hT.2.2.1)) q996 (by dsimp only [rm_]; omega) (by dsimp only [rm_]; omega) hl.1 (Nat.le_of_ble_eq_true rfl) dX16_is_42 ⟨Nat.zero_le _, Nat.zero_le _⟩ (fun H locs hT => ?_)
    refine lv_if_eq (tgt := 63) hx hb dX16_is_45 (by decide) (fun hc => ?_) (fun hc => ?_)
    · have hf := ite_t hc hf
      refine lv_iconst (v := 0) hx hb dX16_is_63 (by decide) ?_
      exact n_zret hA0 C hT hf (Or.inl rfl) hr hlocks dX16_is_64
    · have hf := ite_f hc hf
      refine lv_aload_n hx hb dX16_is_48 rfl (lv_at hl 0 rfl) ?_
      refine r_get C hV (hR.1.at hT.2.2) (ci := 15) rfl in_X16 1 (by decide) q857 rfl dX16_is_49 ?_
      refine lv_aload_n hx hb dX16_is_52 rfl (lv_at hl 1 rfl) ?_
      refine g_con (n := mm) (rest := []) (wd := wd) C hX (A_new hA0) hT hJ hR.2.2.1 (hW.step hT.2.2 (Anil (A_new hA0) hT.2.2.1)) q996 (by dsimp only [rm_]; omega) (by dsimp only [rm_]; omega) hl.1 (Nat.le_of_ble_eq_true rfl) dX16_is_53 ⟨Nat.zero_le _, Nat.zero_le _⟩ (fun H locs hT => ?_)
      refine lv_if_eq (tgt := 63) hx hb dX16_is_56 (by decide) (fun hc => ?_) (fun hc => ?_)
      · have hf := ite_t hc hf
        refine lv_iconst (v := 0) hx hb dX16_is_63 (by decide) ?_
        exact n_zret hA0 C hT hf (Or.inl rfl) hr hlocks dX16_is_64
      · have hf := ite_f hc hf
        refine lv_iconst (v := 1) hx hb dX16_is_59 (by decide) ?_
        refine lv_goto (tgt := 64) hx hb dX16_is_60 (by decide) ?_
        exact n_zret hA0 C hT hf (Or.inr rfl) hr hlocks dX16_is_64
  · have hf := ite_f hc hf
    refine lv_aload_n hx hb dX16_is_7 rfl (lv_at hl 0 rfl) ?_
    refine r_get C hV (hR.1.at hT.2.2) (ci := 15) rfl in_X16 0 (by decide) q856 rfl dX16_is_8 ?_
    refine lv_aload_n hx hb dX16_is_11 rfl (lv_at hl 1 rfl) ?_
    refine g_con (n := mm) (rest := []) (wd := wd) C hX (A_new hA0) hT hJ hR.2.1 (hW.step hT.2.2 (Anil (A_new hA0) hT.2.2.1)) q996 (by dsimp only [rm_]; omega) (by dsimp only [rm_]; omega) hl.1 (Nat.le_of_ble_eq_true rfl) dX16_is_12 ⟨Nat.zero_le _, Nat.zero_le _⟩ (fun H locs hT => ?_)
    refine lv_if_ne (tgt := 29) hx hb dX16_is_15 (by decide) (fun hc => ?_) (fun hc => ?_)
    · have hf := ite_t hc hf
      refine lv_iconst (v := 1) hx hb dX16_is_29 (by decide) ?_
      refine lv_goto (tgt := 64) hx hb dX16_is_30 (by decide) ?_
      exact n_zret hA0 C hT hf (Or.inr rfl) hr hlocks dX16_is_64
    · have hf := ite_f (fun q => q hc) hf
      refine lv_aload_n hx hb dX16_is_18 rfl (lv_at hl 0 rfl) ?_
      refine r_get C hV (hR.1.at hT.2.2) (ci := 15) rfl in_X16 1 (by decide) q857 rfl dX16_is_19 ?_
      refine lv_aload_n hx hb dX16_is_22 rfl (lv_at hl 1 rfl) ?_
      refine g_con (n := mm) (rest := []) (wd := wd) C hX (A_new hA0) hT hJ hR.2.2.1 (hW.step hT.2.2 (Anil (A_new hA0) hT.2.2.1)) q996 (by dsimp only [rm_]; omega) (by dsimp only [rm_]; omega) hl.1 (Nat.le_of_ble_eq_true rfl) dX16_is_23 ⟨Nat.zero_le _, Nat.zero_le _⟩ (fun H locs hT => ?_)
      refine lv_if_eq (tgt := 33) hx hb dX16_is_26 (by decide) (fun hc => ?_) (fun hc => ?_)
      · have hf := ite_t hc hf
        refine lv_iconst (v := 0) hx hb dX16_is_33 (by decide) ?_
        refine lv_goto (tgt := 64) hx hb dX16_is_34 (by decide) ?_
        exact n_zret hA0 C hT hf (Or.inl rfl) hr hlocks dX16_is_64
      · have hf := ite_f hc hf
        refine lv_iconst (v := 1) hx hb dX16_is_29 (by decide) ?_
        refine lv_goto (tgt := 64) hx hb dX16_is_30 (by decide) ?_
        exact n_zret hA0 C hT hf (Or.inr rfl) hr hlocks dX16_is_64
theorem fX14_ok (N : Nat) (fx : FC) (wd : Nat → Int64) : fX14_is N fx wd = some (if fx wd = 0 then 1 else 0) := by
  unfold fX14_is
  by_cases h1 : fx wd = 0 <;> simp [h1]
theorem fX16_ok (N : Nat) (fx fy : FC) (o : Int32) (wd : Nat → Int64) : fX16_is N fx fy o wd = some (if o = 0 then (if fx wd = 0 then 0 else if fy wd = 0 then 0 else 1) else (if fx wd = 0 then (if fy wd = 0 then 0 else 1) else 1)) := by
  unfold fX16_is
  by_cases h0 : o = 0 <;> by_cases h1 : fx wd = 0 <;> by_cases h2 : fy wd = 0 <;> simp [h0, h1, h2, ckz]
theorem CM_all (l : Launch) (D : va_G) (d : Nat → ClassId) (sd : Nat) : ∀ m, CM l D d sd m := by
  intro m
  induction m with
  | zero => exact ⟨fun a x aw fx wd sz => mX14_is l D d sd 0 0 (fun k h => absurd h (by omega)) a x aw fx wd _ (fX14_ok 0 fx wd) sz, fun a x y aw fx fy o wd sz => mX16_is l D d sd 0 0 (fun k h => absurd h (by omega)) a x y aw fx fy o wd _ (fX16_ok 0 fx fy o wd) sz⟩
  | succ m ih => exact ⟨fun a x aw fx wd sz => mX14_is l D d sd 0 (m + 1) (fun k h => by cases h; exact ih) a x aw fx wd _ (fX14_ok 0 fx wd) sz, fun a x y aw fx fy o wd sz => mX16_is l D d sd 0 (m + 1) (fun k h => by cases h; exact ih) a x y aw fx fy o wd _ (fX16_ok 0 fx fy o wd) sz⟩
theorem hdX12_holds : yX12_holds.cls = RX12 ∧ yX12_holds.cls ≠ "java/lang/invoke/MethodHandle" ∧ yX12_holds.cls ≠ "java/lang/invoke/VarHandle" ∧ (parseMethodDescriptor yX12_holds.desc).map (fun d => d.parameters.length) = some 1 := by decide +kernel
theorem hdX7_lets : yX7_lets.cls = RX7 ∧ yX7_lets.cls ≠ "java/lang/invoke/MethodHandle" ∧ yX7_lets.cls ≠ "java/lang/invoke/VarHandle" ∧ (parseMethodDescriptor yX7_lets.desc).map (fun d => d.parameters.length) = some 1 := by decide +kernel
set_option maxHeartbeats 4000000 in
theorem mX12_holds (l : Launch) (D : va_G) (d : Nat → ClassId) (sd : Nat) (a vx aw : Nat) (cx : Option Nat) (fc : FC) (wd : Nat → Int64) (sz : Nat) : Met l yX12_holds (ws_ yX12_holds cX12_holds 2 (some .boolean)) (rm_ 199 7900) (GPc D d sd [.ref a, .ref aw] [] (fun P => P a (.inr (12, [.ref vx, va_rf cx])) ∧ CO P cx fc ∧ WRo d aw wd P) sz) (GQi D (if fc wd = 0 then 0 else 1) [] [] sz) 0 0 (va_A [] sz) := by
  refine Met.ofW (cc := cX12_holds) (maxL := 2) (ret := (some .boolean)) plX12 rfl ?_
  intro p e s m args below meth c s₁ B hml hv
  obtain ⟨C, hX, hR, hT, hr, hlocks, hargs, rfl⟩ := g_enter (own := RX12) B hml rfl hv
  have hx := C.1
  have hb := C.2.1
  have hV := hX.1
  obtain ⟨A, hA0⟩ : ∃ A, A = va_A [] s.heap.size := ⟨_, rfl⟩
  rw [← hA0] at hX hR hT
  show W p l e (rm_ 199 7900) s m args below meth c s.heap [] 0 0 (MQ below (GQi D (if fc wd = 0 then 0 else 1) [] [] s.heap.size) args s 0 0 (va_A [] s.heap.size)) _
  rw [← hA0]
  obtain ⟨h1, h2, hW⟩ := hR
  refine W.eq (by rw [hargs]) (t_in (vs := [.ref a, .ref aw]) (n := 2) (Nat.le_of_ble_eq_true rfl) (fun ls hl => ?_))
  have hl : lv_has ls 2 [(0, .ref a), (1, .ref aw)] := hl
  refine lv_aload_n hx hb dX12_holds_0 rfl (lv_at hl 0 rfl) ?_
  refine r_get C hV (h1.at hT.2.2) (ci := 12) rfl in_X12 1 (by decide) q873 rfl dX12_holds_1 ?_
  rcases h2 with ⟨e1, e2⟩ | ⟨y, e1, e2⟩
  · subst e1
    refine lv_ifnullN (tgt := 18) hx hb dX12_holds_4 (by decide) ?_
    refine lv_iconst (v := 1) hx hb dX12_holds_18 (by decide) ?_
    refine lv_goto (tgt := 23) hx hb dX12_holds_19 (by decide) ?_
    exact n_zret hA0 C hT (by rw [e2]; rfl) (Or.inr rfl) hr hlocks dX12_holds_23
  · subst e1
    refine lv_ifnull hx hb dX12_holds_4 ?_
    refine lv_aload_n hx hb dX12_holds_7 rfl (lv_at hl 0 rfl) ?_
    refine r_get C hV (h1.at hT.2.2) (ci := 12) rfl in_X12 1 (by decide) q873 rfl dX12_holds_8 ?_
    refine lv_aload_n hx hb dX12_holds_11 rfl (lv_at hl 1 rfl) ?_
    refine g_con (n := 128) (rest := []) (wd := wd) C hX (A_new hA0) hT (fun k _ => CM_all l D d sd k) e2 (hW.step hT.2.2 (Anil (A_new hA0) hT.2.2.1)) q990 (by dsimp only [rm_]; omega) (by dsimp only [rm_]; omega) hl.1 (Nat.le_of_ble_eq_true rfl) dX12_holds_12 ⟨Nat.zero_le _, Nat.zero_le _⟩ (fun H locs hT => ?_)
    refine lv_if_eq (tgt := 22) hx hb dX12_holds_15 (by decide) (fun hc => ?_) (fun hc => ?_)
    · refine lv_iconst (v := 0) hx hb dX12_holds_22 (by decide) ?_
      exact n_zret hA0 C hT (by rw [if_pos hc]) (Or.inl rfl) hr hlocks dX12_holds_23
    · refine lv_iconst (v := 1) hx hb dX12_holds_18 (by decide) ?_
      refine lv_goto (tgt := 23) hx hb dX12_holds_19 (by decide) ?_
      exact n_zret hA0 C hT (by rw [if_neg hc]) (Or.inr rfl) hr hlocks dX12_holds_23
set_option maxHeartbeats 4000000 in
theorem mX7_lets (l : Launch) (D : va_G) (d : Nat → ClassId) (sd : Nat) (x aw : Nat) (g : FC) (wd : Nat → Int64) (sz : Nat) : Met l yX7_lets (ws_ yX7_lets cX7_lets 3 (some .boolean)) (rm_ 260 8000) (GPc D d sd [.ref x, .ref aw] [] (fun P => RuleAt d x g P ∧ P aw (.inl (d 2, 12, .inr (.inl wd)))) sz) (GQi D (g wd) [] [] sz) 0 0 (va_A [] sz) := by
  refine Met.ofW (cc := cX7_lets) (maxL := 3) (ret := (some .boolean)) plX7 rfl ?_
  intro p e s m args below meth c s₁ B hml hv
  obtain ⟨C, hX, hR, hT, hr, hlocks, hargs, rfl⟩ := g_enter (own := RX7) B hml rfl hv
  have hx := C.1
  have hb := C.2.1
  have hV := hX.1
  obtain ⟨A, hA0⟩ : ∃ A, A = va_A [] s.heap.size := ⟨_, rfl⟩
  rw [← hA0] at hX hR hT
  obtain ⟨⟨lst, el, n, cap, mc, f, tx, vx, cx, fv, fc, h1, h2, h3, h4, h5, h6, h7⟩, hW⟩ := hR
  show W p l e (rm_ 260 8000) s m args below meth c s.heap [] 0 0 (MQ below (GQi D (g wd) [] [] s.heap.size) args s 0 0 (va_A [] s.heap.size)) _
  rw [← hA0]
  have hN : (nI n).toNatClampNeg = n := nI_clamp (by omega)
  have hL : ∀ (m0 k : Nat) (H : Heap) (locs : List Loc) (ls : Array Slot), m0 + k = n → letsG fc fv wd m0 k = g wd → TH D A s.heap [] H locs → lv_has ls 3 [(0, .ref x), (1, .ref aw), (2, .int (nI k))] → W p l e (rm_ 260 8000) s m args below meth c H locs 0 0 (MQ below (GQi D (g wd) [] [] s.heap.size) args s 0 0 A) (F0 m 2 ls []) := by
    intro m0
    induction m0 with
    | zero =>
      intro k H locs ls hk hg hT hl
      refine lv_iload_n hx hb dX7_lets_2 rfl (lv_at hl 2 rfl) ?_
      refine lv_aload_n hx hb dX7_lets_3 rfl (lv_at hl 0 rfl) ?_
      refine r_get C hV (h1.at hT.2.2) (ci := 8) rfl in_X7 0 (by decide) q727 rfl dX7_lets_4 ?_
      refine g_calli (vs := []) (rest := [.int (nI k)]) C hX hT (A_new hA0) (Cut.none _) (h2.step hT.2.2 (Anil (A_new hA0) hT.2.2.1)) (fun sz => mJ2_size l D d sd lst el 0 mc (nI n) _ rfl sz) (cwV 0 C.2.2.2.2 (lw_V q983 q588 q589 q124 q590) rfl rfl rfl hdJ2_size ⟨Nat.le_of_ble_eq_true rfl, Nat.le_of_ble_eq_true rfl⟩) (g_recv hV (h2.at hT.2.2) (ci := 4) rfl) rfl hl.1 rfl (Nat.le_of_ble_eq_true rfl) dX7_lets_7 ⟨Nat.zero_le _, Nat.zero_le _⟩ (fun H locs hT => ?_)
      refine lv_icmp_ge (tgt := 66) hx hb dX7_lets_10 (by decide) (fun _ => ?_) (fun hc => absurd (by rw [show k = n from by omega]; exact Int32.le_refl _) hc)
      refine lv_iconst (v := 0) hx hb dX7_lets_66 (by decide) ?_
      exact n_zret hA0 C hT (by rw [← hg]; rfl) (Or.inl rfl) hr hlocks dX7_lets_67
    | succ m0 ih =>
      intro k H locs ls hk hg hT hl
      have hkn : k < n := by omega
      obtain ⟨g1, g2, g3, g4⟩ := h6 k hkn
      have hck : (nI k).toNatClampNeg = k := nI_clamp (by omega)
      have hi : vp_in (nI k) (nI n).toNatClampNeg := by rw [hN]; exact vp_in_nI hkn (by omega)
      refine lv_iload_n hx hb dX7_lets_2 rfl (lv_at hl 2 rfl) ?_
      refine lv_aload_n hx hb dX7_lets_3 rfl (lv_at hl 0 rfl) ?_
      refine r_get C hV (h1.at hT.2.2) (ci := 8) rfl in_X7 0 (by decide) q727 rfl dX7_lets_4 ?_
      refine g_calli (vs := []) (rest := [.int (nI k)]) C hX hT (A_new hA0) (Cut.none _) (h2.step hT.2.2 (Anil (A_new hA0) hT.2.2.1)) (fun sz => mJ2_size l D d sd lst el 0 mc (nI n) _ rfl sz) (cwV 0 C.2.2.2.2 (lw_V q983 q588 q589 q124 q590) rfl rfl rfl hdJ2_size ⟨Nat.le_of_ble_eq_true rfl, Nat.le_of_ble_eq_true rfl⟩) (g_recv hV (h2.at hT.2.2) (ci := 4) rfl) rfl hl.1 rfl (Nat.le_of_ble_eq_true rfl) dX7_lets_7 ⟨Nat.zero_le _, Nat.zero_le _⟩ (fun H locs hT => ?_)
      refine lv_icmp_ge (tgt := 66) hx hb dX7_lets_10 (by decide) (fun hc => absurd hc (nI_ge hkn (by omega))) (fun _ => ?_)
      refine lv_aload_n hx hb dX7_lets_13 rfl (lv_at hl 0 rfl) ?_
      refine r_get C hV (h1.at hT.2.2) (ci := 8) rfl in_X7 0 (by decide) q727 rfl dX7_lets_14 ?_
      refine lv_iload_n hx hb dX7_lets_17 rfl (lv_at hl 2 rfl) ?_
      refine g_callq (vs := [.int (nI k)]) (rest := []) C hX hT (A_new hA0) (Cut.none _) (Ro := LRo d lst el mc (nI n) cap f) ⟨h2.step hT.2.2 (Anil (A_new hA0) hT.2.2.1), h5.step hT.2.2 (Anil (A_new hA0) hT.2.2.1)⟩ (fun sz => mJ2_get l D d sd lst el mc (nI n) cap f (nI k) (tx k) hi (by rw [hN]; exact h3) (by rw [hck]; exact g1) sz) (cwV 1 C.2.2.2.2 (lw_V q984 q697 q698 q124 q699) rfl rfl rfl hdJ2_get ⟨Nat.le_of_ble_eq_true rfl, Nat.le_of_ble_eq_true rfl⟩) (g_recv hV (h2.at hT.2.2) (ci := 4) rfl) rfl hl.1 rfl (Nat.le_of_ble_eq_true rfl) dX7_lets_18 ⟨Nat.zero_le _, Nat.zero_le _⟩ (fun H locs hT => ?_)
      refine g_cast C hV (g2.at hT.2.2) (ci := 12) rfl q985 dX7_lets_21 ?_
      refine lv_aload_n hx hb dX7_lets_24 rfl (lv_at hl 1 rfl) ?_
      have hm : ∀ q e, FzP D A s.heap q e → FzP D (va_A [] H.size) H q e := fun q e h => h.step hT.2.2 (Anil (A_new hA0) hT.2.2.1)
      refine g_calli (vs := [.ref aw]) (rest := []) C hX hT (A_new hA0) (Cut.none _) (Ro := fun P => P (tx k) (.inr (12, [.ref (vx k), va_rf (cx k)])) ∧ CO P (cx k) (fc k) ∧ WRo d aw wd P) ⟨hm _ _ g2, g4.imp id (fun ⟨y, a, b⟩ => ⟨y, a, CT.mono hm _ _ _ b⟩), hm _ _ hW⟩ (fun sz => mX12_holds l D d sd (tx k) (vx k) aw (cx k) (fc k) wd sz) (cwV 1 C.2.2.2.2 (lw_V q986 q987 q988 q147 q989) rfl rfl rfl hdX12_holds ⟨Nat.le_of_ble_eq_true rfl, Nat.le_of_ble_eq_true rfl⟩) (g_recv hV (g2.at hT.2.2) (ci := 12) rfl) rfl hl.1 rfl (Nat.le_of_ble_eq_true rfl) dX7_lets_25 ⟨Nat.zero_le _, Nat.zero_le _⟩ (fun H locs hT => ?_)
      refine lv_if_eq (tgt := 60) hx hb dX7_lets_28 (by decide) (fun hc => ?_) (fun hc => ?_)
      · have hz : fc k wd = 0 := by
          by_cases q : fc k wd = 0
          · exact q
          · rw [if_neg q] at hc; exact absurd hc (by decide)
        refine lv_iinc (v := nI (k + 1)) (lv' := [(2, .int (nI (k + 1))), (0, .ref x), (1, .ref aw)]) hx hb dX7_lets_60 hl (k := 2) rfl (nI_1 k) (by decide) rfl (fun ls hl => ?_)
        refine lv_goto (tgt := 2) hx hb dX7_lets_63 (by decide) ?_
        refine ih (k + 1) _ _ _ (by omega) ?_ hT (lv_sub hl [1, 2, 0] rfl)
        rw [← hg]; simp only [letsG]; rw [if_pos hz]
      · have hz : ¬ fc k wd = 0 := fun q => hc (by rw [if_pos q])
        have hg2 : g wd = if fv k wd ≤ 0 then 0 else 1 := by rw [← hg]; simp only [letsG]; rw [if_neg hz]
        refine lv_aload_n hx hb dX7_lets_31 rfl (lv_at hl 0 rfl) ?_
        refine r_get C hV (h1.at hT.2.2) (ci := 8) rfl in_X7 0 (by decide) q727 rfl dX7_lets_32 ?_
        refine lv_iload_n hx hb dX7_lets_35 rfl (lv_at hl 2 rfl) ?_
        refine g_callq (vs := [.int (nI k)]) (rest := []) C hX hT (A_new hA0) (Cut.none _) (Ro := LRo d lst el mc (nI n) cap f) ⟨h2.step hT.2.2 (Anil (A_new hA0) hT.2.2.1), h5.step hT.2.2 (Anil (A_new hA0) hT.2.2.1)⟩ (fun sz => mJ2_get l D d sd lst el mc (nI n) cap f (nI k) (tx k) hi (by rw [hN]; exact h3) (by rw [hck]; exact g1) sz) (cwV 1 C.2.2.2.2 (lw_V q984 q697 q698 q124 q699) rfl rfl rfl hdJ2_get ⟨Nat.le_of_ble_eq_true rfl, Nat.le_of_ble_eq_true rfl⟩) (g_recv hV (h2.at hT.2.2) (ci := 4) rfl) rfl hl.1 rfl (Nat.le_of_ble_eq_true rfl) dX7_lets_36 ⟨Nat.zero_le _, Nat.zero_le _⟩ (fun H locs hT => ?_)
        refine g_cast C hV (g2.at hT.2.2) (ci := 12) rfl q985 dX7_lets_39 ?_
        refine r_getN C hV hX.2.1 (g2.at hT.2.2) (ci := 12) rfl in_X12 0 (by decide) q872 rfl dX7_lets_42 ?_
        refine lv_aload_n hx hb dX7_lets_45 rfl (lv_at hl 1 rfl) ?_
        refine g_val (n := 64) (rest := []) (wd := wd) C hX (A_new hA0) hT (fun k _ => JM_all l D d sd k) g3 (hW.step hT.2.2 (Anil (A_new hA0) hT.2.2.1)) q1017 (by dsimp only [rm_]; omega) (by dsimp only [rm_]; omega) hl.1 (Nat.le_of_ble_eq_true rfl) dX7_lets_46 ⟨Nat.zero_le _, Nat.zero_le _⟩ (fun H locs hT => ?_)
        refine lv_lconst (v := 0) hx hb dX7_lets_49 (by decide) ?_
        refine W.lcmp hx hb dX7_lets_50 ?_
        refine lv_if_le (tgt := 58) hx hb dX7_lets_51 (by decide) (fun hc => ?_) (fun hc => ?_)
        · refine lv_iconst (v := 0) hx hb dX7_lets_58 (by decide) ?_
          exact n_zret hA0 C hT (by rw [hg2, if_pos ((lg_cmp_le _ _).mp hc)]) (Or.inl rfl) hr hlocks dX7_lets_59
        · refine lv_iconst (v := 1) hx hb dX7_lets_54 (by decide) ?_
          refine lv_goto (tgt := 59) hx hb dX7_lets_55 (by decide) ?_
          exact n_zret hA0 C hT (by rw [hg2, if_neg (fun q => hc ((lg_cmp_le _ _).mpr q))]) (Or.inr rfl) hr hlocks dX7_lets_59
  refine W.eq (by rw [hargs]) (t_in (vs := [.ref x, .ref aw]) (n := 3) (Nat.le_of_ble_eq_true rfl) (fun ls hl => ?_))
  have hl : lv_has ls 3 [(0, .ref x), (1, .ref aw)] := hl
  refine lv_iconst (v := 0) hx hb dX7_lets_0 (by decide) ?_
  refine lv_istore_n (lv' := [(2, .int (nI 0)), (0, .ref x), (1, .ref aw)]) hx hb dX7_lets_1 rfl hl (by decide) rfl (fun ls hl => ?_)
  exact hL n 0 _ _ _ (by omega) (by rw [h7]) hT (lv_sub hl [1, 2, 0] rfl)
