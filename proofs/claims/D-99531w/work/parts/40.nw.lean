set_option maxRecDepth 100000
/-! ===== making cells ===== -/
theorem K_inj {D : va_G} {d : Nat → ClassId} {cA : ClassId} {ty : FieldType} {U : State} (hV : va_K D db_cls (db_tys d) U) (hK : va_K D db_cls (db_tys d ++ [(cA, ty)]) U) (t0 : Nat) {cB : ClassId} (ht : (db_tys d)[t0]? = some (cB, ty)) : cA = cB := by
  have h1 := (hK.2 7 (cA, ty) rfl).2
  have h2 := (hV.2 t0 _ ht).2
  cases ty with
  | object C =>
    obtain ⟨_, _, _, _, _, e1⟩ := h1
    obtain ⟨_, _, _, _, _, e2⟩ := h2
    exact Option.some.inj (e1.symm.trans e2)
  | _ => exact Option.some.inj (Eq.trans (Eq.symm h1) h2)
/-- a part of the world that a callee takes, and the rest -/
def Cutn (ws wc wr : va_W) : Prop := (∀ q ∈ wc, q ∈ ws) ∧ (wc.map Prod.fst).Nodup ∧ (∀ q ∈ wr, q ∈ ws ∧ q.1 ∉ wc.map Prod.fst) ∧ (wr.map Prod.fst).Nodup
theorem Cutn.app {A : Nat → Prop} {wr wc : va_W} (hD : va_D A (wr ++ wc)) : Cutn (wr ++ wc) wc wr := by
  have hn := D_nd hD
  rw [List.map_append] at hn
  obtain ⟨h1, h2, h3⟩ := List.pairwise_append.mp hn
  exact ⟨fun q hq => List.mem_append_right _ hq, h2, fun q hq => ⟨List.mem_append_left _ hq, fun hx => h3 _ (List.mem_map.mpr ⟨q, hq, rfl⟩) _ hx rfl⟩, h1⟩
theorem Cutn.all {A : Nat → Prop} {ws : va_W} (hD : va_D A ws) : Cutn ws ws [] := ⟨fun _ h => h, D_nd hD, fun _ h => absurd h List.not_mem_nil, List.nodup_nil⟩
theorem Cutn.none {A : Nat → Prop} {ws : va_W} (hD : va_D A ws) : Cutn ws [] ws := ⟨fun _ h => absurd h List.not_mem_nil, List.nodup_nil, fun q h => ⟨h, List.not_mem_nil⟩, D_nd hD⟩
/-- behind a callee that may have made cells: what it leaves beside the rest -/
theorem TH.joinN {D : va_G} {A : Nat → Prop} {H0 H H1 : Heap} {ws wc wr w1 : va_W} {locs locs1 : List Loc} (hT : TH D A H0 ws H locs) (hC : Cutn ws wc wr) (hA : ∀ q, va_A wc H.size q → A q) (hP1 : va_P D db_cls w1 H1) (hD1 : va_D (va_A wc H.size) w1) (hk1 : ∀ q : Nat, q < H.size → ¬ va_A wc H.size q → H1[q]? = H[q]?) (hS : va_S A H0 H1 locs1) : TH D A H0 (wr ++ w1) H1 locs1 := by
  have hn : ∀ q ∈ wr, ¬ va_A wc H.size q.1 := by
    intro q hq
    rw [va_A_map]
    rintro (h | h)
    · exact (hC.2.2.1 q hq).2 h
    · exact absurd (hT.at (hC.2.2.1 q hq).1).lt (Nat.not_lt.mpr h)
  refine ⟨P_of (fun q hq => ?_), va_D.app ?_ (hD1.weaken (fun k q _ h => hA q.1 h)) (fun i j x y hx hy hxy => ?_), hS⟩
  · rcases List.mem_append.mp hq with h | h
    · have h3 := hT.at (hC.2.2.1 q h).1
      exact h3.kept (hk1 q.1 h3.lt (hn q h))
    · obtain ⟨k, hk⟩ := List.getElem?_of_mem h
      exact hP1 k q hk
  · refine D_of hC.2.2.2 (fun q hq => ?_)
    obtain ⟨k, hk⟩ := List.getElem?_of_mem (hC.2.2.1 q hq).1
    exact hT.2.1.2 k q hk
  · exact hn x (List.mem_of_getElem? hx) (by rw [hxy]; exact hD1.2 j y hy)
/-- post of a method that makes cells: F u is the world that it leaves -/
abbrev NQv (D : va_G) {σ : Type} (post : σ → Prop) (F : σ → va_W) (ws : va_W) (sz : Nat) : Array Value → State → Outcome → State → Prop := va_Qv post (fun u U => va_P D db_cls (F u) U.heap ∧ va_D (va_A ws sz) (F u)) (va_A ws sz)
abbrev NQr (D : va_G) {σ : Type} (post : σ → Prop) (F : σ → Nat → va_W) (ws : va_W) (sz : Nat) : Array Value → State → Outcome → State → Prop := va_Qr post (fun u a U => va_P D db_cls (F u a) U.heap ∧ va_D (va_A ws sz) (F u a)) (va_A ws sz)
section GN
variable {p : Program} {l : Launch} {e : Env} {R : Room} {s : State} {m : MethodId} {args : Array Value} {below : List Frame} {meth : Method} {c : Code} {H : Heap} {locs : List Loc} {cells slots : Nat} {Q : State → Prop}
variable {cc : ByteArray} {nL pc : Nat} {ls : Array Slot} {rest : List Value} {D : va_G} {d : Nat → ClassId} {sd : Nat} {A : Nat → Prop} {own : String} {ws ws0 : va_W}
theorem n_newa {atype : ArrayType} {ty : FieldType} {n : Int32} {N' t0 : Nat} {cB : ClassId} {x : (Nat → Int32) ⊕ (Nat → Int64) ⊕ (Nat → UInt32) ⊕ (Nat → UInt64) ⊕ (Nat → Option Nat)} (C : CallFix p m c cc nL s args lw_all own) (hV : va_K D db_cls (db_tys d) s) (hT : TH D A s.heap ws H locs) (hA : ∀ q, s.heap.size ≤ q → A q) (hw : Cond.arrayClass (newarray.typeOf atype) ∈ lw_all) (hty : newarray.typeOf atype = ty) (ht : (db_tys d)[t0]? = some (cB, ty)) (ha : ∀ cA : ClassId, vp_cell cA (N', x) = arrV cA N' (fun _ => defaultValue ty)) (hn : ¬ n < 0) (hN : n.toNatClampNeg = N') (hbytes : N' * componentBytes ty ≤ 536870912) (hcells : cells + 1 ≤ R.cells) (hslots : slots + N' ≤ R.slots) (hdg : decode cc pc = .ok (.newarray atype, 2))
    (kk : ∀ (q : Nat) (H1 : Heap), TH D A s.heap (ws ++ [(q, .inl (cB, N', x))]) H1 locs → W p l e R s m args below meth c H1 locs (cells + 1) (slots + N') Q (F0 m (pc + 2) ls (.ref q :: rest))) : W p l e R s m args below meth c H locs cells slots Q (F0 m pc ls (.int n :: rest)) :=
  va_newa C.1 C.2.1 (C.2.2.2.2 _ hw) hty hV hT.1 hT.2.1 hT.2.2 hA ha hn hN hbytes hcells hslots hdg (fun q cA H1 hK hP hD hS => by
    have e := K_inj hV hK t0 ht
    subst e
    exact kk q H1 ⟨hP, hD, hS⟩)
theorem n_newq {E : String} {index : Nat} {n : Int32} {N' t0 : Nat} {cB : ClassId} (C : CallFix p m c cc nL s args lw_all own) (hV : va_K D db_cls (db_tys d) s) (hT : TH D A s.heap ws H locs) (hA : ∀ q, s.heap.size ≤ q → A q) (hw : Cond.classLink own index E ∈ lw_all) (ho : va_AO E s) (ht : (db_tys d)[t0]? = some (cB, .object E)) (hn : ¬ n < 0) (hN : n.toNatClampNeg = N') (hbytes : N' * 4 ≤ 536870912) (hcells : cells + 1 ≤ R.cells) (hslots : slots + N' ≤ R.slots) (hdg : decode cc pc = .ok (.anewarray index, 3))
    (kk : ∀ (q : Nat) (H1 : Heap), TH D A s.heap (ws ++ [(q, .inl (cB, N', .inr (.inr (.inr (.inr (fun _ => none))))))]) H1 locs → W p l e R s m args below meth c H1 locs (cells + 1) (slots + N') Q (F0 m (pc + 3) ls (.ref q :: rest))) : W p l e R s m args below meth c H locs cells slots Q (F0 m pc ls (.int n :: rest)) :=
  va_newq C.1 C.2.1 C.2.2.2.1 (C.2.2.2.2 _ hw) ho hV hT.1 hT.2.1 hT.2.2 hA hn hN hbytes hcells hslots hdg (fun q cA H1 hK hP hD hS => by
    have e := K_inj hV hK t0 ht
    subst e
    exact kk q H1 ⟨hP, hD, hS⟩)
theorem n_new {cn : String} {T : u_T} {ty0 : Nat → FieldType} {nf ci index : Nat} {fs : List Value} (C : CallFix p m c cc nL s args lw_all own) (hV : va_K D db_cls (db_tys d) s) (hT : TH D A s.heap ws H locs) (hA : ∀ q, s.heap.size ≤ q → A q) (hin : ∀ w ∈ u_ws cn T nf, w ∈ lw_all) (hty : ∀ k, k < nf → parseFieldDescriptor (T k).2.2.1 = some (ty0 k)) (hc : db_cls[ci]? = some (cn, T, nf)) (hw : Cond.classLink own index cn ∈ lw_all) (hi : Cond.instantiable cn nf ∈ lw_all) (hini : Cond.initialized cn ∈ lw_all) (hfs : ∀ j, j < nf → defaultValue (ty0 j) = vp_V fs j) (hcells : cells + 1 ≤ R.cells) (hslots : slots + nf ≤ R.slots) (hdg : decode cc pc = .ok (.new index, 3))
    (kk : ∀ (q : Nat) (H1 : Heap), TH D A s.heap (ws ++ [(q, .inr (ci, fs))]) H1 locs → W p l e R s m args below meth c H1 locs (cells + 1) (slots + nf) Q (F0 m (pc + 3) ls (.ref q :: rest))) : W p l e R s m args below meth c H locs cells slots Q (F0 m pc ls rest) :=
  va_new C.1 C.2.1 C.2.2.2.2 hin ty0 hty C.2.2.2.1 (C.2.2.2.2 _ hw) (C.2.2.2.2 _ hi) (C.2.2.2.2 _ hini) hV hT.1 hT.2.1 hT.2.2 hA hc hfs hcells hslots hdg (fun q H1 hP hD hS => kk q H1 ⟨hP, hD, hS⟩)
theorem w_putF {ws1 : va_W} {cn : String} {T : u_T} {ty0 : Nat → FieldType} {nf ci index b : Nat} {fs : List Value} {v : Value} {ty : FieldType} (C : CallFix p m c cc nL s args lw_all own) (hV : va_K D db_cls (db_tys d) s) (hT : TH D A s.heap ws H locs) (p0 : Nat) (ha : ws[p0]? = some (b, .inr (ci, fs))) (hc : db_cls[ci]? = some (cn, T, nf)) (hin : ∀ w ∈ u_ws cn T nf, w ∈ lw_all) (hty : ∀ k, k < nf → parseFieldDescriptor (T k).2.2.1 = some (ty0 k)) (hnm : ∀ a, a < nf → ∀ b, b < nf → a ≠ b → (T a).2.1 ≠ (T b).2.1) (k : Nat) (hk : k < nf) (hl : Cond.fieldLink own index (T k).1 (T k).2.1 (T k).2.2.1 ∈ lw_all) (hset : Upd ws b (.inr (ci, fs.set k v)) ws1) (hfin : (T k).2.2.2 = true) (hin2 : meth.name = "<init>") (hdecl : (T k).1 = own) (ht : ty0 k = ty) (hn : narrow ty v = v) (hfit : fits ty v = true) (hlen : k < fs.length) (hdg : decode cc pc = .ok (.putfield index, 3))
    (kk : ∀ (H1 : Heap) (locs1 : List Loc), TH D A s.heap ws1 H1 locs1 → W p l e R s m args below meth c H1 locs1 cells slots Q (F0 m (pc + 3) ls rest)) : W p l e R s m args below meth c H locs cells slots Q (F0 m pc ls (v :: .ref b :: rest)) :=
  va_putF (D := D) (ci := ci) (v := v) (ty := ty) (C := cn) (T := T) (N := nf) C.1 C.2.1 C.2.2.2.2 hin ty0 hty hnm C.2.2.2.1 hV hT.1 hT.2.1 hT.2.2 p0 ha hc k hk (C.2.2.2.2 _ hl) (fun _ h => h) hfin hin2 hdecl (by rw [hty k hk, ht]) hn hfit hlen hdg (fun H1 locs1 hP hD hS => kk H1 locs1 (TH.upd ha ⟨hP, hD, hS⟩ hset))
theorem n_vret {σ : Type} {post : σ → Prop} (F : σ → va_W) (u : σ) (C : CallFix p m c cc nL s args lw_all own) (hT : TH D (va_A ws0 s.heap.size) s.heap ws H locs) (hpost : post u) (hP : ∀ q ∈ F u, q ∈ ws) (hn : ((F u).map Prod.fst).Nodup) (hr : meth.sig.returnType = none) (hlocks : meth.locks = false) (hdg : decode cc pc = .ok (.return_, 1)) : W p l e R s m args below meth c H locs cells slots (MQ below (NQv D post F ws0 s.heap.size) args s cells slots (va_A ws0 s.heap.size)) (F0 m pc ls []) :=
  W.vret C.1 C.2.1 hr (fun t0 ht hW => ⟨⟨u, rfl, hpost, by subst ht; exact P_of (fun q hq => hT.at (hP q hq)), D_of hn (fun q hq => by obtain ⟨k, hk⟩ := List.getElem?_of_mem (hP q hq); exact hT.2.1.2 k q hk)⟩, hT.2.2.F ht⟩) hT.2.2.2.2 hdg hlocks
theorem n_aret {σ : Type} {post : σ → Prop} {ty : FieldType} {x : Nat} (F : σ → Nat → va_W) (u : σ) (C : CallFix p m c cc nL s args lw_all own) (hT : TH D (va_A ws0 s.heap.size) s.heap ws H locs) (hpost : post u) (hP : ∀ q ∈ F u x, q ∈ ws) (hn : ((F u x).map Prod.fst).Nodup) (hr : meth.sig.returnType = some ty) (hty : (∃ n, ty = .object n) ∨ ∃ t, ty = .array t) (hlocks : meth.locks = false) (hdg : decode cc pc = .ok (.areturn, 1)) : W p l e R s m args below meth c H locs cells slots (MQ below (NQr D post F ws0 s.heap.size) args s cells slots (va_A ws0 s.heap.size)) (F0 m pc ls [.ref x]) :=
  W.aret C.1 C.2.1 hr hty (Or.inr ⟨x, rfl⟩) (fun t0 ht hW => ⟨⟨u, x, rfl, hpost, by subst ht; exact P_of (fun q hq => hT.at (hP q hq)), D_of hn (fun q hq => by obtain ⟨k, hk⟩ := List.getElem?_of_mem (hP q hq); exact hT.2.1.2 k q hk)⟩, hT.2.2.F ht⟩) hT.2.2.2.2 hdg hlocks
section GNC
variable {y : MethodName} {bytes : ByteArray} {maxL idx n mc ms : Nat} {rt : FieldType} {rm : Room} {vs st0 : List Value} {wc wr : va_W} {Ro : (Nat → va_E → Prop) → Prop}
theorem g_preN (hX : RX D d sd A s s.heap) (hT : TH D A s.heap ws H locs) (hA : ∀ q, s.heap.size ≤ q → A q) (hC : Cutn ws wc wr) (hRo : Ro (FzP D (va_A wc H.size) H)) :
    FrameBlind (GPc D d sd vs wc Ro H.size) ∧ (∀ U : State, U.heap = H → s.WarmedH U.vm → GPc D d sd vs wc Ro H.size vs.toArray U) ∧ ∀ q, va_A wc H.size q → A q :=
  g_pre (ws' := ws) (wc' := wc) hX hT hA ⟨hC.1, hC.2.1, fun q hq => by
    by_cases h : q.1 ∈ wc.map Prod.fst
    · left
      obtain ⟨x, hx, hxq⟩ := List.mem_map.mp h
      obtain ⟨i, hi⟩ := List.getElem?_of_mem hq
      obtain ⟨j, hj⟩ := List.getElem?_of_mem (hC.1 x hx)
      have := hT.2.1.1 i j q x hi hj hxq.symm
      subst this
      rw [hi] at hj
      cases hj
      exact hx
    · exact Or.inr ⟨hq, h⟩, rfl⟩ hRo
/-- a constructor's call: the object and what it makes -/
theorem n_calln {σ : Type} {post : σ → Prop} {F : σ → va_W} {b : Nat} (C : CallFix p m c cc nL s args lw_all own) (hX : RX D d sd A s s.heap) (hT : TH D A s.heap ws H locs) (hA : ∀ q, s.heap.size ≤ q → A q) (hC : Cutn ws wc wr) (hRo : Ro (FzP D (va_A wc H.size) H)) (hM : ∀ sz, Met l y (ws_ y bytes maxL none) rm (GPc D d sd (.ref b :: vs) wc Ro sz) (NQv D post F wc sz) mc ms (va_A wc sz)) (cw : CallB R s args own idx y bytes maxL none (ws_ y bytes maxL none) rm mc ms n ∧ y.name = "<init>" ∧ (Cond.instanceMethod y).before args s = true) (hn : vs.length = n) (hsize : ls.size = nL) (hst : st0 = vs.reverse ++ .ref b :: rest) (hroom : (rest.map fun v => v.category).sum ≤ 8) (hdg : decode cc pc = .ok (.invokespecial idx, 3)) (hf : cells + mc ≤ R.cells ∧ slots + ms ≤ R.slots)
    (k : ∀ (u : σ) (H1 : Heap) (locs1 : List Loc), post u → TH D A s.heap (wr ++ F u) H1 locs1 → H.size ≤ H1.size → (∀ q : Nat, q < H.size → ¬ va_A wc H.size q → H1[q]? = H[q]?) → W p l e R s m args below meth c H1 locs1 (cells + mc) (slots + ms) Q (F0 m (pc + 3) ls rest)) : W p l e R s m args below meth c H locs cells slots Q (F0 m pc ls st0) := by
  obtain ⟨h1, h2, h3⟩ := g_preN (vs := .ref b :: vs) hX hT hA hC hRo
  refine va_callv (va_runI (As := vs) (rest := rest) C (hM H.size) cw ⟨h1, h2⟩ rfl hn hsize hst (lv_room hroom) hdg hf) hT.2.2 (fun q _ h => h3 q h) h3 (fun u T2 H1 locs1 ht hvm hw1 hB hz1 hk1 hS => ?_)
  subst ht
  exact k u _ locs1 hw1 (hT.joinN hC h3 hB.1 hB.2 hk1 hS) hz1 hk1
theorem n_callnN {host : String} {σ : Type} {post : σ → Prop} {F : σ → va_W} {b : Nat} (C : CallFix p m c cc nL s args lw_all own) (hX : RX D d sd A s s.heap) (hT : TH D A s.heap ws H locs) (hA : ∀ q, s.heap.size ≤ q → A q) (hC : Cutn ws wc wr) (hRo : Ro (FzP D (va_A wc H.size) H)) (hM : ∀ sz, Met l y (ws_ y bytes maxL none) rm (GPc D d sd (.ref b :: vs) wc Ro sz) (NQv D post F wc sz) mc ms (va_A wc sz)) (cw : va_CN R s args own idx y host bytes maxL none (ws_ y bytes maxL none) rm mc ms n ∧ y.name = "<init>" ∧ (Cond.instanceMethod y).before args s = true) (hn : vs.length = n) (hsize : ls.size = nL) (hst : st0 = vs.reverse ++ .ref b :: rest) (hroom : (rest.map fun v => v.category).sum ≤ 8) (hdg : decode cc pc = .ok (.invokespecial idx, 3)) (hf : cells + mc ≤ R.cells ∧ slots + ms ≤ R.slots)
    (k : ∀ (u : σ) (H1 : Heap) (locs1 : List Loc), post u → TH D A s.heap (wr ++ F u) H1 locs1 → H.size ≤ H1.size → (∀ q : Nat, q < H.size → ¬ va_A wc H.size q → H1[q]? = H[q]?) → W p l e R s m args below meth c H1 locs1 (cells + mc) (slots + ms) Q (F0 m (pc + 3) ls rest)) : W p l e R s m args below meth c H locs cells slots Q (F0 m pc ls st0) := by
  obtain ⟨h1, h2, h3⟩ := g_preN (vs := .ref b :: vs) hX hT hA hC hRo
  refine va_callv (va_runIN (As := vs) (rest := rest) C (hM H.size) cw ⟨h1, h2⟩ rfl hn hsize hst (lv_room hroom) hdg hf) hT.2.2 (fun q _ h => h3 q h) h3 (fun u T2 H1 locs1 ht hvm hw1 hB hz1 hk1 hS => ?_)
  subst ht
  exact k u _ locs1 hw1 (hT.joinN hC h3 hB.1 hB.2 hk1 hS) hz1 hk1
/-- a static method that answers with a new thing -/
theorem n_scallr {σ : Type} {post : σ → Prop} {F : σ → Nat → va_W} (C : CallFix p m c cc nL s args lw_all own) (hX : RX D d sd A s s.heap) (hT : TH D A s.heap ws H locs) (hA : ∀ q, s.heap.size ≤ q → A q) (hC : Cutn ws wc wr) (hRo : Ro (FzP D (va_A wc H.size) H)) (hM : ∀ sz, Met l y (ws_ y bytes maxL (some rt)) rm (GPc D d sd vs wc Ro sz) (NQr D post F wc sz) mc ms (va_A wc sz)) (cw : CallB R s args own idx y bytes maxL (some rt) (ws_ y bytes maxL (some rt)) rm mc ms n ∧ (Cond.static y).before args s = true) (hn : vs.length = n) (hsize : ls.size = nL) (hst : st0 = vs.reverse ++ rest) (hroom : (rest.map fun v => v.category).sum ≤ 8) (hdg : decode cc pc = .ok (.invokestatic idx, 3)) (hf : cells + mc ≤ R.cells ∧ slots + ms ≤ R.slots)
    (k : ∀ (u : σ) (x : Nat) (H1 : Heap) (locs1 : List Loc), post u → TH D A s.heap (wr ++ F u x) H1 locs1 → H.size ≤ H1.size → (∀ q : Nat, q < H.size → ¬ va_A wc H.size q → H1[q]? = H[q]?) → W p l e R s m args below meth c H1 locs1 (cells + mc) (slots + ms) Q (F0 m (pc + 3) ls (.ref x :: rest))) : W p l e R s m args below meth c H locs cells slots Q (F0 m pc ls st0) := by
  obtain ⟨h1, h2, h3⟩ := g_preN (vs := vs) hX hT hA hC hRo
  refine va_callr (va_runS (As := vs) (rest := rest) C (hM H.size) cw ⟨h1, h2⟩ rfl hn hsize hst (lv_room hroom) hdg hf) hT.2.2 (fun q _ h => h3 q h) h3 (fun u x T2 H1 locs1 ht hvm hw1 hB hz1 hk1 hS => ?_)
  subst ht
  exact k u x _ locs1 hw1 (hT.joinN hC h3 hB.1 hB.2 hk1 hS) hz1 hk1
end GNC
end GN
