set_option maxRecDepth 100000
/-! ===== worlds of the component: what its walks share ===== -/
def isNest (w : Cond) : Bool := match w with
  | .fieldLinkNest _ _ _ _ _ _ => true
  | .methodLinkNest _ _ _ _ => true
  | .castable _ _ => true
  | .declares _ => true
  | .arrayOver (.object _) => true
  | _ => false
/-- the tables' words that no list carries -/
def NW (U : State) : Prop := ∀ w ∈ lw_tbl, isNest w = true → va_Nw w U
theorem NW.of {args : Array Value} {U : State} (h : ∀ w ∈ lw_tbl, w.before args U = true) : NW U := by
  intro w hw hn
  have h1 := h w hw
  unfold isNest at hn
  split at hn
  · exact va_Nw.of rfl h1
  · exact va_Nw.of rfl h1
  · exact va_Nw.of rfl h1
  · exact va_Nw.of rfl h1
  · exact h1
  · cases hn
theorem NW.warm {s U : State} (hW : s.WarmedH U.vm) (h : NW s) : NW U := by
  intro w hw hn
  have h1 := h w hw hn
  unfold isNest at hn
  split at hn
  · exact va_Nw.warmF hW h1
  · exact va_Nw.warmM hW h1
  · exact va_Nw.warmC hW h1
  · exact va_Nw.warmD hW h1
  · exact va_AO.moved hW.alike h1
  · cases hn
theorem NW.same {u U : State} (hv : u.vm = U.vm) (h : NW u) : NW U := by
  intro w hw hn
  have h1 := h w hw hn
  unfold isNest at hn
  split at hn
  · exact va_Nw.same rfl hv h1
  · exact va_Nw.same rfl hv h1
  · exact va_Nw.same rfl hv h1
  · exact va_Nw.same rfl hv h1
  · exact va_AO.moved (by rw [hv]; exact Vm.Alike.refl _) h1
  · cases hn
def db_snd (j : Nat) : Int32 := ([0, -3, -1, 2, 3, 2, -2, 3, 1, 1, -1, -3] : List Int32).getD j 0
theorem NW.ao {E : String} {U : State} (h : NW U) (hw : Cond.arrayOver (.object E) ∈ lw_tbl) : va_AO E U := h _ hw rfl
/-- what every method of the component finds: tables, nest words, the static SOUNDS -/
def RX (D : va_G) (d : Nat → ClassId) (sd : Nat) (A : Nat → Prop) (U : State) (H : Heap) : Prop :=
  va_K D db_cls (db_tys d) U ∧ NW U ∧ va_Z "DutyBeats" "SOUNDS" "[I" (.ref sd) A U H ∧ va_T .int sd 12 (fun j => .int (db_snd j)) A U H ∧ RZ d A U H
section RXS
variable {D : va_G} {d : Nat → ClassId} {sd : Nat} {A B : Nat → Prop} {s u U : State} {H H1 : Heap}
theorem RX.warm (hW : s.WarmedH U.vm) (h : RX D d sd A s H) : RX D d sd A U H := ⟨va_K.moved hW.alike h.1, h.2.1.warm hW, h.2.2.1.moved hW.alike, h.2.2.2.1.moved hW.alike, h.2.2.2.2.warm hW⟩
theorem RX.same (hv : u.vm = U.vm) (h : RX D d sd A u H) : RX D d sd A U H := by
  have ha : u.vm.Alike U.vm := by rw [hv]; exact Vm.Alike.refl _
  exact ⟨va_K.moved ha h.1, h.2.1.same hv, h.2.2.1.moved ha, h.2.2.2.1.moved ha, h.2.2.2.2.same hv⟩
theorem RX.kept (h : RX D d sd A U H) (hq : ∀ a : Nat, a < H.size → ¬ A a → H1[a]? = H[a]?) : RX D d sd A U H1 := ⟨h.1, h.2.1, h.2.2.1.kept hq, h.2.2.2.1.kept hq, h.2.2.2.2.kept hq⟩
theorem RX.narrow (h : RX D d sd A U H) (hAB : ∀ q, B q → A q) : RX D d sd B U H := ⟨h.1, h.2.1, h.2.2.1.narrow hAB, h.2.2.2.1.narrow hAB, h.2.2.2.2.narrow hAB⟩
end RXS
/-- a cell that is there and that this method doesn't write -/
def FzP (D : va_G) (A : Nat → Prop) (H : Heap) (q : Nat) (e : va_E) : Prop := va_at D db_cls (q, e) H ∧ ¬ A q
theorem FzP.at {D : va_G} {A : Nat → Prop} {H0 H : Heap} {locs : List Loc} {q : Nat} {e : va_E} (h : FzP D A H0 q e) (hS : va_S A H0 H locs) : va_at D db_cls (q, e) H := h.1.kept (hS.2.1 q h.1.lt h.2)
theorem FzP.step {D : va_G} {A B : Nat → Prop} {H0 H : Heap} {locs : List Loc} {q : Nat} {e : va_E} (h : FzP D A H0 q e) (hS : va_S A H0 H locs) (hB : ∀ q, B q → A q) : FzP D B H q e := ⟨h.at hS, fun z => h.2 (hB q z)⟩
theorem at1 {D : va_G} {q : Nat × va_E} {H : Heap} (h : va_at D db_cls q H) : va_P D db_cls [q] H := by
  intro k x hk
  cases k with
  | zero => cases hk; exact h
  | succ k => simp at hk
theorem TH.at {D : va_G} {A : Nat → Prop} {H0 H : Heap} {ws : va_W} {locs : List Loc} (hT : TH D A H0 ws H locs) {q : Nat × va_E} (hm : q ∈ ws) : va_at D db_cls q H := by
  obtain ⟨k, hk⟩ := List.getElem?_of_mem hm
  exact hT.1 k q hk
theorem TH.atp {D : va_G} {A : Nat → Prop} {H0 H : Heap} {ws : va_W} {locs : List Loc} (hT : TH D A H0 ws H locs) (k : Nat) {q : Nat × va_E} (hm : ws[k]? = some q) : va_at D db_cls q H := hT.1 k q hm
theorem P_of {D : va_G} {ws : va_W} {H : Heap} (h : ∀ q ∈ ws, va_at D db_cls q H) : va_P D db_cls ws H := fun _ q hk => h q (List.mem_of_getElem? hk)
theorem D_of {A : Nat → Prop} {ws : va_W} (h1 : (ws.map Prod.fst).Nodup) (h2 : ∀ q ∈ ws, A q.1) : va_D A ws := by
  refine ⟨fun i j p q hi hj hpq => ?_, fun k q hk => h2 q (List.mem_of_getElem? hk)⟩
  have hi' : (ws.map Prod.fst)[i]? = some p.1 := by rw [List.getElem?_map, hi]; rfl
  have hj' : (ws.map Prod.fst)[j]? = some q.1 := by rw [List.getElem?_map, hj]; rfl
  have l1 := (List.getElem?_eq_some_iff.mp hi').1
  exact (List.getElem?_inj l1 h1).mp (by rw [hi', hj', hpq])
theorem D_nd {A : Nat → Prop} {ws : va_W} (h : va_D A ws) : (ws.map Prod.fst).Nodup := by
  refine List.pairwise_iff_getElem.mpr ?_
  intro i j hi hj hij e
  have hj' : j < ws.length := by simpa using hj
  have hi' : i < ws.length := by simpa using hi
  rw [List.getElem_map, List.getElem_map] at e
  have := h.1 i j _ _ (List.getElem?_eq_getElem hi') (List.getElem?_eq_getElem hj') e
  omega
/-- a world with one cell changed -/
def Upd (ws : va_W) (b : Nat) (e : va_E) (ws' : va_W) : Prop := (∀ q ∈ ws', q = (b, e) ∨ (q ∈ ws ∧ q.1 ≠ b)) ∧ ws'.map Prod.fst = ws.map Prod.fst
theorem TH.upd {D : va_G} {A : Nat → Prop} {H0 H : Heap} {ws ws' : va_W} {locs : List Loc} {b p0 : Nat} {e0 e : va_E} (ha : ws[p0]? = some (b, e0)) (hT : TH D A H0 (ws.set p0 (b, e)) H locs) (hU : Upd ws b e ws') : TH D A H0 ws' H locs := by
  have hl := (List.getElem?_eq_some_iff.mp ha).1
  refine ⟨P_of (fun q hq => ?_), ?_, hT.2.2⟩
  · rcases hU.1 q hq with h | ⟨h1, h2⟩
    · subst h
      exact hT.atp p0 (by rw [List.getElem?_set_self hl])
    · obtain ⟨k, hk⟩ := List.getElem?_of_mem h1
      have hne : k ≠ p0 := by
        intro z
        subst z
        rw [ha] at hk
        cases hk
        exact h2 rfl
      exact hT.atp k (by rw [List.getElem?_set_ne (Ne.symm hne)]; exact hk)
  · refine va_D_fst ?_ hT.2.1
    rw [hU.2]
    apply List.ext_getElem?
    intro k
    rw [List.getElem?_map, List.getElem?_map]
    by_cases hk : k = p0
    · subst hk
      rw [List.getElem?_set_self hl, ha]
      rfl
    · rw [List.getElem?_set_ne (Ne.symm hk)]
/-! contracts -/
abbrev GPc (D : va_G) (d : Nat → ClassId) (sd : Nat) (vs : List Value) (ws : va_W) (Ro : (Nat → va_E → Prop) → Prop) (sz : Nat) : Array Value → State → Prop := va_Pc vs (fun U => U.heap.size = sz ∧ va_P D db_cls ws U.heap ∧ va_D (fun _ => True) ws ∧ RX D d sd (va_A ws sz) U U.heap ∧ Ro (FzP D (va_A ws sz) U.heap))
abbrev GQi (D : va_G) (r : Int32) (ws' ws : va_W) (sz : Nat) : Array Value → State → Outcome → State → Prop := va_Qi (fun (r' : Int32) (_ : Unit) => r' = r) (fun _ U => va_P D db_cls ws' U.heap) (va_A ws sz)
abbrev GQl (D : va_G) (r : Int64) (ws' ws : va_W) (sz : Nat) : Array Value → State → Outcome → State → Prop := va_Ql (fun (r' : Int64) (_ : Unit) => r' = r) (fun _ U => va_P D db_cls ws' U.heap) (va_A ws sz)
abbrev GQv (D : va_G) (ws' ws : va_W) (sz : Nat) : Array Value → State → Outcome → State → Prop := va_Qv (fun (_ : Unit) => True) (fun _ U => va_P D db_cls ws' U.heap) (va_A ws sz)
abbrev GQq (D : va_G) (r : Option Nat) (ws' ws : va_W) (sz : Nat) : Array Value → State → Outcome → State → Prop := va_Qq (fun (r' : Option Nat) (_ : Unit) => r' = r) (fun _ U => va_P D db_cls ws' U.heap) (va_A ws sz)
theorem A_sub {ws wc : va_W} {sz sz' : Nat} (hs : sz ≤ sz') (h : ∀ q ∈ wc, q.1 ∈ ws.map Prod.fst) (q : Nat) (hq : va_A wc sz' q) : va_A ws sz q := by
  rw [va_A_map] at hq ⊢
  rcases hq with h1 | h1
  · obtain ⟨x, hx, rfl⟩ := List.mem_map.mp h1
    exact Or.inl (h x hx)
  · exact Or.inr (Nat.le_trans hs h1)
/-- a callee's part of a world, and the world behind -/
def Cut (ws wc wc' ws' : va_W) : Prop := (∀ q ∈ wc, q ∈ ws) ∧ (wc.map Prod.fst).Nodup ∧ (∀ q ∈ ws', q ∈ wc' ∨ (q ∈ ws ∧ q.1 ∉ wc.map Prod.fst)) ∧ ws'.map Prod.fst = ws.map Prod.fst
theorem Cut.none (ws : va_W) : Cut ws [] [] ws := ⟨fun _ h => absurd h List.not_mem_nil, List.nodup_nil, fun q h => Or.inr ⟨h, List.not_mem_nil⟩, rfl⟩
theorem Cut.all {ws ws' : va_W} (hn : (ws.map Prod.fst).Nodup) (h : ws'.map Prod.fst = ws.map Prod.fst) : Cut ws ws ws' ws' := ⟨fun _ h => h, hn, fun q h => Or.inl h, h⟩
section GW
variable {p : Program} {l : Launch} {e : Env} {R : Room} {s : State} {m : MethodId} {args : Array Value} {below : List Frame} {meth : Method} {c : Code} {H : Heap} {locs : List Loc} {cells slots : Nat} {Q : State → Prop}
variable {cc : ByteArray} {nL pc : Nat} {ls : Array Slot} {rest : List Value} {D : va_G} {d : Nat → ClassId} {sd : Nat} {A : Nat → Prop} {own : String} {ws ws0 : va_W}
theorem g_enter {y : MethodName} {maxL : Nat} {ret : Option FieldType} {rm : Room} {vs : List Value} {Ro : (Nat → va_E → Prop) → Prop} {sz : Nat} {s₁ : State} (B : BodyLoose p l y (headSpec (ws_ y cc maxL ret) rm) cc maxL ret e s m args below meth c s₁) (hml : c.maxLocals = maxL) (hy : y.cls = own) (hv : GPc D d sd vs ws Ro sz args s) :
    CallFix p m c cc maxL s args lw_all own ∧ RX D d sd (va_A ws s.heap.size) s s.heap ∧ Ro (FzP D (va_A ws s.heap.size) s.heap) ∧ TH D (va_A ws s.heap.size) s.heap ws s.heap [] ∧ meth.sig.returnType = ret ∧ meth.locks = false ∧ args = vs.toArray ∧ sz = s.heap.size := by
  obtain ⟨h0, hsz, hP, hD, hX, hR⟩ := hv
  subst hsz
  have hts := atoms_spec (ws := ws_ y cc maxL ret) B.pre
  refine ⟨⟨B.exec, B.bytes, hml, ?_, fun w h => hts w (List.mem_cons_of_mem _ h)⟩, hX, hR, ⟨hP, hD.self, va_S.rf⟩, B.returns, B.notSynchronized, h0, rfl⟩
  rw [← hy]; exact findClass_of_methodNamed B.named
/-! reading: from the world (hT.atp p rfl) or what is frozen (h.at hT.2.2) -/
theorem r_get {cn : String} {T : u_T} {nf ci index b : Nat} {fs : List Value} {v : Value} (C : CallFix p m c cc nL s args lw_all own) (hV : va_K D db_cls (db_tys d) s) (hat : va_at D db_cls (b, .inr (ci, fs)) H) (hc : db_cls[ci]? = some (cn, T, nf)) (hin : ∀ w ∈ u_ws cn T nf, w ∈ lw_all) (k : Nat) (hk : k < nf) (hl : Cond.fieldLink own index (T k).1 (T k).2.1 (T k).2.2.1 ∈ lw_all) (hv : fs[k]? = some v) (hdg : decode cc pc = .ok (.getfield index, 3))
    (kk : W p l e R s m args below meth c H locs cells slots Q (F0 m (pc + 3) ls (v :: rest))) : W p l e R s m args below meth c H locs cells slots Q (F0 m pc ls (.ref b :: rest)) :=
  va_get (D := D) (ci := ci) (v := v) (C := cn) (T := T) (N := nf) C.1 C.2.1 C.2.2.2.2 hin C.2.2.2.1 hV (at1 hat) 0 rfl hc k hk (C.2.2.2.2 _ hl) (fun _ h => h) hv hdg kk
theorem r_getN {cn host : String} {T : u_T} {nf ci index b : Nat} {fs : List Value} {v : Value} (C : CallFix p m c cc nL s args lw_all own) (hV : va_K D db_cls (db_tys d) s) (hN : NW s) (hat : va_at D db_cls (b, .inr (ci, fs)) H) (hc : db_cls[ci]? = some (cn, T, nf)) (hin : ∀ w ∈ u_ws cn T nf, w ∈ lw_all) (k : Nat) (hk : k < nf) (hl : Cond.fieldLinkNest own index (T k).1 (T k).2.1 (T k).2.2.1 host ∈ lw_tbl) (hv : fs[k]? = some v) (hdg : decode cc pc = .ok (.getfield index, 3))
    (kk : W p l e R s m args below meth c H locs cells slots Q (F0 m (pc + 3) ls (v :: rest))) : W p l e R s m args below meth c H locs cells slots Q (F0 m pc ls (.ref b :: rest)) :=
  va_getN (D := D) (ci := ci) (v := v) (C := cn) (T := T) (N := nf) C.1 C.2.1 C.2.2.2.2 hin C.2.2.2.1 hV (at1 hat) 0 rfl hc k hk (va_Nw.use rfl (hN _ hl rfl)) (fun _ h => h) hv hdg kk
theorem r_ild {b n : Nat} {i : Int32} {f : Nat → Int32} (C : CallFix p m c cc nL s args lw_all own) (hV : va_K D db_cls (db_tys d) s) (hat : va_at D db_cls (b, .inl (d 0, n, .inl f)) H) (j : Nat) (hin : vp_in i n) (hj : i.toNatClampNeg = j) (hdg : decode cc pc = .ok (.iaload, 1))
    (kk : W p l e R s m args below meth c H locs cells slots Q (F0 m (pc + 1) ls (.int (f j) :: rest))) : W p l e R s m args below meth c H locs cells slots Q (F0 m pc ls (.int i :: .ref b :: rest)) := va_iald C.1 C.2.1 hV (at1 hat) 0 0 rfl rfl hin hdg (by rw [hj]; exact kk)
theorem r_bld {b n : Nat} {i : Int32} {f : Nat → Int32} (C : CallFix p m c cc nL s args lw_all own) (hV : va_K D db_cls (db_tys d) s) (hat : va_at D db_cls (b, .inl (d 1, n, .inl f)) H) (j : Nat) (hin : vp_in i n) (hj : i.toNatClampNeg = j) (hdg : decode cc pc = .ok (.baload, 1))
    (kk : W p l e R s m args below meth c H locs cells slots Q (F0 m (pc + 1) ls (.int (f j) :: rest))) : W p l e R s m args below meth c H locs cells slots Q (F0 m pc ls (.int i :: .ref b :: rest)) := va_bald C.1 C.2.1 hV (at1 hat) 0 1 rfl rfl hin hdg (by rw [hj]; exact kk)
theorem r_lld {b n : Nat} {i : Int32} {f : Nat → Int64} (C : CallFix p m c cc nL s args lw_all own) (hV : va_K D db_cls (db_tys d) s) (hat : va_at D db_cls (b, .inl (d 2, n, .inr (.inl f))) H) (j : Nat) (hin : vp_in i n) (hj : i.toNatClampNeg = j) (hdg : decode cc pc = .ok (.laload, 1))
    (kk : W p l e R s m args below meth c H locs cells slots Q (F0 m (pc + 1) ls (.long (f j) :: rest))) : W p l e R s m args below meth c H locs cells slots Q (F0 m pc ls (.int i :: .ref b :: rest)) := va_lald C.1 C.2.1 hV (at1 hat) 0 2 rfl rfl hin hdg (by rw [hj]; exact kk)
theorem r_qld {b n t0 : Nat} {i : Int32} {cA : ClassId} {E : String} {f : Nat → Option Nat} {x : Nat} (C : CallFix p m c cc nL s args lw_all own) (hV : va_K D db_cls (db_tys d) s) (hat : va_at D db_cls (b, .inl (cA, n, .inr (.inr (.inr (.inr f))))) H) (ht : (db_tys d)[t0]? = some (cA, .object E)) (hin : vp_in i n) (hj : f i.toNatClampNeg = some x) (hdg : decode cc pc = .ok (.aaload, 1))
    (kk : W p l e R s m args below meth c H locs cells slots Q (F0 m (pc + 1) ls (.ref x :: rest))) : W p l e R s m args below meth c H locs cells slots Q (F0 m pc ls (.int i :: .ref b :: rest)) := va_aldq C.1 C.2.1 hV (at1 hat) 0 t0 rfl ht hin hdg (by rw [hj]; exact kk)
theorem r_alen {b n t0 : Nat} {cA : ClassId} {ty : FieldType} {x : (Nat → Int32) ⊕ (Nat → Int64) ⊕ (Nat → UInt32) ⊕ (Nat → UInt64) ⊕ (Nat → Option Nat)} {v : Int32} (C : CallFix p m c cc nL s args lw_all own) (hV : va_K D db_cls (db_tys d) s) (hat : va_at D db_cls (b, .inl (cA, n, x)) H) (ht : (db_tys d)[t0]? = some (cA, ty)) (hv : Int32.ofNat n = v) (hdg : decode cc pc = .ok (.arraylength, 1))
    (kk : W p l e R s m args below meth c H locs cells slots Q (F0 m (pc + 1) ls (.int v :: rest))) : W p l e R s m args below meth c H locs cells slots Q (F0 m pc ls (.ref b :: rest)) := va_alen C.1 C.2.1 hV (at1 hat) 0 t0 rfl ht hv hdg kk
/-! writing, by the cell's place in the world -/
theorem w_put {ws1 : va_W} {cn : String} {T : u_T} {ty0 : Nat → FieldType} {nf ci index b : Nat} {fs : List Value} {v : Value} {ty : FieldType} (C : CallFix p m c cc nL s args lw_all own) (hV : va_K D db_cls (db_tys d) s) (hT : TH D A s.heap ws H locs) (p0 : Nat) (ha : ws[p0]? = some (b, .inr (ci, fs))) (hc : db_cls[ci]? = some (cn, T, nf)) (hin : ∀ w ∈ u_ws cn T nf, w ∈ lw_all) (hty : ∀ k, k < nf → parseFieldDescriptor (T k).2.2.1 = some (ty0 k)) (hnm : ∀ a, a < nf → ∀ b, b < nf → a ≠ b → (T a).2.1 ≠ (T b).2.1) (k : Nat) (hk : k < nf) (hl : Cond.fieldLink own index (T k).1 (T k).2.1 (T k).2.2.1 ∈ lw_all) (hset : Upd ws b (.inr (ci, fs.set k v)) ws1) (hfin : (T k).2.2.2 = false) (ht : ty0 k = ty) (hn : narrow ty v = v) (hfit : fits ty v = true) (hlen : k < fs.length) (hdg : decode cc pc = .ok (.putfield index, 3))
    (kk : ∀ (H1 : Heap) (locs1 : List Loc), TH D A s.heap ws1 H1 locs1 → W p l e R s m args below meth c H1 locs1 cells slots Q (F0 m (pc + 3) ls rest)) : W p l e R s m args below meth c H locs cells slots Q (F0 m pc ls (v :: .ref b :: rest)) :=
  va_put (D := D) (ci := ci) (v := v) (ty := ty) (C := cn) (T := T) (N := nf) C.1 C.2.1 C.2.2.2.2 hin ty0 hty hnm C.2.2.2.1 hV hT.1 hT.2.1 hT.2.2 p0 ha hc k hk (C.2.2.2.2 _ hl) (fun _ h => h) hfin (by rw [hty k hk, ht]) hn hfit hlen hdg (fun H1 locs1 hP hD hS => kk H1 locs1 (TH.upd ha ⟨hP, hD, hS⟩ hset))
theorem w_putN {ws1 : va_W} {cn host : String} {T : u_T} {ty0 : Nat → FieldType} {nf ci index b : Nat} {fs : List Value} {v : Value} {ty : FieldType} (C : CallFix p m c cc nL s args lw_all own) (hV : va_K D db_cls (db_tys d) s) (hN : NW s) (hT : TH D A s.heap ws H locs) (p0 : Nat) (ha : ws[p0]? = some (b, .inr (ci, fs))) (hc : db_cls[ci]? = some (cn, T, nf)) (hin : ∀ w ∈ u_ws cn T nf, w ∈ lw_all) (hty : ∀ k, k < nf → parseFieldDescriptor (T k).2.2.1 = some (ty0 k)) (hnm : ∀ a, a < nf → ∀ b, b < nf → a ≠ b → (T a).2.1 ≠ (T b).2.1) (k : Nat) (hk : k < nf) (hl : Cond.fieldLinkNest own index (T k).1 (T k).2.1 (T k).2.2.1 host ∈ lw_tbl) (hset : Upd ws b (.inr (ci, fs.set k v)) ws1) (hfin : (T k).2.2.2 = false) (ht : ty0 k = ty) (hn : narrow ty v = v) (hfit : fits ty v = true) (hlen : k < fs.length) (hdg : decode cc pc = .ok (.putfield index, 3))
    (kk : ∀ (H1 : Heap) (locs1 : List Loc), TH D A s.heap ws1 H1 locs1 → W p l e R s m args below meth c H1 locs1 cells slots Q (F0 m (pc + 3) ls rest)) : W p l e R s m args below meth c H locs cells slots Q (F0 m pc ls (v :: .ref b :: rest)) :=
  va_putN (D := D) (ci := ci) (v := v) (ty := ty) (C := cn) (T := T) (N := nf) C.1 C.2.1 C.2.2.2.2 hin ty0 hty hnm C.2.2.2.1 hV hT.1 hT.2.1 hT.2.2 p0 ha hc k hk (va_Nw.use rfl (hN _ hl rfl)) (fun _ h => h) hfin (by rw [hty k hk, ht]) hn hfit hlen hdg (fun H1 locs1 hP hD hS => kk H1 locs1 (TH.upd ha ⟨hP, hD, hS⟩ hset))
theorem w_ist {ws1 : va_W} {b n : Nat} {i x : Int32} {f : Nat → Int32} (C : CallFix p m c cc nL s args lw_all own) (hV : va_K D db_cls (db_tys d) s) (hT : TH D A s.heap ws H locs) (p0 j : Nat) (ha : ws[p0]? = some (b, .inl (d 0, n, .inl f))) (hin : vp_in i n) (hj : i.toNatClampNeg = j) (hset : Upd ws b (.inl (d 0, n, .inl (upd f j x))) ws1) (hdg : decode cc pc = .ok (.iastore, 1))
    (kk : ∀ (H1 : Heap) (locs1 : List Loc), TH D A s.heap ws1 H1 locs1 → W p l e R s m args below meth c H1 locs1 cells slots Q (F0 m (pc + 1) ls rest)) : W p l e R s m args below meth c H locs cells slots Q (F0 m pc ls (.int x :: .int i :: .ref b :: rest)) := by
  subst hj
  exact va_iast C.1 C.2.1 hV hT.1 hT.2.1 hT.2.2 p0 0 ha rfl hin hdg (fun H1 locs1 hP hD hS => kk H1 locs1 (TH.upd ha ⟨hP, hD, hS⟩ hset))
theorem w_bst {ws1 : va_W} {b n : Nat} {i x : Int32} {f : Nat → Int32} (C : CallFix p m c cc nL s args lw_all own) (hV : va_K D db_cls (db_tys d) s) (hT : TH D A s.heap ws H locs) (p0 j : Nat) (ha : ws[p0]? = some (b, .inl (d 1, n, .inl f))) (hin : vp_in i n) (hj : i.toNatClampNeg = j) (hset : Upd ws b (.inl (d 1, n, .inl (upd f j (vp_nar .byte x)))) ws1) (hdg : decode cc pc = .ok (.bastore, 1))
    (kk : ∀ (H1 : Heap) (locs1 : List Loc), TH D A s.heap ws1 H1 locs1 → W p l e R s m args below meth c H1 locs1 cells slots Q (F0 m (pc + 1) ls rest)) : W p l e R s m args below meth c H locs cells slots Q (F0 m pc ls (.int x :: .int i :: .ref b :: rest)) := by
  subst hj
  exact va_bast C.1 C.2.1 hV hT.1 hT.2.1 hT.2.2 p0 1 ha rfl hin hdg (fun H1 locs1 hP hD hS => kk H1 locs1 (TH.upd ha ⟨hP, hD, hS⟩ hset))
theorem w_lst {ws1 : va_W} {b n : Nat} {i : Int32} {x : Int64} {f : Nat → Int64} (C : CallFix p m c cc nL s args lw_all own) (hV : va_K D db_cls (db_tys d) s) (hT : TH D A s.heap ws H locs) (p0 j : Nat) (ha : ws[p0]? = some (b, .inl (d 2, n, .inr (.inl f)))) (hin : vp_in i n) (hj : i.toNatClampNeg = j) (hset : Upd ws b (.inl (d 2, n, .inr (.inl (vp_updL f j x)))) ws1) (hdg : decode cc pc = .ok (.lastore, 1))
    (kk : ∀ (H1 : Heap) (locs1 : List Loc), TH D A s.heap ws1 H1 locs1 → W p l e R s m args below meth c H1 locs1 cells slots Q (F0 m (pc + 1) ls rest)) : W p l e R s m args below meth c H locs cells slots Q (F0 m pc ls (.long x :: .int i :: .ref b :: rest)) := by
  subst hj
  exact va_last C.1 C.2.1 hV hT.1 hT.2.1 hT.2.2 p0 2 ha rfl hin hdg (fun H1 locs1 hP hD hS => kk H1 locs1 (TH.upd ha ⟨hP, hD, hS⟩ hset))
/-! calls -/
section GC
variable {y : MethodName} {bytes : ByteArray} {maxL idx n : Nat} {rt : FieldType} {rm : Room} {vs st0 : List Value} {wc wc' ws' : va_W} {Ro : (Nat → va_E → Prop) → Prop}
theorem g_pre (hX : RX D d sd A s s.heap) (hT : TH D A s.heap ws H locs) (hA : ∀ q, s.heap.size ≤ q → A q) (hC : Cut ws wc wc' ws') (hRo : Ro (FzP D (va_A wc H.size) H)) :
    FrameBlind (GPc D d sd vs wc Ro H.size) ∧ (∀ U : State, U.heap = H → s.WarmedH U.vm → GPc D d sd vs wc Ro H.size vs.toArray U) ∧ ∀ q, va_A wc H.size q → A q := by
  have hAs : ∀ q, va_A wc H.size q → A q := by
    intro q hq
    rw [va_A_map] at hq
    rcases hq with h | h
    · obtain ⟨x, hx, rfl⟩ := List.mem_map.mp h
      obtain ⟨k, hk⟩ := List.getElem?_of_mem (hC.1 x hx)
      exact hT.2.1.2 k x hk
    · exact hA q (Nat.le_trans hT.2.2.1 h)
  refine ⟨fun a' U g mk q => ?_, fun U hU hW => ⟨rfl, by rw [hU], ?_, ?_, ?_, ?_⟩, hAs⟩
  · obtain ⟨q0, q1, qP, qD, qX, qR⟩ := q
    exact ⟨q0, q1, qP, qD, RX.same (u := U) (U := U.calling g mk a') rfl qX, qR⟩
  · rw [hU]; exact P_of (fun q hq => hT.at (hC.1 q hq))
  · exact D_of hC.2.1 (fun _ _ => trivial)
  · rw [hU]; exact RX.warm hW ((hX.kept (fun a h1 h2 => hT.2.2.2.1 a h1 h2)).narrow hAs)
  · rw [hU]; exact hRo
theorem g_after {T2 : State} {H1 : Heap} {locs1 : List Loc} (hT : TH D A s.heap ws H locs) (hC : Cut ws wc wc' ws') (ht : T2.heap = H1) (hB : va_P D db_cls wc' T2.heap) (hk1 : ∀ q : Nat, q < H.size → ¬ va_A wc H.size q → H1[q]? = H[q]?) (hS : va_S A s.heap H1 locs1) : TH D A s.heap ws' H1 locs1 := by
  subst ht
  refine ⟨P_of (fun q hq => ?_), va_D_fst hC.2.2.2.symm hT.2.1, hS⟩
  rcases hC.2.2.1 q hq with h | ⟨h1, h2⟩
  · obtain ⟨k, hk⟩ := List.getElem?_of_mem h
    exact hB k q hk
  · have h3 := hT.at h1
    refine h3.kept (hk1 q.1 h3.lt ?_)
    rw [va_A_map]
    rintro (h | h)
    · exact h2 h
    · exact absurd h3.lt (Nat.not_lt.mpr h)
theorem g_calli {r : Int32} {b : Nat} {C0 : String} (C : CallFix p m c cc nL s args lw_all own) (hX : RX D d sd A s s.heap) (hT : TH D A s.heap ws H locs) (hA : ∀ q, s.heap.size ≤ q → A q) (hC : Cut ws wc wc' ws') (hRo : Ro (FzP D (va_A wc H.size) H)) (hM : ∀ sz, Met l y (ws_ y bytes maxL (some rt)) rm (GPc D d sd (.ref b :: vs) wc Ro sz) (GQi D r wc' wc sz) 0 0 (va_A wc sz)) (cw : CallW R s args own C0 idx y bytes maxL (some rt) (ws_ y bytes maxL (some rt)) rm 0 0 n) (hrecv : ∃ cell : Cell, H[b]? = some cell ∧ cell.vm.isStatics = false ∧ s.vm.findClass C0 = some cell.cls) (hn : vs.length = n) (hsize : ls.size = nL) (hst : st0 = vs.reverse ++ .ref b :: rest) (hroom : (rest.map fun v => v.category).sum ≤ 8) (hdg : decode cc pc = .ok (.invokevirtual idx, 3)) (hf : cells + 0 ≤ R.cells ∧ slots + 0 ≤ R.slots)
    (k : ∀ (H1 : Heap) (locs1 : List Loc), TH D A s.heap ws' H1 locs1 → W p l e R s m args below meth c H1 locs1 cells slots Q (F0 m (pc + 3) ls (.int r :: rest))) : W p l e R s m args below meth c H locs cells slots Q (F0 m pc ls st0) := by
  obtain ⟨h1, h2, h3⟩ := g_pre (vs := .ref b :: vs) hX hT hA hC hRo
  refine va_calli (va_runV (As := vs) (rest := rest) C (hM H.size) cw ⟨h1, hrecv, h2⟩ rfl hn hsize hst (lv_room hroom) hdg hf) hT.2.2 (fun q _ h => h3 q h) h3 (fun r1 u T2 H1 locs1 ht hvm hw1 hB hz1 hk1 hS => ?_)
  subst hw1
  exact k H1 locs1 (g_after hT hC ht hB hk1 hS)
theorem g_callv {b : Nat} {C0 : String} (C : CallFix p m c cc nL s args lw_all own) (hX : RX D d sd A s s.heap) (hT : TH D A s.heap ws H locs) (hA : ∀ q, s.heap.size ≤ q → A q) (hC : Cut ws wc wc' ws') (hRo : Ro (FzP D (va_A wc H.size) H)) (hM : ∀ sz, Met l y (ws_ y bytes maxL none) rm (GPc D d sd (.ref b :: vs) wc Ro sz) (GQv D wc' wc sz) 0 0 (va_A wc sz)) (cw : CallW R s args own C0 idx y bytes maxL none (ws_ y bytes maxL none) rm 0 0 n) (hrecv : ∃ cell : Cell, H[b]? = some cell ∧ cell.vm.isStatics = false ∧ s.vm.findClass C0 = some cell.cls) (hn : vs.length = n) (hsize : ls.size = nL) (hst : st0 = vs.reverse ++ .ref b :: rest) (hroom : (rest.map fun v => v.category).sum ≤ 8) (hdg : decode cc pc = .ok (.invokevirtual idx, 3)) (hf : cells + 0 ≤ R.cells ∧ slots + 0 ≤ R.slots)
    (k : ∀ (H1 : Heap) (locs1 : List Loc), TH D A s.heap ws' H1 locs1 → W p l e R s m args below meth c H1 locs1 cells slots Q (F0 m (pc + 3) ls rest)) : W p l e R s m args below meth c H locs cells slots Q (F0 m pc ls st0) := by
  obtain ⟨h1, h2, h3⟩ := g_pre (vs := .ref b :: vs) hX hT hA hC hRo
  refine va_callv (va_runV (As := vs) (rest := rest) C (hM H.size) cw ⟨h1, hrecv, h2⟩ rfl hn hsize hst (lv_room hroom) hdg hf) hT.2.2 (fun q _ h => h3 q h) h3 (fun u T2 H1 locs1 ht hvm hw1 hB hz1 hk1 hS => ?_)
  exact k H1 locs1 (g_after hT hC ht hB hk1 hS)
theorem g_callq {r : Option Nat} {b : Nat} {C0 : String} (C : CallFix p m c cc nL s args lw_all own) (hX : RX D d sd A s s.heap) (hT : TH D A s.heap ws H locs) (hA : ∀ q, s.heap.size ≤ q → A q) (hC : Cut ws wc wc' ws') (hRo : Ro (FzP D (va_A wc H.size) H)) (hM : ∀ sz, Met l y (ws_ y bytes maxL (some rt)) rm (GPc D d sd (.ref b :: vs) wc Ro sz) (GQq D r wc' wc sz) 0 0 (va_A wc sz)) (cw : CallW R s args own C0 idx y bytes maxL (some rt) (ws_ y bytes maxL (some rt)) rm 0 0 n) (hrecv : ∃ cell : Cell, H[b]? = some cell ∧ cell.vm.isStatics = false ∧ s.vm.findClass C0 = some cell.cls) (hn : vs.length = n) (hsize : ls.size = nL) (hst : st0 = vs.reverse ++ .ref b :: rest) (hroom : (rest.map fun v => v.category).sum ≤ 8) (hdg : decode cc pc = .ok (.invokevirtual idx, 3)) (hf : cells + 0 ≤ R.cells ∧ slots + 0 ≤ R.slots)
    (k : ∀ (H1 : Heap) (locs1 : List Loc), TH D A s.heap ws' H1 locs1 → W p l e R s m args below meth c H1 locs1 cells slots Q (F0 m (pc + 3) ls (va_rf r :: rest))) : W p l e R s m args below meth c H locs cells slots Q (F0 m pc ls st0) := by
  obtain ⟨h1, h2, h3⟩ := g_pre (vs := .ref b :: vs) hX hT hA hC hRo
  refine va_callq (va_runV (As := vs) (rest := rest) C (hM H.size) cw ⟨h1, hrecv, h2⟩ rfl hn hsize hst (lv_room hroom) hdg hf) hT.2.2 (fun q _ h => h3 q h) h3 (fun r1 u T2 H1 locs1 ht hvm hw1 hB hz1 hk1 hS => ?_)
  subst hw1
  exact k H1 locs1 (g_after hT hC ht hB hk1 hS)
/-- a static method over a world -/
theorem g_scalli {r : Int32} (C : CallFix p m c cc nL s args lw_all own) (hX : RX D d sd A s s.heap) (hT : TH D A s.heap ws H locs) (hA : ∀ q, s.heap.size ≤ q → A q) (hC : Cut ws wc wc' ws') (hRo : Ro (FzP D (va_A wc H.size) H)) (hM : ∀ sz, Met l y (ws_ y bytes maxL (some rt)) rm (GPc D d sd vs wc Ro sz) (GQi D r wc' wc sz) 0 0 (va_A wc sz)) (cw : CallB R s args own idx y bytes maxL (some rt) (ws_ y bytes maxL (some rt)) rm 0 0 n ∧ (Cond.static y).before args s = true) (hn : vs.length = n) (hsize : ls.size = nL) (hst : st0 = vs.reverse ++ rest) (hroom : (rest.map fun v => v.category).sum ≤ 8) (hdg : decode cc pc = .ok (.invokestatic idx, 3)) (hf : cells + 0 ≤ R.cells ∧ slots + 0 ≤ R.slots)
    (k : ∀ (H1 : Heap) (locs1 : List Loc), TH D A s.heap ws' H1 locs1 → W p l e R s m args below meth c H1 locs1 cells slots Q (F0 m (pc + 3) ls (.int r :: rest))) : W p l e R s m args below meth c H locs cells slots Q (F0 m pc ls st0) := by
  obtain ⟨h1, h2, h3⟩ := g_pre (vs := vs) hX hT hA hC hRo
  refine va_calli (va_runS (As := vs) (rest := rest) C (hM H.size) cw ⟨h1, h2⟩ rfl hn hsize hst (lv_room hroom) hdg hf) hT.2.2 (fun q _ h => h3 q h) h3 (fun r1 u T2 H1 locs1 ht hvm hw1 hB hz1 hk1 hS => ?_)
  subst hw1
  exact k H1 locs1 (g_after hT hC ht hB hk1 hS)
theorem g_scallv (C : CallFix p m c cc nL s args lw_all own) (hX : RX D d sd A s s.heap) (hT : TH D A s.heap ws H locs) (hA : ∀ q, s.heap.size ≤ q → A q) (hC : Cut ws wc wc' ws') (hRo : Ro (FzP D (va_A wc H.size) H)) (hM : ∀ sz, Met l y (ws_ y bytes maxL none) rm (GPc D d sd vs wc Ro sz) (GQv D wc' wc sz) 0 0 (va_A wc sz)) (cw : CallB R s args own idx y bytes maxL none (ws_ y bytes maxL none) rm 0 0 n ∧ (Cond.static y).before args s = true) (hn : vs.length = n) (hsize : ls.size = nL) (hst : st0 = vs.reverse ++ rest) (hroom : (rest.map fun v => v.category).sum ≤ 8) (hdg : decode cc pc = .ok (.invokestatic idx, 3)) (hf : cells + 0 ≤ R.cells ∧ slots + 0 ≤ R.slots)
    (k : ∀ (H1 : Heap) (locs1 : List Loc), TH D A s.heap ws' H1 locs1 → W p l e R s m args below meth c H1 locs1 cells slots Q (F0 m (pc + 3) ls rest)) : W p l e R s m args below meth c H locs cells slots Q (F0 m pc ls st0) := by
  obtain ⟨h1, h2, h3⟩ := g_pre (vs := vs) hX hT hA hC hRo
  refine va_callv (va_runS (As := vs) (rest := rest) C (hM H.size) cw ⟨h1, h2⟩ rfl hn hsize hst (lv_room hroom) hdg hf) hT.2.2 (fun q _ h => h3 q h) h3 (fun u T2 H1 locs1 ht hvm hw1 hB hz1 hk1 hS => ?_)
  exact k H1 locs1 (g_after hT hC ht hB hk1 hS)
/-- a static method of a nest mate, of numbers alone -/
theorem n_calli {host : String} {r : Int32} (C : CallFix p m c cc nL s args lw_all own) (hA : ∀ q, s.heap.size ≤ q → A q) (hT : TH D A s.heap ws H locs) (hM : ∀ sz, Met l y (ws_ y bytes maxL (some rt)) rm (PcS vs sz) (QiS r sz) 0 0 (fun q => sz ≤ q)) (cw : va_CN R s args own idx y host bytes maxL (some rt) (ws_ y bytes maxL (some rt)) rm 0 0 n ∧ (Cond.static y).before args s = true ∧ True) (hn : vs.length = n) (hsize : ls.size = nL) (hst : st0 = vs.reverse ++ rest) (hroom : (rest.map fun v => v.category).sum ≤ 8) (hdg : decode cc pc = .ok (.invokestatic idx, 3)) (hf : cells + 0 ≤ R.cells ∧ slots + 0 ≤ R.slots)
    (k : ∀ (H1 : Heap) (locs1 : List Loc), TH D A s.heap ws H1 locs1 → W p l e R s m args below meth c H1 locs1 cells slots Q (F0 m (pc + 3) ls (.int r :: rest))) : W p l e R s m args below meth c H locs cells slots Q (F0 m pc ls st0) := by
  refine va_calli (va_runSN (As := vs) (rest := rest) C (hM H.size) cw ⟨fun a' U g mk q => q, fun U hU hW => ⟨rfl, by subst hU; rfl⟩⟩ rfl hn hsize hst (lv_room hroom) hdg hf) hT.2.2 (fun q _ h => hA q (Nat.le_trans hT.2.2.1 h)) (fun q h => hA q (Nat.le_trans hT.2.2.1 h)) (fun r1 u T2 H1 locs1 ht hvm hw1 hB hz1 hk1 hS => ?_)
  subst hw1
  exact k H1 locs1 (s_after hT hk1 hS)
end GC
/-! ends -/
theorem g_iret {v : Int32} (C : CallFix p m c cc nL s args lw_all own) (hT : TH D (va_A ws0 s.heap.size) s.heap ws H locs) (hr : meth.sig.returnType = some .int) (hlocks : meth.locks = false) (hdg : decode cc pc = .ok (.ireturn, 1)) : W p l e R s m args below meth c H locs 0 0 (MQ below (GQi D v ws ws0 s.heap.size) args s 0 0 (va_A ws0 s.heap.size)) (F0 m pc ls [.int v]) :=
  W.iret C.1 C.2.1 hr (fun t0 ht hW => ⟨⟨v, (), rfl, rfl, by subst ht; exact hT.1⟩, hT.2.2.F ht⟩) hT.2.2.2.2 hdg hlocks
theorem g_zret {v : Int32} (C : CallFix p m c cc nL s args lw_all own) (hT : TH D (va_A ws0 s.heap.size) s.heap ws H locs) (hz : v = 0 ∨ v = 1) (hr : meth.sig.returnType = some .boolean) (hlocks : meth.locks = false) (hdg : decode cc pc = .ok (.ireturn, 1)) : W p l e R s m args below meth c H locs 0 0 (MQ below (GQi D v ws ws0 s.heap.size) args s 0 0 (va_A ws0 s.heap.size)) (F0 m pc ls [.int v]) :=
  W.zret C.1 C.2.1 hr (z01 hz) (fun t0 ht hW => ⟨⟨v, (), rfl, rfl, by subst ht; exact hT.1⟩, hT.2.2.F ht⟩) hT.2.2.2.2 hdg hlocks
theorem g_lret {v : Int64} (C : CallFix p m c cc nL s args lw_all own) (hT : TH D (va_A ws0 s.heap.size) s.heap ws H locs) (hr : meth.sig.returnType = some .long) (hlocks : meth.locks = false) (hdg : decode cc pc = .ok (.lreturn, 1)) : W p l e R s m args below meth c H locs 0 0 (MQ below (GQl D v ws ws0 s.heap.size) args s 0 0 (va_A ws0 s.heap.size)) (F0 m pc ls [.long v]) :=
  W.lret C.1 C.2.1 hr (fun t0 ht hW => ⟨⟨v, (), rfl, rfl, by subst ht; exact hT.1⟩, hT.2.2.F ht⟩) hT.2.2.2.2 hdg hlocks
theorem g_vret (C : CallFix p m c cc nL s args lw_all own) (hT : TH D (va_A ws0 s.heap.size) s.heap ws H locs) (hr : meth.sig.returnType = none) (hlocks : meth.locks = false) (hdg : decode cc pc = .ok (.return_, 1)) : W p l e R s m args below meth c H locs 0 0 (MQ below (GQv D ws ws0 s.heap.size) args s 0 0 (va_A ws0 s.heap.size)) (F0 m pc ls []) :=
  W.vret C.1 C.2.1 hr (fun t0 ht hW => ⟨⟨(), rfl, trivial, by subst ht; exact hT.1⟩, hT.2.2.F ht⟩) hT.2.2.2.2 hdg hlocks
theorem g_aret {r : Option Nat} {ty : FieldType} (C : CallFix p m c cc nL s args lw_all own) (hT : TH D (va_A ws0 s.heap.size) s.heap ws H locs) (hr : meth.sig.returnType = some ty) (hn : (∃ n, ty = .object n) ∨ ∃ t, ty = .array t) (hlocks : meth.locks = false) (hdg : decode cc pc = .ok (.areturn, 1)) : W p l e R s m args below meth c H locs 0 0 (MQ below (GQq D r ws ws0 s.heap.size) args s 0 0 (va_A ws0 s.heap.size)) (F0 m pc ls [va_rf r]) :=
  W.aret C.1 C.2.1 hr hn (va_rf_or r) (fun t0 ht hW => ⟨⟨r, (), rfl, rfl, by subst ht; exact hT.1⟩, hT.2.2.F ht⟩) hT.2.2.2.2 hdg hlocks
end GW
