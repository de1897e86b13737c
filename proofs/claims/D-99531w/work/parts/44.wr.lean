set_option maxRecDepth 100000
/-! ===== Wrong: made with no traces kept (follows vx_ctorMade0 and vx_make0 of the kit's EXCEPTIONS, with a field of its own and by a nest mate) ===== -/
def wr_X : String := "DutyBeats$Wrong"
def wr_t : List Cond := [.selects wr_X Bundle.tFill0 Bundle.tFill0, .selects wr_X Bundle.tFill Bundle.tFill,
   .lays wr_X Bundle.tN "cause" "Ljava/lang/Throwable;", .lays wr_X Bundle.tN "stackTrace" Bundle.steD, .lays wr_X Bundle.tN "suppressedExceptions" Bundle.listD, .lays wr_X Bundle.tN "detailMessage" "Ljava/lang/String;",
   .isRef (.static Bundle.tN "UNASSIGNED_STACK" Bundle.steD), .isRef (.static Bundle.tN "SUPPRESSED_SENTINEL" Bundle.listD),
   .fieldLink Bundle.tN 198 Bundle.tN "backtrace" "Ljava/lang/Object;", .lays Bundle.tN Bundle.tN "backtrace" "Ljava/lang/Object;", .lays wr_X Bundle.tN "backtrace" "Ljava/lang/Object;", .lays wr_X wr_X "number" "I", .instantiable wr_X 7]
def wr_all : List Cond := Bundle.throwableAtoms ++ Bundle.chain0Atoms wr_X ["java/lang/Exception"] ++ wr_t
def wr_at : List Cond := wr_all.filter vx_no
theorem wr_ng : ∀ w ∈ wr_at, goodWord w = true ∨ w = .declares (Bundle.init0 "java/lang/Exception") ∨ w = .declares (Bundle.init0 Bundle.tN) := by decide +kernel
theorem wr_g : ∀ w ∈ wr_at.filter goodWord, w ∈ lw_all := lw_in _ [126, 286, 295, 297, 300, 302, 287, 288, 160, 161, 289, 294, 298, 312, 276, 313, 278, 314, 280, 290, 292, 282, 304, 305, 306, 307, 307, 308, 309, 287, 273, 274, 275, 277, 279, 281, 285, 284, 283, 315, 267] (by decide +kernel) (by decide +kernel)
theorem wr_ot : ∀ w ∈ wr_at, vx_ot w = true := by decide +kernel
section WRC
variable {p : Program} {l : Launch} {e : Env} {R : Room} {s : State} {m₀ : MethodId} {args : Array Value} {below : List Frame} {meth : Method} {c : Code} {W : State} {locs : List Loc} {cells slots : Nat}
set_option maxHeartbeats 2000000 in
theorem wr_ctor (X : Stand p l e R s m₀ args below meth c W locs cells slots) (hexec : p.tables.exec = Jvm.exec) (htr : e.platform.stackTraces = false) {own host : String} {ic : Nat}
    (hown : s.vm.findClass own = some m₀.cls) (hlk : (Cond.methodLinkNest own ic (Bundle.init0 wr_X) host).before args s = true)
    (h : ∀ a ∈ wr_all, a.before args s = true)
    (hlocs : ∀ x ∈ locs, ∀ cell, s.heap[x.base]? = some cell → cell.vm.isStatics = false)
    {a : Addr} {cX : ClassId} {kX : Class} (hfoundX : s.vm.findClass wr_X = some cX) (hkX : s.vm.classes[cX]? = some kX) (hcell : W.heap[a]? = some (freshCell cX kX)) (hnew : s.heap.size ≤ a)
    {g : JFrame} (hg : g.method = m₀) (hsize : g.locals.size = c.maxLocals) {rest : List Value} (hstack : g.stack = .ref a :: .ref a :: rest)
    (hd6 : decode c.code g.pc = .ok (.invokespecial ic, 3))
    (hRframes : 4 < R.frames) (hRlocals : 2 * g.monitorRoom + ((Value.ref a :: rest).map fun v => v.category).sum + 67 ≤ R.locals)
    {cf fi : Nat} {kf : Class} {fd : Field} (hnum : s.fieldFound? wr_X "number" "I" = some (cf, kf, fi, fd)) :
    ∃ (V : State) (ce : Cell) (L : List Loc), Stand p l e R s m₀ args below meth c (V.setCell a ce) (locs ++ L) cells slots ∧ (∀ y ∈ L, y.base = a) ∧ a < V.heap.size ∧ ce.cls = cX ∧ ce.vm = .none ∧ ce.slots.size = kX.instanceTypes.size ∧ ce.slots[fd.slot]? = some (.int 0) ∧
      ∀ target, Steps p.tables e below ((V.setCell a ce).setTop { g with stack := .ref a :: rest, pc := g.pc + 3 }) target → Steps p.tables e below (W.setTop g) target := by
  have howns : e.platform.frameOwnsMonitors = true := by rw [X.admits.platform]
  have hfin : e.platform.finalization = false := by rw [X.admits.platform]
  have hpl : e.platform.magicAccessors = ({} : Platform).magicAccessors := by rw [X.admits.platform]
  have ht0 : ∀ x, x ∈ wr_t → x ∈ wr_all := fun x hx => List.mem_append_right _ hx
  have a' : ∀ x, x ∈ wr_t → x.holds args s none s [] = true := fun x hx => h x (ht0 x hx)
  obtain ⟨T, Z, L, LZ, Y⟩ := ThrowableC.of_atoms (args := args) howns hfin hpl (fun x hx => h x (List.mem_append_left _ (List.mem_append_left _ hx)))
  have hch : ∀ x ∈ Bundle.chain0Atoms wr_X ["java/lang/Exception"], x.before args s = true := fun x hx => h x (List.mem_append_left _ (List.mem_append_right _ hx))
  obtain ⟨P1, Ps, hlen, L1, hL, hP1m, hlink1, hlink⟩ := Bundle.chain0 (args := args) hpl Y.init0 ["java/lang/Exception"] wr_X (by decide) (by decide) hch
  have hfound : s.vm.findClass wr_X = some P1.m.cls := findClass_of_methodNamed hP1m
  cases Option.some.inj (hfoundX.symm.trans hfound)
  obtain ⟨c1, kX', hc1, hk, hord, -, -, hn6⟩ := Cond.instantiable_spec (a' (.instantiable wr_X 7) (by simp [wr_t]))
  cases Option.some.inj (hc1.symm.trans hfound)
  cases Option.some.inj (hkX.symm.trans hk)
  have hsel0 : selectMethod e.platform s.vm P1.m.cls T.fill0 = .method T.fill0 := by
    obtain ⟨c2, r2, m2, q1, q2, q3, q4, -⟩ := Cond.selects_spec (a' (.selects wr_X Bundle.tFill0 Bundle.tFill0) (by simp [wr_t]))
    cases Option.some.inj (q1.symm.trans hfound)
    cases Option.some.inj (q2.symm.trans (State.methodFound?_of_named Y.fill0 (by decide)))
    cases Option.some.inj (q3.symm.trans Y.fill0)
    rw [Launch.admits_selectMethod X.admits]; exact q4
  have hselF : selectMethod e.platform s.vm P1.m.cls T.fill = .method T.fill := by
    obtain ⟨c2, r2, m2, q1, q2, q3, q4, -⟩ := Cond.selects_spec (a' (.selects wr_X Bundle.tFill Bundle.tFill) (by simp [wr_t]))
    cases Option.some.inj (q1.symm.trans hfound)
    cases Option.some.inj (q2.symm.trans (State.methodFound?_of_named Y.fill (by decide)))
    cases Option.some.inj (q3.symm.trans Y.fill)
    rw [Launch.admits_selectMethod X.admits]; exact q4
  obtain ⟨cellS0, hcS0, hiss⟩ := Y.statics
  obtain ⟨u0, hu0⟩ := Cond.staticRefV Y.unassigned L.unassignedStatic L.statics hcS0 hiss (a' (.isRef (.static Bundle.tN "UNASSIGNED_STACK" Bundle.steD)) (by simp [wr_t]))
  obtain ⟨sen, hsen⟩ := Cond.staticRefV Y.sentinel L.sentinelStatic L.statics hcS0 hiss (a' (.isRef (.static Bundle.tN "SUPPRESSED_SENTINEL" Bundle.listD)) (by simp [wr_t]))
  obtain ⟨ci198, i198, fB, hk198, hg198, ha198, hsB, -, hnB, htB, hffB⟩ := Cond.ownField (t := .object "java/lang/Object") Y.found L.cls (by decide +kernel) (a' (.fieldLink Bundle.tN 198 Bundle.tN "backtrace" "Ljava/lang/Object;") (by simp [wr_t])) (a' (.lays Bundle.tN Bundle.tN "backtrace" "Ljava/lang/Object;") (by simp [wr_t])) e.platform hpl
  obtain ⟨cellS, hcS', heS, -, hkeep⟩ := X.same.2.2.2.2.2 T.aS cellS0 hcS0
  have hcellS : W.heap[T.aS]? = some cellS := hcS'
  have hout' : ∀ i, (⟨T.aS, i⟩ : Loc) ∉ locs := fun i hmem => by
    have := hlocs _ hmem cellS0 hcS0
    rw [hiss] at this; cases this
  have hknownS : cellS.vm ≠ .unknown := by
    rw [heS]; intro hu
    rw [show cellS0.vm = .unknown from hu] at hiss
    cases hiss
  have hneS : T.aS ≠ a := Nat.ne_of_lt (Nat.lt_of_lt_of_le (Array.getElem?_eq_some_iff.mp hcS0).1 hnew)
  obtain ⟨iM, hffM⟩ := Y.msg
  have wC := a' (.lays wr_X Bundle.tN "cause" "Ljava/lang/Throwable;") (by simp [wr_t])
  have wS := a' (.lays wr_X Bundle.tN "stackTrace" Bundle.steD) (by simp [wr_t])
  have wP := a' (.lays wr_X Bundle.tN "suppressedExceptions" Bundle.listD) (by simp [wr_t])
  have wN := a' (.lays wr_X wr_X "number" "I") (by simp [wr_t])
  obtain ⟨tyC, dC, hdC, hdnC⟩ := Cond.laysAt hfound hk Y.cause wC
  obtain ⟨tyS, dS, hdS, hdnS⟩ := Cond.laysAt hfound hk Y.stack wS
  obtain ⟨tyP, dP, hdP, hdnP⟩ := Cond.laysAt hfound hk Y.supp wP
  obtain ⟨tyN, dN, hdN, hdnN⟩ := Cond.laysAt hfound hk hnum wN
  obtain ⟨tyB, dB, hdB, hdnB⟩ := Cond.laysAt hfound hk hffB (a' (.lays wr_X Bundle.tN "backtrace" "Ljava/lang/Object;") (by simp [wr_t]))
  obtain ⟨nN, tN'⟩ := State.fieldFound?_type (t := .int) hnum (by decide +kernel)
  have bC := Cond.laysApart hdB hdC hdnB hdnC (by rw [hnB, Y.causeName]; decide)
  have bS := Cond.laysApart hdB hdS hdnB hdnS (by rw [hnB, Y.stackName]; decide)
  have bP := Cond.laysApart hdB hdP hdnB hdnP (by rw [hnB, Y.suppName]; decide)
  have nC := Cond.laysApart hdN hdC hdnN hdnC (by rw [nN, Y.causeName]; decide)
  have nS := Cond.laysApart hdN hdS hdnN hdnS (by rw [nN, Y.stackName]; decide)
  have nP := Cond.laysApart hdN hdP hdnN hdnP (by rw [nN, Y.suppName]; decide)
  have hskip : SkipFacts T e.platform s (fun u => u) u0 ((preparedCellV T.toThrowableT (freshCell P1.m.cls kX) a u0 sen).withEntry W.cur) :=
    ⟨{ ci198 := ci198, i198 := i198, fBack := fB }, ⟨hk198, hg198, ha198, hsB⟩, by
      have := fresh_default (c := P1.m.cls) tyB
      rw [htB] at this
      simpa [preparedCellV, Cell.setSlot, Cell.withEntry, Array.getElem?_setIfInBounds, bC, bS, bP, bC.symm, bS.symm, bP.symm, defaultValue] using this, fun _ _ => rfl⟩
  obtain ⟨tm, methC, cdC, kC, vm₁, hnC, -, -, -, -, -, -, -, hW₁, st1⟩ := Steps.initColdArgsNest (tb := p.tables) (e := e) (below := below) (s := s) (U := W) X.here hexec X.warmed hpl hown (t := Bundle.init0 wr_X) rfl (by decide)
    hlk (hch (.instanceMethod (Bundle.init0 wr_X)) (by simp [Bundle.chain0Atoms, Bundle.passAtoms])) (bytes := Bundle.five) (maxL := 1) (hch (.code (Bundle.init0 wr_X) Bundle.five 1 none) (by simp [Bundle.chain0Atoms, Bundle.passAtoms]))
    (f := g) hg (a := a) (argsL := []) (rest := .ref a :: rest) (fun sig hs => by
      have e1 : parseMethodDescriptor (Bundle.init0 wr_X).desc = some ⟨[], none⟩ := by decide +kernel
      rw [e1] at hs
      cases hs
      rfl) hstack hd6
  cases Option.some.inj (hnC.symm.trans hP1m)
  have X₁ := X.noted hW₁
  obtain ⟨vm₂, X₂, st2⟩ := X₁.ctorPlainOffV hexec (g := { g with stack := .ref a :: rest }) hg hsize T L Z LZ (P1 :: Ps)
    (fun P hP => by rcases List.mem_cons.mp hP with rfl | hP; exact L1; exact hL P hP) ⟨hlink1, hlink⟩ (u0 := u0) (sen := sen) (self := a) (cell := freshCell P1.m.cls kX) (cellS := cellS)
    hcell (fun _ => by simp) (by simp) rfl rfl hsel0 hselF hcellS hneS hknownS (by rw [hkeep _ (hout' _)]; exact hu0) (by rw [hkeep _ (hout' _)]; exact hsen)
    (Takes.of_laid hk hord tyC (by rw [Y.causeType]; rfl)) (Takes.of_laid hk hord tyS (by rw [Y.stackType]; exact fits_refV_array _ u0)) (Takes.of_laid hk hord tyP (by rw [Y.suppType]; exact fits_refV_object _ sen)) Y.objLocals hskip htr [] hd6
    (by simp only [List.length_cons, hlen]; exact hRframes) (by simp only [List.length_cons, hlen]; exact hRlocals)
  have hlt : a < ((W.setVm vm₁).setVm vm₂).heap.size := (Array.getElem?_eq_some_iff.mp hcell).1
  refine ⟨(W.setVm vm₁).setVm vm₂, _, _, X₂, fun y hy => ?_, hlt, rfl, rfl, ?_, ?_, fun target hwalk => st1 _ (fun acts => ?_)⟩
  · simp only [List.mem_cons, List.not_mem_nil, or_false] at hy
    rcases hy with rfl | rfl | rfl | rfl <;> rfl
  · simp [preparedCellV, Cell.setSlot, Cell.withEntry]
  · have := fresh_default (c := P1.m.cls) tyN
    rw [tN'] at this
    simpa [preparedCellV, Cell.setSlot, Cell.withEntry, Array.getElem?_setIfInBounds, nC, nS, nP, nC.symm, nS.symm, nP.symm, defaultValue] using this
  · rw [doInvoke_state]
    exact st2 _ hwalk
end WRC
section WRM
variable {p : Program} {l : Launch} {e : Env} {R : Room} {s : State} {m : MethodId} {args : Array Value} {below : List Frame} {meth : Method} {c : Code} {H : Heap} {locs : List Loc} {cells slots : Nat} {Q : State → Prop}
variable {cc : ByteArray} {nL pc : Nat} {ls : Array Slot} {rest : List Value} {D : va_G} {d : Nat → ClassId} {sd : Nat} {A : Nat → Prop} {own : String} {ws : va_W}
theorem wr_hat {args : Array Value} {s : State} (hts : ∀ w ∈ lw_all, w.before args s = true) (hN : NW s) (h1 : Cond.declares (Bundle.init0 "java/lang/Exception") ∈ lw_tbl) (h2 : Cond.declares (Bundle.init0 Bundle.tN) ∈ lw_tbl) : ∀ w ∈ wr_at, w.before args s = true := by
  intro w hw
  rcases wr_ng w hw with h | h | h
  · exact hts w (wr_g w (List.mem_filter.mpr ⟨hw, h⟩))
  · subst h; exact va_Nw.use rfl (hN _ h1 rfl)
  · subst h; exact va_Nw.use rfl (hN _ h2 rfl)
set_option maxHeartbeats 2000000 in
theorem n_wrong {host : String} {ik ic : Nat} (C : CallFix p m c cc nL s args lw_all own) (hX : RX D d sd A s s.heap) (hl : l.stackTraces = false)
    (hU : vx_Zq Bundle.tN "UNASSIGNED_STACK" Bundle.steD A s s.heap) (hN : vx_Zq Bundle.tN "SUPPRESSED_SENTINEL" Bundle.listD A s s.heap) (hT : TH D A s.heap ws H locs) (hA : ∀ q, s.heap.size ≤ q → A q) (hsize : ls.size = nL)
    (hk : Cond.classLink own ik wr_X ∈ lw_all) (hini : Cond.initialized wr_X ∈ lw_all) (hlk : Cond.methodLinkNest own ic (Bundle.init0 wr_X) host ∈ lw_tbl)
    (h1 : Cond.declares (Bundle.init0 "java/lang/Exception") ∈ lw_tbl) (h2 : Cond.declares (Bundle.init0 Bundle.tN) ∈ lw_tbl)
    (d0 : decode cc pc = .ok (.new ik, 3)) (d3 : decode cc (pc + 3) = .ok (.dup, 1)) (d4 : decode cc (pc + 4) = .ok (.invokespecial ic, 3))
    (hRframes : 4 < R.frames) (hRlocals : (rest.map fun v => v.category).sum + 68 ≤ R.locals) (hRcells : cells + 1 ≤ R.cells) (hRslots : slots + 7 ≤ R.slots)
    (kk : ∀ (q : Nat) (H1 : Heap) (v : Nat → Value), TH D A s.heap (ws ++ [(q, .inr (5, [v 0, v 1, v 2, v 3, v 4, v 5, .int 0]))]) H1 locs → W p l e R s m args below meth c H1 locs (cells + 1) (slots + 7) Q (F0 m (pc + 7) ls (.ref q :: rest))) :
    W p l e R s m args below meth c H locs cells slots Q (F0 m pc ls rest) := by
  intro T hT0 X
  subst hT0
  obtain ⟨hexec, hb, hml, hown, hts⟩ := C
  obtain ⟨hP, hD, hS⟩ := hT
  have hV := hX.1
  have hsize : ls.size = c.maxLocals := hsize.trans hml.symm
  have htr : e.platform.stackTraces = false := (show e.platform.stackTraces = l.stackTraces by rw [X.admits.platform]).trans hl
  have Y := vx_rebase X (R' := { frames := R.frames, locals := R.locals, cells := 1, slots := 7 }) (Nat.le_refl _) (Nat.le_refl _) hRcells hRslots
  obtain ⟨s', hA'⟩ : ∃ z, z = (T.setVm s.vm).setFrames (.invoking m args :: below) := ⟨_, rfl⟩
  rw [← hA'] at Y
  have hvm : s'.vm = s.vm := by rw [hA']; rfl
  have hhp : s'.heap = T.heap := by rw [hA']; rfl
  have hW0 : s.WarmedH s'.vm := by rw [hvm]; exact State.WarmedH.refl s
  have hat' : ∀ w ∈ wr_at, w.before args s' = true := fun w hw => vx_ot_at hW0 hvm.symm (wr_ot w hw) (wr_hat hts hX.2.1 h1 h2 w hw)
  have hk' : (Cond.classLink own ik wr_X).before args s' = true := vx_ot_at hW0 hvm.symm rfl (hts _ hk)
  have hini' : (Cond.initialized wr_X).before args s' = true := vx_ot_at hW0 hvm.symm rfl (hts _ hini)
  have hlk' : (Cond.methodLinkNest own ic (Bundle.init0 wr_X) host).before args s' = true := va_Nw.use rfl ((hX.2.1.same (U := s') hvm.symm) _ hlk rfl)
  have hU' : vx_Zq Bundle.tN "UNASSIGNED_STACK" Bundle.steD A s' s'.heap := by rw [hhp]; exact vx_Zq.moved hW0.alike (hU.kept hS.2.1)
  have hN' : vx_Zq Bundle.tN "SUPPRESSED_SENTINEL" Bundle.listD A s' s'.heap := by rw [hhp]; exact vx_Zq.moved hW0.alike (hN.kept hS.2.1)
  have h : ∀ w ∈ wr_all, w.before args s' = true := vx_own hat' (vx_isRefq hU'.1) (vx_isRefq hN'.1) hU'.2.word hN'.2.word
  have hown' : s'.vm.findClass own = some m.cls := by rw [hvm]; exact hown
  have hins : (Cond.instantiable wr_X 7).before args s' = true := h _ (by simp [wr_all, wr_t])
  obtain ⟨vm₁, cX, kX, hfX, hkX, -, -, X₁, st1⟩ := Y.newCold hexec (own := own) (C := wr_X) (index := ik) (n := 7) hown' hk' hins hini'
    (g := F0 m pc ls rest) rfl (by rw [hb]; exact d0) (Nat.le_refl _) (Nat.le_refl _)
  generalize hT1 : (T.setVm vm₁).pushCell { cls := cX, slots := kX.instanceTypes.map defaultValue, vm := .none } = T1 at X₁ st1
  have hcat : (Value.ref T.heap.size).category = 1 := rfl
  have hcellA : T1.heap[T.heap.size]? = some (freshCell cX kX) := by rw [← hT1]; exact State.heap_pushCell_size _ _
  have d3' : decode c.code (pc + 3) = .ok (.dup, 1) := by rw [hb]; exact d3
  have hKn := hV.1 5 _ rfl
  have hsl : ∀ k, k < 7 → ∃ cf kf fi fd, s'.fieldFound? (TX3 k).1 (TX3 k).2.1 (TX3 k).2.2.1 = some (cf, kf, fi, fd) ∧ fd.slot = D.2 5 k := fun k hk => slotIs_moved hW0.alike (hKn.1 k hk)
  obtain ⟨cfN, kfN, fiN, fdN, hfN, hsN⟩ := hsl 6 (by decide)
  obtain ⟨V, ce, L, Z, hL, hlt, hcl9, hvm9, hsz9, hn9, st⟩ := wr_ctor X₁ hexec htr (own := own) (host := host) (ic := ic) hown' hlk' h (fun x hx => nomatch hx) hfX hkX hcellA (by rw [hhp]; exact Nat.le_refl _)
    (g := { method := m, pc := pc + 4, locals := ls, stack := .ref T.heap.size :: .ref T.heap.size :: rest, locked := none }) rfl hsize (rest := rest) rfl
    (by rw [hb]; exact d4) hRframes (by simp only [List.map_cons, List.sum_cons, hcat]; omega) hfN
  have Z0 := Stand.forget (locs := []) Z (fun y hy => by rw [hL y hy, hhp]; exact Nat.le_refl _)
  obtain ⟨f1, f2⟩ := vx_frame Z0.same
  rw [hhp] at f1 f2
  have hcid : ce.cls = D.1 5 := by
    rw [hcl9]
    have h1 := hKn.2.1
    rw [hvm] at hfX
    exact Option.some.inj (hfX.symm.trans h1)
  have hh : (V.setCell T.heap.size ce).heap[T.heap.size]? = some ce := heapAt_setCell_self (s := V) ce hlt
  have hex : ∀ k, k < 7 → ∃ v, ce.slots[D.2 5 k]? = some v := by
    intro k hk
    obtain ⟨cf, kf, fi, fd, hf, hs⟩ := hsl k hk
    have hlay : (Cond.lays wr_X (TX3 k).1 (TX3 k).2.1 (TX3 k).2.2.1).before args s' = true ∨ (Cond.laysFinal wr_X (TX3 k).1 (TX3 k).2.1 (TX3 k).2.2.1).before args s' = true := by
      have hw : ∀ w ∈ wsX30, w.before args s' = true := fun w hw => vx_ot_at hW0 hvm.symm ((by decide +kernel : ∀ w ∈ wsX30, vx_ot w = true) w hw) (hts _ (in_X3 w hw))
      exact u_lays (C := wr_X) (T := TX3) (N := 7) hw (fun w h => h) hk
    obtain ⟨-, -, hty⟩ := u_facts hfX hkX hlay hf
    rw [hs] at hty
    have hlt2 : D.2 5 k < ce.slots.size := by rw [hsz9]; exact (Array.getElem?_eq_some_iff.mp hty).1
    exact ⟨_, Array.getElem?_eq_getElem hlt2⟩
  obtain ⟨v, hv⟩ : ∃ v : Nat → Value, ∀ k, k < 7 → ce.slots[D.2 5 k]? = some (v k) := by
    have hex2 : ∀ k, ∃ v, k < 7 → ce.slots[D.2 5 k]? = some v := by
      intro k
      by_cases hk : k < 7
      · obtain ⟨v, h⟩ := hex k hk
        exact ⟨v, fun _ => h⟩
      · exact ⟨.null, fun h => absurd h hk⟩
    exact ⟨fun k => Classical.choose (hex2 k), fun k hk => Classical.choose_spec (hex2 k) hk⟩
  rw [hsN] at hn9
  have hgood : ∀ k, k < 7 → ce.slots[D.2 5 k]? = some (vp_V [v 0, v 1, v 2, v 3, v 4, v 5, .int 0] k) := by
    intro k hk
    match k, hk with
    | 0, hk => exact hv 0 hk
    | 1, hk => exact hv 1 hk
    | 2, hk => exact hv 2 hk
    | 3, hk => exact hv 3 hk
    | 4, hk => exact hv 4 hk
    | 5, hk => exact hv 5 hk
    | 6, _ => exact hn9
    | k + 7, hk => omega
  subst hA'
  have X5 := vx_back9 X Y Z0
  have X6 : Stand p l e R s m args below meth c (V.setCell T.heap.size ce) locs (cells + 1) (slots + 7) := { X5 with same := X5.same.mono (by omega) (by omega) }
  have hk9 : ∀ (k : Nat) (x : Nat × va_E), ws[k]? = some x → (V.setCell T.heap.size ce).heap[x.1]? = T.heap[x.1]? := fun k x hx => f2 x.1 ((hP k x hx).lt) (fun z hz => nomatch hz)
  obtain ⟨t, a1, b1⟩ := kk T.heap.size (V.setCell T.heap.size ce).heap v ⟨(hP.kept hk9).app (fun k x hx => by
      have hz : k < 1 := (List.getElem?_eq_some_iff.mp hx).1
      rw [show k = 0 by omega] at hx
      cases hx
      exact ⟨_, rfl, ce, hh, hcid, hvm9, hgood⟩), hD.push hP rfl (hA _ hS.1), Nat.le_trans hS.1 f1, fun q h1 h2 => (f2 q (Nat.lt_of_lt_of_le h1 hS.1) (fun z hz => nomatch hz)).trans (hS.2.1 q h1 h2), hS.2.2⟩ _ rfl X6
  refine ⟨t, st1 _ ?_, b1⟩
  show Steps p.tables e below (T1.setTop { method := m, pc := pc + 3, locals := ls, stack := .ref T.heap.size :: rest, locked := none }) _
  jvm_step X₁.here [X₁.here.top, hexec, d3', Value.category]
  exact st _ a1
end WRM
