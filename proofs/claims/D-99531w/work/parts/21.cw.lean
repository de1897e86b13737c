set_option maxRecDepth 100000
/-! ===== DutyBeats.State; a junction that is only read; the component's world ===== -/
abbrev SS : Type := (Nat → Nat → Int32) × (Nat → Int32)
abbrev JS : Type := (Nat → Int32) × (Nat → Nat → Int32)
abbrev RS : Type := Int32 × (Nat → (Nat → Int64) → Int32)
abbrev CS : Type := (Nat → Int32) × (Nat → Nat → Int32) × (Nat → Int64) × (Nat → SS)
def ssI (S : SS) (k : Nat) (v : Int32) : SS := (S.1, va_up S.2 k v)
def ssA (S : SS) (k j : Nat) (v : Int32) : SS := (va_up S.1 k (upd (S.1 k) j v), S.2)
def csI (c : CS) (k : Nat) (v : Int32) : CS := (va_up c.1 k v, c.2)
def csA (c : CS) (k j : Nat) (v : Int32) : CS := (c.1, va_up c.2.1 k (upd (c.2.1 k) j v), c.2.2)
def csW (c : CS) (j : Nat) (v : Int64) : CS := (c.1, c.2.1, vp_updL c.2.2.1 j v, c.2.2.2)
def csS (c : CS) (i : Nat) (S : SS) : CS := (c.1, c.2.1, c.2.2.1, va_up c.2.2.2 i S)
theorem upd_set {A : Nat → Prop} {ws ws' : va_W} {b p0 : Nat} {e0 e : va_E} (hD : va_D A ws) (ha : ws[p0]? = some (b, e0)) (h : ws.set p0 (b, e) = ws') : Upd ws b e ws' := by
  subst h
  have hl := (List.getElem?_eq_some_iff.mp ha).1
  refine ⟨fun q hq => ?_, ?_⟩
  · obtain ⟨k, hk⟩ := List.getElem?_of_mem hq
    by_cases hkp : k = p0
    · subst hkp
      rw [List.getElem?_set_self hl] at hk
      exact Or.inl (Option.some.inj hk).symm
    · rw [List.getElem?_set_ne (Ne.symm hkp)] at hk
      exact Or.inr ⟨List.mem_of_getElem? hk, fun z => hkp (hD.1 k p0 q (b, e0) hk ha z)⟩
  · apply List.ext_getElem?
    intro k
    rw [List.getElem?_map, List.getElem?_map]
    by_cases hk : k = p0
    · subst hk
      rw [List.getElem?_set_self hl, ha]
      rfl
    · rw [List.getElem?_set_ne (Ne.symm hk)]
def sfs (b : Nat → Nat) (S : SS) : List Value := [.ref (b 1), .ref (b 2), .ref (b 3), .ref (b 4), .ref (b 5), .ref (b 6), .ref (b 7), .int (S.2 7), .int (S.2 8)]
def wS (d : Nat → ClassId) (b : Nat → Nat) (S : SS) : va_W := [(b 0, .inr (2, sfs b S)), (b 1, .inl (d 0, 6, .inl (S.1 0))), (b 2, .inl (d 0, 6, .inl (S.1 1))), (b 3, .inl (d 0, 6, .inl (S.1 2))), (b 4, .inl (d 0, 6, .inl (S.1 3))), (b 5, .inl (d 0, 6, .inl (S.1 4))), (b 6, .inl (d 0, 6, .inl (S.1 5))), (b 7, .inl (d 0, 12, .inl (S.1 6)))]
def adS (b : Nat → Nat) : List Nat := [b 0, b 1, b 2, b 3, b 4, b 5, b 6, b 7]
theorem wS_fst (d : Nat → ClassId) (b : Nat → Nat) (S : SS) : (wS d b S).map Prod.fst = adS b := rfl
theorem sset_7 (d : Nat → ClassId) (b : Nat → Nat) (S : SS) (v : Int32) : (wS d b S).set 0 (b 0, .inr (2, (sfs b S).set 7 (.int v))) = wS d b (ssI S 7 v) := rfl
theorem sset_8 (d : Nat → ClassId) (b : Nat → Nat) (S : SS) (v : Int32) : (wS d b S).set 0 (b 0, .inr (2, (sfs b S).set 8 (.int v))) = wS d b (ssI S 8 v) := rfl
theorem sast_0 (d : Nat → ClassId) (b : Nat → Nat) (S : SS) (j : Nat) (v : Int32) : (wS d b S).set 1 (b 1, .inl (d 0, 6, .inl (upd (S.1 0) j v))) = wS d b (ssA S 0 j v) := rfl
theorem sast_1 (d : Nat → ClassId) (b : Nat → Nat) (S : SS) (j : Nat) (v : Int32) : (wS d b S).set 2 (b 2, .inl (d 0, 6, .inl (upd (S.1 1) j v))) = wS d b (ssA S 1 j v) := rfl
theorem sast_2 (d : Nat → ClassId) (b : Nat → Nat) (S : SS) (j : Nat) (v : Int32) : (wS d b S).set 3 (b 3, .inl (d 0, 6, .inl (upd (S.1 2) j v))) = wS d b (ssA S 2 j v) := rfl
theorem sast_3 (d : Nat → ClassId) (b : Nat → Nat) (S : SS) (j : Nat) (v : Int32) : (wS d b S).set 4 (b 4, .inl (d 0, 6, .inl (upd (S.1 3) j v))) = wS d b (ssA S 3 j v) := rfl
theorem sast_4 (d : Nat → ClassId) (b : Nat → Nat) (S : SS) (j : Nat) (v : Int32) : (wS d b S).set 5 (b 5, .inl (d 0, 6, .inl (upd (S.1 4) j v))) = wS d b (ssA S 4 j v) := rfl
theorem sast_5 (d : Nat → ClassId) (b : Nat → Nat) (S : SS) (j : Nat) (v : Int32) : (wS d b S).set 6 (b 6, .inl (d 0, 6, .inl (upd (S.1 5) j v))) = wS d b (ssA S 5 j v) := rfl
theorem sast_6 (d : Nat → ClassId) (b : Nat → Nat) (S : SS) (j : Nat) (v : Int32) : (wS d b S).set 7 (b 7, .inl (d 0, 12, .inl (upd (S.1 6) j v))) = wS d b (ssA S 6 j v) := rfl
/-- a State that is only read -/
def SAt (d : Nat → ClassId) (b : Nat → Nat) (S : SS) (P : Nat → va_E → Prop) : Prop := ∀ q ∈ wS d b S, P q.1 q.2
theorem SAt.at {D : va_G} {d : Nat → ClassId} {b : Nat → Nat} {S : SS} {A : Nat → Prop} {H0 H : Heap} {locs : List Loc} (h : SAt d b S (FzP D A H0)) (hS : va_S A H0 H locs) (k : Nat) {q : Nat × va_E} (hk : (wS d b S)[k]? = some q) : va_at D db_cls q H := (h q (List.mem_of_getElem? hk)).at hS
/-- a junction that is only read: its object, its list, the roads, clashes, score -/
def JAt (d : Nat → ClassId) (ja : Nat → Nat) (j : JS) (P : Nat → va_E → Prop) : Prop :=
  P (ja 0) (.inr (3, [.ref (ja 1), .ref (ja 3), .ref (ja 4), .int (j.1 3), .int (j.1 4)])) ∧ P (ja 1) (.inr (4, [.int (j.1 5), .ref (ja 2), .int (j.1 0)])) ∧ P (ja 3) (.inl (d 0, 6, .inl (j.2 1))) ∧ P (ja 4) (.inl (d 0, 12, .inl (j.2 2))) ∧
  ∃ (n cap : Nat) (f : Nat → Option Nat), j.1 0 = nI n ∧ n ≤ 6 ∧ n ≤ cap ∧ P (ja 2) (.inl (d 6, cap, .inr (.inr (.inr (.inr f))))) ∧ ∀ k, k < n → f k = some (ja (10 + k)) ∧ P (ja (10 + k)) (.inr (7, [.int (j.2 10 k), .int (j.2 11 k), .int (j.2 12 k)]))
theorem JAt.mono {d : Nat → ClassId} {ja : Nat → Nat} {j : JS} {P P' : Nat → va_E → Prop} (h : ∀ q e, P q e → P' q e) (hJ : JAt d ja j P) : JAt d ja j P' := by
  obtain ⟨h1, h2, h3, h4, n, cap, f, e1, e2, e3, e4, e5⟩ := hJ
  exact ⟨h _ _ h1, h _ _ h2, h _ _ h3, h _ _ h4, n, cap, f, e1, e2, e3, h _ _ e4, fun k hk => ⟨(e5 k hk).1, h _ _ (e5 k hk).2⟩⟩
theorem JAt.step {D : va_G} {d : Nat → ClassId} {ja : Nat → Nat} {j : JS} {A B : Nat → Prop} {H0 H : Heap} {locs : List Loc} (hJ : JAt d ja j (FzP D A H0)) (hS : va_S A H0 H locs) (hB : ∀ q, B q → A q) : JAt d ja j (FzP D B H) := hJ.mono (fun _ _ h => h.step hS hB)
def sa (a : Nat → Nat) (i k : Nat) : Nat := a (100 + 8 * i + k)
def cfs (a ja : Nat → Nat) (c : CS) : List Value := [.ref (ja 0), .ref (sa a 0 0), .ref (sa a 1 0), .ref (a 3), .int (c.1 4), .ref (a 5), .ref (a 6), .int (c.1 7), .ref (a 8), .ref (a 9), .ref (a 10), .int (c.1 11), .int (c.1 12), .int (c.1 13), .int (c.1 14), .int (c.1 15), .ref (a 16), .ref (a 17), .ref (a 18), .int (c.1 19), .int (c.1 20), .ref (a 21), .ref (a 22), .ref (a 23), .int (c.1 24), .int (c.1 25), .ref (a 26), .ref (a 27), .ref (a 28), .ref (a 29), .ref (a 30), .ref (a 31)]
def wF (d : Nat → ClassId) (a ja : Nat → Nat) (c : CS) : va_W := [(a 32, .inr (1, cfs a ja c)), (a 6, .inl (d 1, 400, .inl (c.2.1 6))), (a 8, .inl (d 0, 10, .inl (c.2.1 8))), (a 9, .inl (d 0, 10, .inl (c.2.1 9))), (a 10, .inl (d 0, 10, .inl (c.2.1 10))), (a 16, .inl (d 2, 12, .inr (.inl c.2.2.1))), (a 17, .inl (d 0, 6, .inl (c.2.1 17))), (a 18, .inl (d 4, 20, .inr (.inr (.inr (.inr (fun i => some (sa a (6 + i) 0))))))), (a 21, .inl (d 0, 6, .inl (c.2.1 21))), (a 22, .inl (d 0, 3, .inl (c.2.1 22))), (a 23, .inl (d 0, 3, .inl (c.2.1 23))), (a 26, .inl (d 4, 4, .inr (.inr (.inr (.inr (fun i => some (sa a (2 + i) 0))))))), (a 27, .inl (d 0, 25, .inl (c.2.1 27))), (a 28, .inl (d 0, 25, .inl (c.2.1 28))), (a 29, .inl (d 0, 366, .inl (c.2.1 29))), (a 30, .inl (d 0, 42, .inl (c.2.1 30)))]
def wC (d : Nat → ClassId) (a ja : Nat → Nat) (c : CS) : va_W := wF d a ja c ++ (List.range 26).flatMap (fun i => wS d (sa a i) (c.2.2.2 i))
def adF (a : Nat → Nat) : List Nat := [a 32, a 6, a 8, a 9, a 10, a 16, a 17, a 18, a 21, a 22, a 23, a 26, a 27, a 28, a 29, a 30]
def adC (a : Nat → Nat) : List Nat := adF a ++ (List.range 26).flatMap (fun i => adS (sa a i))
theorem wC_fst (d : Nat → ClassId) (a ja : Nat → Nat) (c : CS) : (wC d a ja c).map Prod.fst = adC a := by
  unfold wC adC
  rw [List.map_append, List.map_flatMap]
  rfl
theorem wC_mem {d : Nat → ClassId} {a ja : Nat → Nat} {c : CS} {i : Nat} (hi : i < 26) {q : Nat × va_E} (hq : q ∈ wS d (sa a i) (c.2.2.2 i)) : q ∈ wC d a ja c :=
  List.mem_append_right _ (List.mem_flatMap.mpr ⟨i, List.mem_range.mpr hi, hq⟩)
theorem adC_nd {a : Nat → Nat} (h : (adC a).Nodup) : (adF a).Nodup ∧ (∀ i, i < 26 → (adS (sa a i)).Nodup) ∧ (∀ i, i < 26 → ∀ x ∈ adF a, ∀ y ∈ adS (sa a i), x ≠ y) ∧ ∀ i j, i < 26 → j < 26 → i ≠ j → ∀ x ∈ adS (sa a i), ∀ y ∈ adS (sa a j), x ≠ y := by
  obtain ⟨h1, h2, h3⟩ := List.pairwise_append.mp h
  obtain ⟨g1, g2⟩ := List.pairwise_flatMap.mp h2
  refine ⟨h1, fun i hi => g1 i (List.mem_range.mpr hi), fun i hi x hx y hy => h3 x hx y (List.mem_flatMap.mpr ⟨i, List.mem_range.mpr hi, hy⟩), ?_⟩
  have key : ∀ i j, i < j → j < 26 → ∀ x ∈ adS (sa a i), ∀ y ∈ adS (sa a j), x ≠ y := by
    intro i j hij hj
    have := (List.pairwise_iff_getElem.mp g2) i j (by simpa using Nat.lt_trans hij hj) (by simpa using hj) hij
    simpa using this
  intro i j hi hj hij x hx y hy
  rcases Nat.lt_or_ge i j with h | h
  · exact key i j h hj x hx y hy
  · exact fun e => key j i (by omega) hi y hy x hx e.symm
theorem wC_other {A : Nat → Prop} {d : Nat → ClassId} {a ja : Nat → Nat} {c : CS} (hD : va_D A (wC d a ja c)) {i : Nat} (hi : i < 26) {S : SS} {q : Nat × va_E} (hq : q ∈ wC d a ja (csS c i S)) : q ∈ wS d (sa a i) S ∨ (q ∈ wC d a ja c ∧ q.1 ∉ adS (sa a i)) := by
  have hn := adC_nd (by rw [← wC_fst d a ja c]; exact D_nd hD)
  rcases List.mem_append.mp hq with h | h
  · have h' : q ∈ wF d a ja c := h
    refine Or.inr ⟨List.mem_append_left _ h', fun hx => ?_⟩
    exact hn.2.2.1 i hi q.1 (show q.1 ∈ (wF d a ja c).map Prod.fst from List.mem_map.mpr ⟨q, h', rfl⟩) q.1 hx rfl
  · obtain ⟨j, hj, hq'⟩ := List.mem_flatMap.mp h
    have hj := List.mem_range.mp hj
    by_cases hij : j = i
    · subst hij
      refine Or.inl ?_
      have e : (csS c j S).2.2.2 j = S := by simp [csS, va_up]
      rw [e] at hq'
      exact hq'
    · have e : (csS c i S).2.2.2 j = c.2.2.2 j := by simp [csS, va_up, hij]
      rw [e] at hq'
      refine Or.inr ⟨wC_mem hj hq', fun hx => ?_⟩
      exact hn.2.2.2 j i hj hi hij q.1 (show q.1 ∈ (wS d (sa a j) (c.2.2.2 j)).map Prod.fst from List.mem_map.mpr ⟨q, hq', rfl⟩) q.1 hx rfl
theorem wC_cutS {A : Nat → Prop} {d : Nat → ClassId} {a ja : Nat → Nat} {c : CS} (hD : va_D A (wC d a ja c)) {i : Nat} (hi : i < 26) (S : SS) : Cut (wC d a ja c) (wS d (sa a i) (c.2.2.2 i)) (wS d (sa a i) S) (wC d a ja (csS c i S)) := by
  have hn := adC_nd (by rw [← wC_fst d a ja c]; exact D_nd hD)
  exact ⟨fun q hq => wC_mem hi hq, hn.2.1 i hi, fun q hq => wC_other hD hi hq, (wC_fst d a ja _).trans (wC_fst d a ja _).symm⟩
theorem wC_updS {A : Nat → Prop} {d : Nat → ClassId} {a ja : Nat → Nat} {c : CS} (hD : va_D A (wC d a ja c)) {i p0 b : Nat} (hi : i < 26) {e0 e : va_E} (S : SS) (ha : (wS d (sa a i) (c.2.2.2 i))[p0]? = some (b, e0)) (h : (wS d (sa a i) (c.2.2.2 i)).set p0 (b, e) = wS d (sa a i) S) : Upd (wC d a ja c) b e (wC d a ja (csS c i S)) := by
  have hn := adC_nd (by rw [← wC_fst d a ja c]; exact D_nd hD)
  have hb : b ∈ adS (sa a i) := show b ∈ (wS d (sa a i) (c.2.2.2 i)).map Prod.fst from List.mem_map.mpr ⟨(b, e0), List.mem_of_getElem? ha, rfl⟩
  have hDi : va_D (fun _ => True) (wS d (sa a i) (c.2.2.2 i)) := D_of (hn.2.1 i hi) (fun _ _ => trivial)
  refine ⟨fun q hq => ?_, (wC_fst d a ja _).trans (wC_fst d a ja _).symm⟩
  rcases wC_other hD hi hq with h1 | ⟨h1, h2⟩
  · rcases (upd_set hDi ha h).1 q h1 with h3 | ⟨h3, h4⟩
    · exact Or.inl h3
    · exact Or.inr ⟨wC_mem hi h3, h4⟩
  · exact Or.inr ⟨h1, fun z => h2 (by rw [z]; exact hb)⟩
/-- another State of the world, for a callee whose world is State i: frozen there -/
theorem wC_frz {D : va_G} {A : Nat → Prop} {H0 H : Heap} {locs : List Loc} {d : Nat → ClassId} {a ja : Nat → Nat} {c : CS} (hT : TH D A H0 (wC d a ja c) H locs) {i j : Nat} (hi : i < 26) (hj : j < 26) (hij : i ≠ j) (S : SS) : SAt d (sa a j) (c.2.2.2 j) (FzP D (va_A (wS d (sa a i) S) H.size) H) := by
  have hn := adC_nd (by rw [← wC_fst d a ja c]; exact D_nd hT.2.1)
  intro q hq
  have h := hT.at (wC_mem (ja := ja) hj hq)
  refine ⟨h, ?_⟩
  rw [va_A_map]
  rintro (h1 | h1)
  · exact hn.2.2.2 i j hi hj hij q.1 h1 q.1 (show q.1 ∈ (wS d (sa a j) (c.2.2.2 j)).map Prod.fst from List.mem_map.mpr ⟨q, hq, rfl⟩) rfl
  · exact absurd h.lt (Nat.not_lt.mpr h1)
/-- a cell of the world, for a callee with no world: frozen there -/
theorem TH.frz {D : va_G} {A : Nat → Prop} {H0 H : Heap} {locs : List Loc} {ws : va_W} (hT : TH D A H0 ws H locs) {q : Nat × va_E} (hq : q ∈ ws) : FzP D (va_A [] H.size) H q.1 q.2 := by
  refine ⟨hT.at hq, ?_⟩
  rw [va_A_map]
  rintro (h1 | h1)
  · exact absurd h1 List.not_mem_nil
  · exact absurd (hT.at hq).lt (Nat.not_lt.mpr h1)
theorem Anil {A : Nat → Prop} {n0 n : Nat} (hA : ∀ q, n0 ≤ q → A q) (h : n0 ≤ n) (q : Nat) (hq : va_A [] n q) : A q := by
  rw [va_A_map] at hq
  rcases hq with h1 | h1
  · exact absurd h1 List.not_mem_nil
  · exact hA q (Nat.le_trans h h1)
theorem cset_4 (d : Nat → ClassId) (a ja : Nat → Nat) (c : CS) (v : Int32) : (wC d a ja c).set 0 (a 32, .inr (1, (cfs a ja c).set 4 (.int v))) = wC d a ja (csI c 4 v) := rfl
theorem cset_7 (d : Nat → ClassId) (a ja : Nat → Nat) (c : CS) (v : Int32) : (wC d a ja c).set 0 (a 32, .inr (1, (cfs a ja c).set 7 (.int v))) = wC d a ja (csI c 7 v) := rfl
theorem cset_11 (d : Nat → ClassId) (a ja : Nat → Nat) (c : CS) (v : Int32) : (wC d a ja c).set 0 (a 32, .inr (1, (cfs a ja c).set 11 (.int v))) = wC d a ja (csI c 11 v) := rfl
theorem cset_12 (d : Nat → ClassId) (a ja : Nat → Nat) (c : CS) (v : Int32) : (wC d a ja c).set 0 (a 32, .inr (1, (cfs a ja c).set 12 (.int v))) = wC d a ja (csI c 12 v) := rfl
theorem cset_13 (d : Nat → ClassId) (a ja : Nat → Nat) (c : CS) (v : Int32) : (wC d a ja c).set 0 (a 32, .inr (1, (cfs a ja c).set 13 (.int v))) = wC d a ja (csI c 13 v) := rfl
theorem cset_14 (d : Nat → ClassId) (a ja : Nat → Nat) (c : CS) (v : Int32) : (wC d a ja c).set 0 (a 32, .inr (1, (cfs a ja c).set 14 (.int v))) = wC d a ja (csI c 14 v) := rfl
theorem cset_15 (d : Nat → ClassId) (a ja : Nat → Nat) (c : CS) (v : Int32) : (wC d a ja c).set 0 (a 32, .inr (1, (cfs a ja c).set 15 (.int v))) = wC d a ja (csI c 15 v) := rfl
theorem cset_19 (d : Nat → ClassId) (a ja : Nat → Nat) (c : CS) (v : Int32) : (wC d a ja c).set 0 (a 32, .inr (1, (cfs a ja c).set 19 (.int v))) = wC d a ja (csI c 19 v) := rfl
theorem cset_20 (d : Nat → ClassId) (a ja : Nat → Nat) (c : CS) (v : Int32) : (wC d a ja c).set 0 (a 32, .inr (1, (cfs a ja c).set 20 (.int v))) = wC d a ja (csI c 20 v) := rfl
theorem cset_24 (d : Nat → ClassId) (a ja : Nat → Nat) (c : CS) (v : Int32) : (wC d a ja c).set 0 (a 32, .inr (1, (cfs a ja c).set 24 (.int v))) = wC d a ja (csI c 24 v) := rfl
theorem cset_25 (d : Nat → ClassId) (a ja : Nat → Nat) (c : CS) (v : Int32) : (wC d a ja c).set 0 (a 32, .inr (1, (cfs a ja c).set 25 (.int v))) = wC d a ja (csI c 25 v) := rfl
theorem cast_6 (d : Nat → ClassId) (a ja : Nat → Nat) (c : CS) (j : Nat) (v : Int32) : (wC d a ja c).set 1 (a 6, .inl (d 1, 400, .inl (upd (c.2.1 6) j v))) = wC d a ja (csA c 6 j v) := rfl
theorem cast_8 (d : Nat → ClassId) (a ja : Nat → Nat) (c : CS) (j : Nat) (v : Int32) : (wC d a ja c).set 2 (a 8, .inl (d 0, 10, .inl (upd (c.2.1 8) j v))) = wC d a ja (csA c 8 j v) := rfl
theorem cast_9 (d : Nat → ClassId) (a ja : Nat → Nat) (c : CS) (j : Nat) (v : Int32) : (wC d a ja c).set 3 (a 9, .inl (d 0, 10, .inl (upd (c.2.1 9) j v))) = wC d a ja (csA c 9 j v) := rfl
theorem cast_10 (d : Nat → ClassId) (a ja : Nat → Nat) (c : CS) (j : Nat) (v : Int32) : (wC d a ja c).set 4 (a 10, .inl (d 0, 10, .inl (upd (c.2.1 10) j v))) = wC d a ja (csA c 10 j v) := rfl
theorem cast_16 (d : Nat → ClassId) (a ja : Nat → Nat) (c : CS) (j : Nat) (v : Int64) : (wC d a ja c).set 5 (a 16, .inl (d 2, 12, .inr (.inl (vp_updL c.2.2.1 j v)))) = wC d a ja (csW c j v) := rfl
theorem cast_17 (d : Nat → ClassId) (a ja : Nat → Nat) (c : CS) (j : Nat) (v : Int32) : (wC d a ja c).set 6 (a 17, .inl (d 0, 6, .inl (upd (c.2.1 17) j v))) = wC d a ja (csA c 17 j v) := rfl
theorem cast_21 (d : Nat → ClassId) (a ja : Nat → Nat) (c : CS) (j : Nat) (v : Int32) : (wC d a ja c).set 8 (a 21, .inl (d 0, 6, .inl (upd (c.2.1 21) j v))) = wC d a ja (csA c 21 j v) := rfl
theorem cast_22 (d : Nat → ClassId) (a ja : Nat → Nat) (c : CS) (j : Nat) (v : Int32) : (wC d a ja c).set 9 (a 22, .inl (d 0, 3, .inl (upd (c.2.1 22) j v))) = wC d a ja (csA c 22 j v) := rfl
theorem cast_23 (d : Nat → ClassId) (a ja : Nat → Nat) (c : CS) (j : Nat) (v : Int32) : (wC d a ja c).set 10 (a 23, .inl (d 0, 3, .inl (upd (c.2.1 23) j v))) = wC d a ja (csA c 23 j v) := rfl
theorem cast_27 (d : Nat → ClassId) (a ja : Nat → Nat) (c : CS) (j : Nat) (v : Int32) : (wC d a ja c).set 12 (a 27, .inl (d 0, 25, .inl (upd (c.2.1 27) j v))) = wC d a ja (csA c 27 j v) := rfl
theorem cast_28 (d : Nat → ClassId) (a ja : Nat → Nat) (c : CS) (j : Nat) (v : Int32) : (wC d a ja c).set 13 (a 28, .inl (d 0, 25, .inl (upd (c.2.1 28) j v))) = wC d a ja (csA c 28 j v) := rfl
theorem cast_29 (d : Nat → ClassId) (a ja : Nat → Nat) (c : CS) (j : Nat) (v : Int32) : (wC d a ja c).set 14 (a 29, .inl (d 0, 366, .inl (upd (c.2.1 29) j v))) = wC d a ja (csA c 29 j v) := rfl
theorem cast_30 (d : Nat → ClassId) (a ja : Nat → Nat) (c : CS) (j : Nat) (v : Int32) : (wC d a ja c).set 15 (a 30, .inl (d 0, 42, .inl (upd (c.2.1 30) j v))) = wC d a ja (csA c 30 j v) := rfl
def jmin (x y : Int32) : Int32 := if y < x then y else x
def jmax (x y : Int32) : Int32 := if x < y then y else x
def jabs (x : Int32) : Int32 := if 0 ≤ x then x else 0 - x
section GMATH
variable {p : Program} {l : Launch} {e : Env} {R : Room} {s : State} {m : MethodId} {args : Array Value} {below : List Frame} {meth : Method} {c : Code} {H : Heap} {locs : List Loc} {cells slots : Nat} {Q : State → Prop}
variable {cc : ByteArray} {nL pc : Nat} {ls : Array Slot} {rest : List Value} {D : va_G} {d : Nat → ClassId} {sd : Nat} {A : Nat → Prop} {own : String} {index : Nat}
theorem g_min (C : CallFix p m c cc nL s args lw_all own) (hsize : ls.size = nL) (hl : Cond.methodLink own index Lib.Math.min.name ∈ lw_all) (h1 : Cond.static Lib.Math.min.name ∈ lw_all) (h2 : Cond.initialized "java/lang/Math" ∈ lw_all) (h3 : Cond.code Lib.Math.min.name Lib.Math.min.code 2 (some .int) ∈ lw_all) (hframes : 1 ≤ R.frames) (hlocals : (rest.map fun v => v.category).sum + 13 ≤ R.locals) (hf : cells ≤ R.cells ∧ slots ≤ R.slots) {x y : Int32} (hdg : decode cc pc = .ok (.invokestatic index, 3))
    (kk : W p l e R s m args below meth c H locs cells slots Q (F0 m (pc + 3) ls (.int (jmin x y) :: rest))) : W p l e R s m args below meth c H locs cells slots Q (F0 m pc ls (.int y :: .int x :: rest)) :=
  va_mmin C.1 C.2.1 (C.2.2.1.trans hsize.symm) C.2.2.2.1 (C.2.2.2.2 _ hl) (C.2.2.2.2 _ h1) (C.2.2.2.2 _ h2) (C.2.2.2.2 _ h3) hframes hlocals hf.1 hf.2 hdg kk
theorem g_max (C : CallFix p m c cc nL s args lw_all own) (hsize : ls.size = nL) (hl : Cond.methodLink own index Lib.Math.max.name ∈ lw_all) (h1 : Cond.static Lib.Math.max.name ∈ lw_all) (h2 : Cond.initialized "java/lang/Math" ∈ lw_all) (h3 : Cond.code Lib.Math.max.name Lib.Math.max.code 2 (some .int) ∈ lw_all) (hframes : 1 ≤ R.frames) (hlocals : (rest.map fun v => v.category).sum + 13 ≤ R.locals) (hf : cells ≤ R.cells ∧ slots ≤ R.slots) {x y : Int32} (hdg : decode cc pc = .ok (.invokestatic index, 3))
    (kk : W p l e R s m args below meth c H locs cells slots Q (F0 m (pc + 3) ls (.int (jmax x y) :: rest))) : W p l e R s m args below meth c H locs cells slots Q (F0 m pc ls (.int y :: .int x :: rest)) :=
  va_mmax C.1 C.2.1 (C.2.2.1.trans hsize.symm) C.2.2.2.1 (C.2.2.2.2 _ hl) (C.2.2.2.2 _ h1) (C.2.2.2.2 _ h2) (C.2.2.2.2 _ h3) hframes hlocals hf.1 hf.2 hdg kk
theorem g_abs (C : CallFix p m c cc nL s args lw_all own) (hsize : ls.size = nL) (hl : Cond.methodLink own index Lib.Math.abs.name ∈ lw_all) (h1 : Cond.static Lib.Math.abs.name ∈ lw_all) (h2 : Cond.initialized "java/lang/Math" ∈ lw_all) (h3 : Cond.code Lib.Math.abs.name Lib.Math.abs.code 1 (some .int) ∈ lw_all) (hframes : 1 ≤ R.frames) (hlocals : (rest.map fun v => v.category).sum + 13 ≤ R.locals) (hf : cells ≤ R.cells ∧ slots ≤ R.slots) {x : Int32} (hdg : decode cc pc = .ok (.invokestatic index, 3))
    (kk : W p l e R s m args below meth c H locs cells slots Q (F0 m (pc + 3) ls (.int (jabs x) :: rest))) : W p l e R s m args below meth c H locs cells slots Q (F0 m pc ls (.int x :: rest)) :=
  va_mabs C.1 C.2.1 (C.2.2.1.trans hsize.symm) C.2.2.2.1 (C.2.2.2.2 _ hl) (C.2.2.2.2 _ h1) (C.2.2.2.2 _ h2) (C.2.2.2.2 _ h3) hframes hlocals hf.1 hf.2 hdg kk
theorem g_sounds {host : String} (C : CallFix p m c cc nL s args lw_all own) (hX : RX D d sd A s s.heap) (hS : va_S A s.heap H locs) (hl : Cond.fieldLinkNest own index "DutyBeats" "SOUNDS" "[I" host ∈ lw_tbl) (hdg : decode cc pc = .ok (.getstatic index, 3))
    (kk : W p l e R s m args below meth c H locs cells slots Q (F0 m (pc + 3) ls (.ref sd :: rest))) : W p l e R s m args below meth c H locs cells slots Q (F0 m pc ls rest) :=
  va_getsN (C := "DutyBeats") (n := "SOUNDS") (d := "[I") C.1 C.2.1 hX.2.2.1 hS C.2.2.2.1 (va_Nw.use rfl (hX.2.1 _ hl rfl)) (fun _ h => h) hdg kk
theorem g_sndld (C : CallFix p m c cc nL s args lw_all own) (hX : RX D d sd A s s.heap) (hS : va_S A s.heap H locs) {i : Int32} (hin : vp_in i 12) (hdg : decode cc pc = .ok (.iaload, 1))
    (kk : W p l e R s m args below meth c H locs cells slots Q (F0 m (pc + 1) ls (.int (db_snd i.toNatClampNeg) :: rest))) : W p l e R s m args below meth c H locs cells slots Q (F0 m pc ls (.int i :: .ref sd :: rest)) :=
  va_ti C.1 C.2.1 hX.2.2.2.1 hS hin rfl hdg kk
theorem g_cast {b ci : Nat} {fs : List Value} {nm : String} {T : u_T} {nf : Nat} (C : CallFix p m c cc nL s args lw_all own) (hV : va_K D db_cls (db_tys d) s) (hat : va_at D db_cls (b, .inr (ci, fs)) H) (hc : db_cls[ci]? = some (nm, T, nf)) (hl : Cond.classLink own index nm ∈ lw_all) (hdg : decode cc pc = .ok (.checkcast index, 3))
    (kk : W p l e R s m args below meth c H locs cells slots Q (F0 m (pc + 3) ls (.ref b :: rest))) : W p l e R s m args below meth c H locs cells slots Q (F0 m pc ls (.ref b :: rest)) :=
  va_castS C.1 C.2.1 C.2.2.2.1 (C.2.2.2.2 _ hl) (hV.1 ci _ hc).2 (va_recv hV (at1 hat) (q0 := 0) hc rfl) hdg kk
theorem g_recv {b ci : Nat} {fs : List Value} {q : vw_C} (hV : va_K D db_cls (db_tys d) s) (hat : va_at D db_cls (b, .inr (ci, fs)) H) (hc : db_cls[ci]? = some q) : ∃ cell : Cell, H[b]? = some cell ∧ cell.vm.isStatics = false ∧ s.vm.findClass q.1 = some cell.cls := va_recv hV (at1 hat) (q0 := 0) hc rfl
end GMATH
