set_option maxRecDepth 100000
/-! typed worlds: what all classes share -/
abbrev db_cls : List vw_C := [(RX4, TX4, 42), (RX0, TX0, 32), (RX2, TX2, 9), (RX1, TX1, 5), (RJ2, TJ2, 3), (RX3, TX3, 7), (RX5, TX5, 7), (RX6, TX6, 3), (RX7, TX7, 1), (RX9, TX9, 1), (RX10, TX10, 1), (RX11, TX11, 3), (RX12, TX12, 2), (RX14, TX14, 1), (RX15, TX15, 4), (RX16, TX16, 3), (RX17, TX17, 9)]
abbrev db_tys (d : Nat → ClassId) : List (ClassId × FieldType) := [(d 0, .int), (d 1, .byte), (d 2, .long), (d 3, .boolean), (d 4, .object "DutyBeats$State"), (d 5, .object "DutyBeats$Image"), (d 6, .object "java/lang/Object")]
def lett {α β : Type} (e : α) (k : α → β) : β := k e
theorem lett_e {α β : Type} {e x : α} {k : α → β} {o : β} (h : x = e) (hf : lett e k = o) : k x = o := by subst h; exact hf
def ix {α : Type} (i : Int32) (n : Nat) (k : Option α) : Option α := if i < 0 ∨ n ≤ i.toNatClampNeg then none else k
theorem ix_e {α : Type} {i : Int32} {n : Nat} {k : Option α} {o : α} (h : ix i n k = some o) : vp_in i n ∧ k = some o := by
  unfold ix at h
  by_cases c : i < 0 ∨ n ≤ i.toNatClampNeg
  · rw [if_pos c] at h; cases h
  · rw [if_neg c] at h; exact ⟨c, h⟩
def nz {α : Type} (y : Int32) (k : Option α) : Option α := if y = 0 then none else k
theorem nz_e {α : Type} {y : Int32} {k : Option α} {o : α} (h : nz y k = some o) : ¬ y = 0 ∧ k = some o := by
  unfold nz at h
  by_cases c : y = 0
  · rw [if_pos c] at h; cases h
  · rw [if_neg c] at h; exact ⟨c, h⟩
def nzl {α : Type} (y : Int64) (k : Option α) : Option α := if y = 0 then none else k
theorem nzl_e {α : Type} {y : Int64} {k : Option α} {o : α} (h : nzl y k = some o) : ¬ y = 0 ∧ k = some o := by
  unfold nzl at h
  by_cases c : y = 0
  · rw [if_pos c] at h; cases h
  · rw [if_neg c] at h; exact ⟨c, h⟩
/-- a boolean answer is 0 or 1 -/
def ckz {α : Type} (v : Int32) (k : Option α) : Option α := if v = 0 ∨ v = 1 then k else none
theorem ckz_e {α : Type} {v : Int32} {k : Option α} {o : α} (h : ckz v k = some o) : (v = 0 ∨ v = 1) ∧ k = some o := by
  unfold ckz at h
  by_cases c : v = 0 ∨ v = 1
  · rw [if_pos c] at h; exact ⟨c, h⟩
  · rw [if_neg c] at h; cases h
theorem z01 {v : Int32} (h : v = 0 ∨ v = 1) : narrow .boolean (.int v) = .int v := by
  rcases h with rfl | rfl <;> rfl
theorem bind_e {α β : Type} {o : Option α} {f : α → Option β} {r : β} (h : o.bind f = some r) : ∃ q, o = some q ∧ f q = some r := by
  cases o with
  | none => cases h
  | some q => exact ⟨q, rfl, h⟩
theorem ite_t {α : Type} {c : Prop} {i : Decidable c} {a b o : α} (h : c) (hf : @ite α c i a b = o) : a = o := by rw [if_pos h] at hf; exact hf
theorem ite_f {α : Type} {c : Prop} {i : Decidable c} {a b o : α} (h : ¬ c) (hf : @ite α c i a b = o) : b = o := by rw [if_neg h] at hf; exact hf
theorem i32ne {x y : Int32} {n : Int} (hy : y.toInt = n) (h : ¬ x = y) : x.toInt ≠ n := fun e => h (Int32.toInt_inj.mp (e.trans hy.symm))
/-- va_A speaks of the addresses alone -/
theorem va_A_map (ws : va_W) (sz : Nat) : va_A ws sz = fun q => q ∈ ws.map Prod.fst ∨ sz ≤ q := by
  funext q
  apply propext
  constructor
  · rintro (⟨k, e, h⟩ | h)
    · exact Or.inl (List.mem_map.mpr ⟨(q, e), List.mem_of_getElem? h, rfl⟩)
    · exact Or.inr h
  · rintro (h | h)
    · obtain ⟨⟨q', e⟩, h1, rfl⟩ := List.mem_map.mp h
      obtain ⟨k, hk⟩ := List.getElem?_of_mem h1
      exact Or.inl ⟨k, e, hk⟩
    · exact Or.inr h
theorem va_D_fst {A : Nat → Prop} {ws ws' : va_W} (e : ws.map Prod.fst = ws'.map Prod.fst) (h : va_D A ws) : va_D A ws' := by
  have key : ∀ (k : Nat) (q : Nat × va_E), ws'[k]? = some q → ∃ q0, ws[k]? = some q0 ∧ q0.1 = q.1 := by
    intro k q hk
    have h1 : (ws'.map Prod.fst)[k]? = some q.1 := by rw [List.getElem?_map, hk]; rfl
    rw [← e, List.getElem?_map] at h1
    cases h2 : ws[k]? with
    | none => rw [h2] at h1; cases h1
    | some q0 => rw [h2] at h1; exact ⟨q0, rfl, Option.some.inj h1⟩
  refine ⟨fun i j x y hi hj hxy => ?_, fun k q hk => ?_⟩
  · obtain ⟨x0, h1, h2⟩ := key i x hi
    obtain ⟨y0, h3, h4⟩ := key j y hj
    exact h.1 i j x0 y0 h1 h3 (h2.trans (hxy.trans h4.symm))
  · obtain ⟨q0, h1, h2⟩ := key k q hk
    rw [← h2]
    exact h.2 k q0 h1
/-- the state of a walk: the world, apart, and what has been written -/
def TH (D : va_G) (A : Nat → Prop) (H0 : Heap) (ws : va_W) (H : Heap) (locs : List Loc) : Prop := va_P D db_cls ws H ∧ va_D A ws ∧ va_S A H0 H locs
/-! ===== the twin: DutyBeatsModel ===== -/
abbrev TS : Type := (Nat → Int32) × (Nat → Nat → Int32) × (Nat → Int64) × (Nat → Nat → Int64)
def tsI (t : TS) (k : Nat) (v : Int32) : TS := (va_up t.1 k v, t.2)
def tsA (t : TS) (k j : Nat) (v : Int32) : TS := (t.1, va_up t.2.1 k (upd (t.2.1 k) j v), t.2.2)
def tsL (t : TS) (k : Nat) (v : Int64) : TS := (t.1, t.2.1, va_up t.2.2.1 k v, t.2.2.2)
def tsM (t : TS) (k j : Nat) (v : Int64) : TS := (t.1, t.2.1, t.2.2.1, va_up t.2.2.2 k (vp_updL (t.2.2.2 k) j v))
def tfs (a : Nat → Nat) (t : TS) : List Value := [.ref (a 0), .int (t.1 1), .int (t.1 2), .ref (a 3), .ref (a 4), .ref (a 5), .ref (a 6), .ref (a 7), .int (t.1 8), .int (t.1 9), .int (t.1 10), .int (t.1 11), .int (t.1 12), .int (t.1 13), .int (t.1 14), .ref (a 15), .int (t.1 16), .ref (a 17), .int (t.1 18), .ref (a 19), .ref (a 20), .int (t.1 21), .int (t.1 22), .int (t.1 23), .int (t.1 24), .ref (a 25), .ref (a 26), .int (t.1 27), .ref (a 28), .ref (a 29), .ref (a 30), .int (t.1 31), .int (t.1 32), .ref (a 33), .ref (a 34), .ref (a 35), .ref (a 36), .long (t.2.2.1 37), .ref (a 38), .ref (a 39), .ref (a 40), .ref (a 41)]
def wT (d : Nat → ClassId) (a : Nat → Nat) (t : TS) : va_W := [(a 42, .inr (0, tfs a t)), (a 0, .inl (d 1, 400, .inl (t.2.1 0))), (a 3, .inl (d 0, 2400, .inl (t.2.1 3))), (a 4, .inl (d 0, 7, .inl (t.2.1 4))), (a 5, .inl (d 0, 288, .inl (t.2.1 5))), (a 6, .inl (d 0, 6, .inl (t.2.1 6))), (a 7, .inl (d 0, 90, .inl (t.2.1 7))), (a 15, .inl (d 0, 400, .inl (t.2.1 15))), (a 17, .inl (d 2, 64, .inr (.inl (t.2.2.2 17)))), (a 19, .inl (d 2, 12, .inr (.inl (t.2.2.2 19)))), (a 20, .inl (d 0, 121, .inl (t.2.1 20))), (a 25, .inl (d 0, 6, .inl (t.2.1 25))), (a 26, .inl (d 0, 880, .inl (t.2.1 26))), (a 28, .inl (d 0, 44, .inl (t.2.1 28))), (a 29, .inl (d 0, 7, .inl (t.2.1 29))), (a 30, .inl (d 0, 3, .inl (t.2.1 30))), (a 33, .inl (d 0, 50, .inl (t.2.1 33))), (a 34, .inl (d 0, 366, .inl (t.2.1 34))), (a 35, .inl (d 3, 7, .inl (t.2.1 35))), (a 36, .inl (d 0, 42, .inl (t.2.1 36))), (a 38, .inl (d 0, 484, .inl (t.2.1 38))), (a 39, .inl (d 0, 4, .inl (t.2.1 39))), (a 40, .inl (d 0, 4, .inl (t.2.1 40))), (a 41, .inl (d 3, 4, .inl (t.2.1 41)))]
def adT (a : Nat → Nat) : List Nat := [a 42, a 0, a 3, a 4, a 5, a 6, a 7, a 15, a 17, a 19, a 20, a 25, a 26, a 28, a 29, a 30, a 33, a 34, a 35, a 36, a 38, a 39, a 40, a 41]
theorem wT_fst (d : Nat → ClassId) (a : Nat → Nat) (t : TS) : (wT d a t).map Prod.fst = adT a := rfl
def AT (a : Nat → Nat) (sz : Nat) : Nat → Prop := fun q => q ∈ adT a ∨ sz ≤ q
theorem AT_eq (d : Nat → ClassId) (a : Nat → Nat) (t : TS) (sz : Nat) : va_A (wT d a t) sz = AT a sz := by rw [va_A_map, wT_fst]; rfl
theorem tset_1 (a : Nat → Nat) (t : TS) (v : Int32) : (tfs a t).set 1 (.int v) = tfs a (tsI t 1 v) := rfl
theorem tset_2 (a : Nat → Nat) (t : TS) (v : Int32) : (tfs a t).set 2 (.int v) = tfs a (tsI t 2 v) := rfl
theorem tset_8 (a : Nat → Nat) (t : TS) (v : Int32) : (tfs a t).set 8 (.int v) = tfs a (tsI t 8 v) := rfl
theorem tset_9 (a : Nat → Nat) (t : TS) (v : Int32) : (tfs a t).set 9 (.int v) = tfs a (tsI t 9 v) := rfl
theorem tset_10 (a : Nat → Nat) (t : TS) (v : Int32) : (tfs a t).set 10 (.int v) = tfs a (tsI t 10 v) := rfl
theorem tset_11 (a : Nat → Nat) (t : TS) (v : Int32) : (tfs a t).set 11 (.int v) = tfs a (tsI t 11 v) := rfl
theorem tset_12 (a : Nat → Nat) (t : TS) (v : Int32) : (tfs a t).set 12 (.int v) = tfs a (tsI t 12 v) := rfl
theorem tset_13 (a : Nat → Nat) (t : TS) (v : Int32) : (tfs a t).set 13 (.int v) = tfs a (tsI t 13 v) := rfl
theorem tset_14 (a : Nat → Nat) (t : TS) (v : Int32) : (tfs a t).set 14 (.int v) = tfs a (tsI t 14 v) := rfl
theorem tset_16 (a : Nat → Nat) (t : TS) (v : Int32) : (tfs a t).set 16 (.int v) = tfs a (tsI t 16 v) := rfl
theorem tset_18 (a : Nat → Nat) (t : TS) (v : Int32) : (tfs a t).set 18 (.int v) = tfs a (tsI t 18 v) := rfl
theorem tset_21 (a : Nat → Nat) (t : TS) (v : Int32) : (tfs a t).set 21 (.int v) = tfs a (tsI t 21 v) := rfl
theorem tset_22 (a : Nat → Nat) (t : TS) (v : Int32) : (tfs a t).set 22 (.int v) = tfs a (tsI t 22 v) := rfl
theorem tset_23 (a : Nat → Nat) (t : TS) (v : Int32) : (tfs a t).set 23 (.int v) = tfs a (tsI t 23 v) := rfl
theorem tset_24 (a : Nat → Nat) (t : TS) (v : Int32) : (tfs a t).set 24 (.int v) = tfs a (tsI t 24 v) := rfl
theorem tset_27 (a : Nat → Nat) (t : TS) (v : Int32) : (tfs a t).set 27 (.int v) = tfs a (tsI t 27 v) := rfl
theorem tset_31 (a : Nat → Nat) (t : TS) (v : Int32) : (tfs a t).set 31 (.int v) = tfs a (tsI t 31 v) := rfl
theorem tset_32 (a : Nat → Nat) (t : TS) (v : Int32) : (tfs a t).set 32 (.int v) = tfs a (tsI t 32 v) := rfl
theorem tset_37 (a : Nat → Nat) (t : TS) (v : Int64) : (tfs a t).set 37 (.long v) = tfs a (tsL t 37 v) := rfl
theorem tast_0 (d : Nat → ClassId) (a : Nat → Nat) (t : TS) (j : Nat) (v : Int32) : (wT d a t).set 1 (a 0, .inl (d 1, 400, .inl (upd (t.2.1 0) j v))) = wT d a (tsA t 0 j v) := rfl
theorem tast_3 (d : Nat → ClassId) (a : Nat → Nat) (t : TS) (j : Nat) (v : Int32) : (wT d a t).set 2 (a 3, .inl (d 0, 2400, .inl (upd (t.2.1 3) j v))) = wT d a (tsA t 3 j v) := rfl
theorem tast_4 (d : Nat → ClassId) (a : Nat → Nat) (t : TS) (j : Nat) (v : Int32) : (wT d a t).set 3 (a 4, .inl (d 0, 7, .inl (upd (t.2.1 4) j v))) = wT d a (tsA t 4 j v) := rfl
theorem tast_5 (d : Nat → ClassId) (a : Nat → Nat) (t : TS) (j : Nat) (v : Int32) : (wT d a t).set 4 (a 5, .inl (d 0, 288, .inl (upd (t.2.1 5) j v))) = wT d a (tsA t 5 j v) := rfl
theorem tast_6 (d : Nat → ClassId) (a : Nat → Nat) (t : TS) (j : Nat) (v : Int32) : (wT d a t).set 5 (a 6, .inl (d 0, 6, .inl (upd (t.2.1 6) j v))) = wT d a (tsA t 6 j v) := rfl
theorem tast_7 (d : Nat → ClassId) (a : Nat → Nat) (t : TS) (j : Nat) (v : Int32) : (wT d a t).set 6 (a 7, .inl (d 0, 90, .inl (upd (t.2.1 7) j v))) = wT d a (tsA t 7 j v) := rfl
theorem tast_15 (d : Nat → ClassId) (a : Nat → Nat) (t : TS) (j : Nat) (v : Int32) : (wT d a t).set 7 (a 15, .inl (d 0, 400, .inl (upd (t.2.1 15) j v))) = wT d a (tsA t 15 j v) := rfl
theorem tast_17 (d : Nat → ClassId) (a : Nat → Nat) (t : TS) (j : Nat) (v : Int64) : (wT d a t).set 8 (a 17, .inl (d 2, 64, .inr (.inl (vp_updL (t.2.2.2 17) j v)))) = wT d a (tsM t 17 j v) := rfl
theorem tast_19 (d : Nat → ClassId) (a : Nat → Nat) (t : TS) (j : Nat) (v : Int64) : (wT d a t).set 9 (a 19, .inl (d 2, 12, .inr (.inl (vp_updL (t.2.2.2 19) j v)))) = wT d a (tsM t 19 j v) := rfl
theorem tast_20 (d : Nat → ClassId) (a : Nat → Nat) (t : TS) (j : Nat) (v : Int32) : (wT d a t).set 10 (a 20, .inl (d 0, 121, .inl (upd (t.2.1 20) j v))) = wT d a (tsA t 20 j v) := rfl
theorem tast_25 (d : Nat → ClassId) (a : Nat → Nat) (t : TS) (j : Nat) (v : Int32) : (wT d a t).set 11 (a 25, .inl (d 0, 6, .inl (upd (t.2.1 25) j v))) = wT d a (tsA t 25 j v) := rfl
theorem tast_26 (d : Nat → ClassId) (a : Nat → Nat) (t : TS) (j : Nat) (v : Int32) : (wT d a t).set 12 (a 26, .inl (d 0, 880, .inl (upd (t.2.1 26) j v))) = wT d a (tsA t 26 j v) := rfl
theorem tast_28 (d : Nat → ClassId) (a : Nat → Nat) (t : TS) (j : Nat) (v : Int32) : (wT d a t).set 13 (a 28, .inl (d 0, 44, .inl (upd (t.2.1 28) j v))) = wT d a (tsA t 28 j v) := rfl
theorem tast_29 (d : Nat → ClassId) (a : Nat → Nat) (t : TS) (j : Nat) (v : Int32) : (wT d a t).set 14 (a 29, .inl (d 0, 7, .inl (upd (t.2.1 29) j v))) = wT d a (tsA t 29 j v) := rfl
theorem tast_30 (d : Nat → ClassId) (a : Nat → Nat) (t : TS) (j : Nat) (v : Int32) : (wT d a t).set 15 (a 30, .inl (d 0, 3, .inl (upd (t.2.1 30) j v))) = wT d a (tsA t 30 j v) := rfl
theorem tast_33 (d : Nat → ClassId) (a : Nat → Nat) (t : TS) (j : Nat) (v : Int32) : (wT d a t).set 16 (a 33, .inl (d 0, 50, .inl (upd (t.2.1 33) j v))) = wT d a (tsA t 33 j v) := rfl
theorem tast_34 (d : Nat → ClassId) (a : Nat → Nat) (t : TS) (j : Nat) (v : Int32) : (wT d a t).set 17 (a 34, .inl (d 0, 366, .inl (upd (t.2.1 34) j v))) = wT d a (tsA t 34 j v) := rfl
theorem tast_35 (d : Nat → ClassId) (a : Nat → Nat) (t : TS) (j : Nat) (v : Int32) : (wT d a t).set 18 (a 35, .inl (d 3, 7, .inl (upd (t.2.1 35) j v))) = wT d a (tsA t 35 j v) := rfl
theorem tast_36 (d : Nat → ClassId) (a : Nat → Nat) (t : TS) (j : Nat) (v : Int32) : (wT d a t).set 19 (a 36, .inl (d 0, 42, .inl (upd (t.2.1 36) j v))) = wT d a (tsA t 36 j v) := rfl
theorem tast_38 (d : Nat → ClassId) (a : Nat → Nat) (t : TS) (j : Nat) (v : Int32) : (wT d a t).set 20 (a 38, .inl (d 0, 484, .inl (upd (t.2.1 38) j v))) = wT d a (tsA t 38 j v) := rfl
theorem tast_39 (d : Nat → ClassId) (a : Nat → Nat) (t : TS) (j : Nat) (v : Int32) : (wT d a t).set 21 (a 39, .inl (d 0, 4, .inl (upd (t.2.1 39) j v))) = wT d a (tsA t 39 j v) := rfl
theorem tast_40 (d : Nat → ClassId) (a : Nat → Nat) (t : TS) (j : Nat) (v : Int32) : (wT d a t).set 22 (a 40, .inl (d 0, 4, .inl (upd (t.2.1 40) j v))) = wT d a (tsA t 40 j v) := rfl
theorem tast_41 (d : Nat → ClassId) (a : Nat → Nat) (t : TS) (j : Nat) (v : Int32) : (wT d a t).set 23 (a 41, .inl (d 3, 4, .inl (upd (t.2.1 41) j v))) = wT d a (tsA t 41 j v) := rfl
abbrev PcT (D : va_G) (d : Nat → ClassId) (a : Nat → Nat) (vs : List Value) (t : TS) (sz : Nat) : Array Value → State → Prop := va_Pc (.ref (a 42) :: vs) (fun U => U.heap.size = sz ∧ va_P D db_cls (wT d a t) U.heap ∧ va_K D db_cls (db_tys d) U ∧ va_D (fun _ => True) (wT d a t))
abbrev QiT (D : va_G) (d : Nat → ClassId) (a : Nat → Nat) (r : Int32) (t : TS) (sz : Nat) : Array Value → State → Outcome → State → Prop := va_Qi (fun (r' : Int32) (_ : Unit) => r' = r) (fun _ U => va_P D db_cls (wT d a t) U.heap) (AT a sz)
abbrev QlT (D : va_G) (d : Nat → ClassId) (a : Nat → Nat) (r : Int64) (t : TS) (sz : Nat) : Array Value → State → Outcome → State → Prop := va_Ql (fun (r' : Int64) (_ : Unit) => r' = r) (fun _ U => va_P D db_cls (wT d a t) U.heap) (AT a sz)
abbrev QvT (D : va_G) (d : Nat → ClassId) (a : Nat → Nat) (t : TS) (sz : Nat) : Array Value → State → Outcome → State → Prop := va_Qv (fun (_ : Unit) => True) (fun _ U => va_P D db_cls (wT d a t) U.heap) (AT a sz)
abbrev PcS (vs : List Value) (sz : Nat) : Array Value → State → Prop := va_Pc vs (fun U => U.heap.size = sz)
abbrev QiS (r : Int32) (sz : Nat) : Array Value → State → Outcome → State → Prop := va_Qi (fun (r' : Int32) (_ : Unit) => r' = r) (fun _ _ => True) (fun q => sz ≤ q)
abbrev QlS (r : Int64) (sz : Nat) : Array Value → State → Outcome → State → Prop := va_Ql (fun (r' : Int64) (_ : Unit) => r' = r) (fun _ _ => True) (fun q => sz ≤ q)
abbrev rm_ (f n : Nat) : Room := { frames := f, cells := 0, slots := 0, locals := n }
section TW
variable {p : Program} {l : Launch} {e : Env} {R : Room} {s : State} {m : MethodId} {args : Array Value} {below : List Frame} {meth : Method} {c : Code} {H : Heap} {locs : List Loc} {cells slots : Nat} {Q : State → Prop}
variable {cc : ByteArray} {nL pc : Nat} {ls : Array Slot} {rest : List Value} {D : va_G} {d : Nat → ClassId} {a : Nat → Nat} {A : Nat → Prop} {t : TS} {own : String}
theorem t_in {vs : List Value} {n : Nat} (h : (lg_sl vs).length ≤ n) (k : ∀ ls : Array Slot, lv_has ls n (lv_args 0 vs) → W p l e R s m args below meth c H locs cells slots Q (F0 m 0 ls [])) : W p l e R s m args below meth c H locs cells slots Q (entryFrame m vs.toArray n) := by
  rw [lg_entry_eq]
  exact k _ (lv_entry vs h)
theorem t_enter {y : MethodName} {maxL : Nat} {ret : Option FieldType} {rm : Room} {vs : List Value} {sz : Nat} {s₁ : State} (B : BodyLoose p l y (headSpec (ws_ y cc maxL ret) rm) cc maxL ret e s m args below meth c s₁) (hml : c.maxLocals = maxL) (hy : y.cls = RX4) (hv : PcT D d a vs t sz args s) :
    CallFix p m c cc maxL s args lw_all RX4 ∧ va_K D db_cls (db_tys d) s ∧ TH D (AT a s.heap.size) s.heap (wT d a t) s.heap [] ∧ meth.sig.returnType = ret ∧ meth.locks = false ∧ args = (Value.ref (a 42) :: vs).toArray ∧ sz = s.heap.size := by
  obtain ⟨h0, hsz, hP, hK, hD⟩ := hv
  have hts := atoms_spec (ws := ws_ y cc maxL ret) B.pre
  refine ⟨⟨B.exec, B.bytes, hml, ?_, fun w h => hts w (List.mem_cons_of_mem _ h)⟩, hK, ⟨hP, ?_, va_S.rf⟩, B.returns, B.notSynchronized, h0, hsz.symm⟩
  · rw [← hy]; exact findClass_of_methodNamed B.named
  · rw [← AT_eq d a t]; exact hD.self
theorem s_enter {y : MethodName} {maxL : Nat} {ret : Option FieldType} {rm : Room} {vs : List Value} {sz : Nat} {s₁ : State} (B : BodyLoose p l y (headSpec (ws_ y cc maxL ret) rm) cc maxL ret e s m args below meth c s₁) (hml : c.maxLocals = maxL) (hy : y.cls = own) (hv : PcS vs sz args s) :
    CallFix p m c cc maxL s args lw_all own ∧ TH D (fun q => s.heap.size ≤ q) s.heap [] s.heap [] ∧ meth.sig.returnType = ret ∧ meth.locks = false ∧ args = vs.toArray ∧ sz = s.heap.size := by
  obtain ⟨h0, hsz⟩ := hv
  have hts := atoms_spec (ws := ws_ y cc maxL ret) B.pre
  refine ⟨⟨B.exec, B.bytes, hml, ?_, fun w h => hts w (List.mem_cons_of_mem _ h)⟩, ⟨fun k q h => (by simp at h), ⟨fun i j p q h => (by simp at h), fun k q h => (by simp at h)⟩, va_S.rf⟩, B.returns, B.notSynchronized, h0, hsz.symm⟩
  rw [← hy]; exact findClass_of_methodNamed B.named
theorem t_get (C : CallFix p m c cc nL s args lw_all RX4) (hK : va_K D db_cls (db_tys d) s) (hT : TH D A s.heap (wT d a t) H locs) (k : Nat) {index : Nat} {v : Value} (hk : k < 42) (hl : Cond.fieldLink RX4 index (TX4 k).1 (TX4 k).2.1 (TX4 k).2.2.1 ∈ lw_all) (hv : (tfs a t)[k]? = some v) (hdg : decode cc pc = .ok (.getfield index, 3))
    (kk : W p l e R s m args below meth c H locs cells slots Q (F0 m (pc + 3) ls (v :: rest))) : W p l e R s m args below meth c H locs cells slots Q (F0 m pc ls (.ref (a 42) :: rest)) :=
  va_get (D := D) (ci := 0) (v := v) (C := RX4) (T := TX4) (N := 42) C.1 C.2.1 C.2.2.2.2 in_X4 C.2.2.2.1 hK hT.1 0 rfl rfl k hk (C.2.2.2.2 _ hl) (fun _ h => h) hv hdg kk
theorem t_put (C : CallFix p m c cc nL s args lw_all RX4) (hK : va_K D db_cls (db_tys d) s) (hT : TH D A s.heap (wT d a t) H locs) (k : Nat) {index : Nat} {v : Int32} (hk : k < 42) (hl : Cond.fieldLink RX4 index (TX4 k).1 (TX4 k).2.1 (TX4 k).2.2.1 ∈ lw_all) (hset : (tfs a t).set k (.int v) = tfs a (tsI t k v)) (hfin : (TX4 k).2.2.2 = false) (hty : tyX4 k = .int) (hdg : decode cc pc = .ok (.putfield index, 3))
    (kk : ∀ (t1 : TS) (H1 : Heap) (locs1 : List Loc), t1 = tsI t k v → TH D A s.heap (wT d a t1) H1 locs1 → W p l e R s m args below meth c H1 locs1 cells slots Q (F0 m (pc + 3) ls rest)) : W p l e R s m args below meth c H locs cells slots Q (F0 m pc ls (.int v :: .ref (a 42) :: rest)) := by
  refine va_put (D := D) (ci := 0) (v := .int v) (ty := .int) (C := RX4) (T := TX4) (N := 42) C.1 C.2.1 C.2.2.2.2 in_X4 tyX4 tyX4_ok nmX4 C.2.2.2.1 hK hT.1 hT.2.1 hT.2.2 0 rfl rfl k hk (C.2.2.2.2 _ hl) (fun _ h => h) hfin (by rw [tyX4_ok k hk, hty]) rfl rfl hk hdg (fun H1 locs1 hP hD hS => ?_)
  have e : (wT d a t).set 0 (a 42, .inr (0, (tfs a t).set k (.int v))) = wT d a (tsI t k v) := by rw [hset]; rfl
  exact kk _ H1 locs1 rfl ⟨e ▸ hP, e ▸ hD, hS⟩
theorem t_putl (C : CallFix p m c cc nL s args lw_all RX4) (hK : va_K D db_cls (db_tys d) s) (hT : TH D A s.heap (wT d a t) H locs) (k : Nat) {index : Nat} {v : Int64} (hk : k < 42) (hl : Cond.fieldLink RX4 index (TX4 k).1 (TX4 k).2.1 (TX4 k).2.2.1 ∈ lw_all) (hset : (tfs a t).set k (.long v) = tfs a (tsL t k v)) (hfin : (TX4 k).2.2.2 = false) (hty : tyX4 k = .long) (hdg : decode cc pc = .ok (.putfield index, 3))
    (kk : ∀ (t1 : TS) (H1 : Heap) (locs1 : List Loc), t1 = tsL t k v → TH D A s.heap (wT d a t1) H1 locs1 → W p l e R s m args below meth c H1 locs1 cells slots Q (F0 m (pc + 3) ls rest)) : W p l e R s m args below meth c H locs cells slots Q (F0 m pc ls (.long v :: .ref (a 42) :: rest)) := by
  refine va_put (D := D) (ci := 0) (v := .long v) (ty := .long) (C := RX4) (T := TX4) (N := 42) C.1 C.2.1 C.2.2.2.2 in_X4 tyX4 tyX4_ok nmX4 C.2.2.2.1 hK hT.1 hT.2.1 hT.2.2 0 rfl rfl k hk (C.2.2.2.2 _ hl) (fun _ h => h) hfin (by rw [tyX4_ok k hk, hty]) rfl rfl hk hdg (fun H1 locs1 hP hD hS => ?_)
  have e : (wT d a t).set 0 (a 42, .inr (0, (tfs a t).set k (.long v))) = wT d a (tsL t k v) := by rw [hset]; rfl
  exact kk _ H1 locs1 rfl ⟨e ▸ hP, e ▸ hD, hS⟩
section LD
variable {ws : va_W} {b n : Nat} {i : Int32}
theorem g_ild (C : CallFix p m c cc nL s args lw_all own) (hK : va_K D db_cls (db_tys d) s) (hT : TH D A s.heap ws H locs) (p0 : Nat) {f : Nat → Int32} (j : Nat) (ha : ws[p0]? = some (b, .inl (d 0, n, .inl f))) (hin : vp_in i n) (hj : i.toNatClampNeg = j) (hdg : decode cc pc = .ok (.iaload, 1))
    (kk : W p l e R s m args below meth c H locs cells slots Q (F0 m (pc + 1) ls (.int (f j) :: rest))) : W p l e R s m args below meth c H locs cells slots Q (F0 m pc ls (.int i :: .ref b :: rest)) := va_iald C.1 C.2.1 hK hT.1 p0 0 ha rfl hin hdg (by rw [hj]; exact kk)
theorem g_bld (C : CallFix p m c cc nL s args lw_all own) (hK : va_K D db_cls (db_tys d) s) (hT : TH D A s.heap ws H locs) (p0 : Nat) {f : Nat → Int32} (j : Nat) (ha : ws[p0]? = some (b, .inl (d 1, n, .inl f))) (hin : vp_in i n) (hj : i.toNatClampNeg = j) (hdg : decode cc pc = .ok (.baload, 1))
    (kk : W p l e R s m args below meth c H locs cells slots Q (F0 m (pc + 1) ls (.int (f j) :: rest))) : W p l e R s m args below meth c H locs cells slots Q (F0 m pc ls (.int i :: .ref b :: rest)) := va_bald C.1 C.2.1 hK hT.1 p0 1 ha rfl hin hdg (by rw [hj]; exact kk)
theorem g_zld (C : CallFix p m c cc nL s args lw_all own) (hK : va_K D db_cls (db_tys d) s) (hT : TH D A s.heap ws H locs) (p0 : Nat) {f : Nat → Int32} (j : Nat) (ha : ws[p0]? = some (b, .inl (d 3, n, .inl f))) (hin : vp_in i n) (hj : i.toNatClampNeg = j) (hdg : decode cc pc = .ok (.baload, 1))
    (kk : W p l e R s m args below meth c H locs cells slots Q (F0 m (pc + 1) ls (.int (f j) :: rest))) : W p l e R s m args below meth c H locs cells slots Q (F0 m pc ls (.int i :: .ref b :: rest)) := va_zald C.1 C.2.1 hK hT.1 p0 3 ha rfl hin hdg (by rw [hj]; exact kk)
theorem g_lld (C : CallFix p m c cc nL s args lw_all own) (hK : va_K D db_cls (db_tys d) s) (hT : TH D A s.heap ws H locs) (p0 : Nat) {f : Nat → Int64} (j : Nat) (ha : ws[p0]? = some (b, .inl (d 2, n, .inr (.inl f)))) (hin : vp_in i n) (hj : i.toNatClampNeg = j) (hdg : decode cc pc = .ok (.laload, 1))
    (kk : W p l e R s m args below meth c H locs cells slots Q (F0 m (pc + 1) ls (.long (f j) :: rest))) : W p l e R s m args below meth c H locs cells slots Q (F0 m pc ls (.int i :: .ref b :: rest)) := va_lald C.1 C.2.1 hK hT.1 p0 2 ha rfl hin hdg (by rw [hj]; exact kk)
theorem g_ist {ws1 : va_W} (C : CallFix p m c cc nL s args lw_all own) (hK : va_K D db_cls (db_tys d) s) (hT : TH D A s.heap ws H locs) (p0 : Nat) {f : Nat → Int32} {x : Int32} (j : Nat) (ha : ws[p0]? = some (b, .inl (d 0, n, .inl f))) (hin : vp_in i n) (hj : i.toNatClampNeg = j) (hset : ws.set p0 (b, .inl (d 0, n, .inl (upd f j x))) = ws1) (hdg : decode cc pc = .ok (.iastore, 1))
    (kk : ∀ (H1 : Heap) (locs1 : List Loc), TH D A s.heap ws1 H1 locs1 → W p l e R s m args below meth c H1 locs1 cells slots Q (F0 m (pc + 1) ls rest)) : W p l e R s m args below meth c H locs cells slots Q (F0 m pc ls (.int x :: .int i :: .ref b :: rest)) := by
  subst hj; subst hset
  exact va_iast C.1 C.2.1 hK hT.1 hT.2.1 hT.2.2 p0 0 ha rfl hin hdg (fun H1 locs1 hP hD hS => kk H1 locs1 ⟨hP, hD, hS⟩)
theorem g_bst {ws1 : va_W} (C : CallFix p m c cc nL s args lw_all own) (hK : va_K D db_cls (db_tys d) s) (hT : TH D A s.heap ws H locs) (p0 : Nat) {f : Nat → Int32} {x : Int32} (j : Nat) (ha : ws[p0]? = some (b, .inl (d 1, n, .inl f))) (hin : vp_in i n) (hj : i.toNatClampNeg = j) (hset : ws.set p0 (b, .inl (d 1, n, .inl (upd f j (vp_nar .byte x)))) = ws1) (hdg : decode cc pc = .ok (.bastore, 1))
    (kk : ∀ (H1 : Heap) (locs1 : List Loc), TH D A s.heap ws1 H1 locs1 → W p l e R s m args below meth c H1 locs1 cells slots Q (F0 m (pc + 1) ls rest)) : W p l e R s m args below meth c H locs cells slots Q (F0 m pc ls (.int x :: .int i :: .ref b :: rest)) := by
  subst hj; subst hset
  exact va_bast C.1 C.2.1 hK hT.1 hT.2.1 hT.2.2 p0 1 ha rfl hin hdg (fun H1 locs1 hP hD hS => kk H1 locs1 ⟨hP, hD, hS⟩)
theorem g_zst {ws1 : va_W} (C : CallFix p m c cc nL s args lw_all own) (hK : va_K D db_cls (db_tys d) s) (hT : TH D A s.heap ws H locs) (p0 : Nat) {f : Nat → Int32} {x : Int32} (j : Nat) (ha : ws[p0]? = some (b, .inl (d 3, n, .inl f))) (hin : vp_in i n) (hj : i.toNatClampNeg = j) (hset : ws.set p0 (b, .inl (d 3, n, .inl (upd f j (vp_nar .boolean x)))) = ws1) (hdg : decode cc pc = .ok (.bastore, 1))
    (kk : ∀ (H1 : Heap) (locs1 : List Loc), TH D A s.heap ws1 H1 locs1 → W p l e R s m args below meth c H1 locs1 cells slots Q (F0 m (pc + 1) ls rest)) : W p l e R s m args below meth c H locs cells slots Q (F0 m pc ls (.int x :: .int i :: .ref b :: rest)) := by
  subst hj; subst hset
  exact va_zast C.1 C.2.1 hK hT.1 hT.2.1 hT.2.2 p0 3 ha rfl hin hdg (fun H1 locs1 hP hD hS => kk H1 locs1 ⟨hP, hD, hS⟩)
theorem g_lst {ws1 : va_W} (C : CallFix p m c cc nL s args lw_all own) (hK : va_K D db_cls (db_tys d) s) (hT : TH D A s.heap ws H locs) (p0 : Nat) {f : Nat → Int64} {x : Int64} (j : Nat) (ha : ws[p0]? = some (b, .inl (d 2, n, .inr (.inl f)))) (hin : vp_in i n) (hj : i.toNatClampNeg = j) (hset : ws.set p0 (b, .inl (d 2, n, .inr (.inl (vp_updL f j x)))) = ws1) (hdg : decode cc pc = .ok (.lastore, 1))
    (kk : ∀ (H1 : Heap) (locs1 : List Loc), TH D A s.heap ws1 H1 locs1 → W p l e R s m args below meth c H1 locs1 cells slots Q (F0 m (pc + 1) ls rest)) : W p l e R s m args below meth c H locs cells slots Q (F0 m pc ls (.long x :: .int i :: .ref b :: rest)) := by
  subst hj; subst hset
  exact va_last C.1 C.2.1 hK hT.1 hT.2.1 hT.2.2 p0 2 ha rfl hin hdg (fun H1 locs1 hP hD hS => kk H1 locs1 ⟨hP, hD, hS⟩)
end LD
theorem g_ldc (C : CallFix p m c cc nL s args lw_all own) {index : Nat} {v : Int32} (hq : Cond.constant own index v ∈ lw_all) (hdg : decode cc pc = .ok (.ldc index, 2)) (k : W p l e R s m args below meth c H locs cells slots Q (F0 m (pc + 2) ls (.int v :: rest))) : W p l e R s m args below meth c H locs cells slots Q (F0 m pc ls rest) := lv_ldc C.1 C.2.1 C.2.2.2.1 (C.2.2.2.2 _ hq) hdg k
theorem g_ldcw (C : CallFix p m c cc nL s args lw_all own) {index : Nat} {v : Int32} (hq : Cond.constant own index v ∈ lw_all) (hdg : decode cc pc = .ok (.ldc_w index, 3)) (k : W p l e R s m args below meth c H locs cells slots Q (F0 m (pc + 3) ls (.int v :: rest))) : W p l e R s m args below meth c H locs cells slots Q (F0 m pc ls rest) := lv_ldcw C.1 C.2.1 C.2.2.2.1 (C.2.2.2.2 _ hq) hdg k
theorem g_ldc2 (C : CallFix p m c cc nL s args lw_all own) {index : Nat} {v : Int64} (hq : Cond.constantLong own index v ∈ lw_all) (hdg : decode cc pc = .ok (.ldc2_w index, 3)) (k : W p l e R s m args below meth c H locs cells slots Q (F0 m (pc + 3) ls (.long v :: rest))) : W p l e R s m args below meth c H locs cells slots Q (F0 m pc ls rest) := lv_ldc2 C.1 C.2.1 C.2.2.2.1 (C.2.2.2.2 _ hq) hdg k
/-- behind a call whose frame is the twin's world -/
theorem t_after {t' : TS} {T2 : State} {H1 : Heap} {locs1 : List Loc} (hT : TH D A s.heap (wT d a t) H locs) (ht : T2.heap = H1) (hB : va_P D db_cls (wT d a t') T2.heap) (hS : va_S A s.heap H1 locs1) : TH D A s.heap (wT d a t') H1 locs1 :=
  ⟨by rw [← ht]; exact hB, va_D_fst ((wT_fst d a t).trans (wT_fst d a t').symm) hT.2.1, hS⟩
theorem AT_mono {sz sz' : Nat} (h : sz ≤ sz') (q : Nat) (h1 : AT a sz' q) : AT a sz q := by
  rcases h1 with h1 | h1
  · exact Or.inl h1
  · exact Or.inr (Nat.le_trans h h1)
section CALLS
variable {y : MethodName} {bytes : ByteArray} {maxL idx n : Nat} {rt : FieldType} {rm : Room} {vs st0 : List Value} {t' : TS}
theorem t_pre (hK : va_K D db_cls (db_tys d) s) (hT : TH D A s.heap (wT d a t) H locs) : PreV s H RX4 (a 42) (PcT D d a vs t H.size) vs :=
  ⟨fun a' U g mk q => by obtain ⟨q0, q1, qP, qK, qD⟩ := q; exact ⟨q0, q1, qP, va_K.moved (u := U) (U := U.calling g mk a') (Vm.Alike.refl U.vm) qK, qD⟩, va_recv hK hT.1 (ci := 0) (q0 := 0) rfl rfl, fun U hU hW => ⟨rfl, by rw [hU], by rw [hU]; exact hT.1, va_K.moved hW.alike hK, hT.2.1.weaken (fun _ _ _ _ => trivial)⟩⟩
theorem t_calli {r : Int32} (C : CallFix p m c cc nL s args lw_all RX4) (hK : va_K D db_cls (db_tys d) s) (hT : TH D (AT a s.heap.size) s.heap (wT d a t) H locs) (hM : ∀ sz, Met l y (ws_ y bytes maxL (some rt)) rm (PcT D d a vs t sz) (QiT D d a r t' sz) 0 0 (AT a sz)) (cw : CallW R s args RX4 RX4 idx y bytes maxL (some rt) (ws_ y bytes maxL (some rt)) rm 0 0 n) (hn : vs.length = n) (hsize : ls.size = nL) (hst : st0 = vs.reverse ++ .ref (a 42) :: rest) (hroom : (rest.map fun v => v.category).sum ≤ 8) (hdg : decode cc pc = .ok (.invokevirtual idx, 3))
    (k : ∀ (H1 : Heap) (locs1 : List Loc), TH D (AT a s.heap.size) s.heap (wT d a t') H1 locs1 → W p l e R s m args below meth c H1 locs1 0 0 Q (F0 m (pc + 3) ls (.int r :: rest))) : W p l e R s m args below meth c H locs 0 0 Q (F0 m pc ls st0) := by
  refine va_calli (va_runV (As := vs) (rest := rest) C (hM H.size) cw (t_pre hK hT) rfl hn hsize hst (lv_room hroom) hdg ⟨Nat.zero_le _, Nat.zero_le _⟩) hT.2.2 (fun q _ h => AT_mono hT.2.2.1 q h) (fun q h => AT_mono hT.2.2.1 q h) (fun r1 u T2 H1 locs1 ht hvm hw1 hB hz1 hk1 hS => ?_)
  subst hw1
  exact k H1 locs1 (t_after hT ht hB hS)
theorem t_calll {r : Int64} (C : CallFix p m c cc nL s args lw_all RX4) (hK : va_K D db_cls (db_tys d) s) (hT : TH D (AT a s.heap.size) s.heap (wT d a t) H locs) (hM : ∀ sz, Met l y (ws_ y bytes maxL (some rt)) rm (PcT D d a vs t sz) (QlT D d a r t' sz) 0 0 (AT a sz)) (cw : CallW R s args RX4 RX4 idx y bytes maxL (some rt) (ws_ y bytes maxL (some rt)) rm 0 0 n) (hn : vs.length = n) (hsize : ls.size = nL) (hst : st0 = vs.reverse ++ .ref (a 42) :: rest) (hroom : (rest.map fun v => v.category).sum ≤ 8) (hdg : decode cc pc = .ok (.invokevirtual idx, 3))
    (k : ∀ (H1 : Heap) (locs1 : List Loc), TH D (AT a s.heap.size) s.heap (wT d a t') H1 locs1 → W p l e R s m args below meth c H1 locs1 0 0 Q (F0 m (pc + 3) ls (.long r :: rest))) : W p l e R s m args below meth c H locs 0 0 Q (F0 m pc ls st0) := by
  refine va_calll (va_runV (As := vs) (rest := rest) C (hM H.size) cw (t_pre hK hT) rfl hn hsize hst (lv_room hroom) hdg ⟨Nat.zero_le _, Nat.zero_le _⟩) hT.2.2 (fun q _ h => AT_mono hT.2.2.1 q h) (fun q h => AT_mono hT.2.2.1 q h) (fun r1 u T2 H1 locs1 ht hvm hw1 hB hz1 hk1 hS => ?_)
  subst hw1
  exact k H1 locs1 (t_after hT ht hB hS)
theorem t_callv (C : CallFix p m c cc nL s args lw_all RX4) (hK : va_K D db_cls (db_tys d) s) (hT : TH D (AT a s.heap.size) s.heap (wT d a t) H locs) (hM : ∀ sz, Met l y (ws_ y bytes maxL none) rm (PcT D d a vs t sz) (QvT D d a t' sz) 0 0 (AT a sz)) (cw : CallW R s args RX4 RX4 idx y bytes maxL none (ws_ y bytes maxL none) rm 0 0 n) (hn : vs.length = n) (hsize : ls.size = nL) (hst : st0 = vs.reverse ++ .ref (a 42) :: rest) (hroom : (rest.map fun v => v.category).sum ≤ 8) (hdg : decode cc pc = .ok (.invokevirtual idx, 3))
    (k : ∀ (H1 : Heap) (locs1 : List Loc), TH D (AT a s.heap.size) s.heap (wT d a t') H1 locs1 → W p l e R s m args below meth c H1 locs1 0 0 Q (F0 m (pc + 3) ls rest)) : W p l e R s m args below meth c H locs 0 0 Q (F0 m pc ls st0) := by
  refine va_callv (va_runV (As := vs) (rest := rest) C (hM H.size) cw (t_pre hK hT) rfl hn hsize hst (lv_room hroom) hdg ⟨Nat.zero_le _, Nat.zero_le _⟩) hT.2.2 (fun q _ h => AT_mono hT.2.2.1 q h) (fun q h => AT_mono hT.2.2.1 q h) (fun u T2 H1 locs1 ht hvm hw1 hB hz1 hk1 hS => ?_)
  exact k H1 locs1 (t_after hT ht hB hS)
theorem s_after {ws : va_W} {H1 : Heap} {locs1 : List Loc} (hT : TH D A s.heap ws H locs) (hk1 : ∀ q : Nat, q < H.size → ¬ H.size ≤ q → H1[q]? = H[q]?) (hS : va_S A s.heap H1 locs1) : TH D A s.heap ws H1 locs1 :=
  ⟨hT.1.kept (fun k q hq => hk1 q.1 (hT.1 k q hq).lt (Nat.not_le.mpr (hT.1 k q hq).lt)), hT.2.1, hS⟩
theorem s_calli {ws : va_W} {r : Int32} (C : CallFix p m c cc nL s args lw_all own) (hA : ∀ q, s.heap.size ≤ q → A q) (hT : TH D A s.heap ws H locs) (hM : ∀ sz, Met l y (ws_ y bytes maxL (some rt)) rm (PcS vs sz) (QiS r sz) 0 0 (fun q => sz ≤ q)) (cw : CallB R s args own idx y bytes maxL (some rt) (ws_ y bytes maxL (some rt)) rm 0 0 n ∧ (Cond.static y).before args s = true) (hn : vs.length = n) (hsize : ls.size = nL) (hst : st0 = vs.reverse ++ rest) (hroom : (rest.map fun v => v.category).sum ≤ 8) (hdg : decode cc pc = .ok (.invokestatic idx, 3)) (hf : cells + 0 ≤ R.cells ∧ slots + 0 ≤ R.slots)
    (k : ∀ (H1 : Heap) (locs1 : List Loc), TH D A s.heap ws H1 locs1 → W p l e R s m args below meth c H1 locs1 cells slots Q (F0 m (pc + 3) ls (.int r :: rest))) : W p l e R s m args below meth c H locs cells slots Q (F0 m pc ls st0) := by
  refine va_calli (va_runS (As := vs) (rest := rest) C (hM H.size) cw ⟨fun a' U g mk q => q, fun U hU hW => ⟨rfl, by subst hU; rfl⟩⟩ rfl hn hsize hst (lv_room hroom) hdg hf) hT.2.2 (fun q _ h => hA q (Nat.le_trans hT.2.2.1 h)) (fun q h => hA q (Nat.le_trans hT.2.2.1 h)) (fun r1 u T2 H1 locs1 ht hvm hw1 hB hz1 hk1 hS => ?_)
  subst hw1
  exact k H1 locs1 (s_after hT hk1 hS)
theorem s_calll {ws : va_W} {r : Int64} (C : CallFix p m c cc nL s args lw_all own) (hA : ∀ q, s.heap.size ≤ q → A q) (hT : TH D A s.heap ws H locs) (hM : ∀ sz, Met l y (ws_ y bytes maxL (some rt)) rm (PcS vs sz) (QlS r sz) 0 0 (fun q => sz ≤ q)) (cw : CallB R s args own idx y bytes maxL (some rt) (ws_ y bytes maxL (some rt)) rm 0 0 n ∧ (Cond.static y).before args s = true) (hn : vs.length = n) (hsize : ls.size = nL) (hst : st0 = vs.reverse ++ rest) (hroom : (rest.map fun v => v.category).sum ≤ 8) (hdg : decode cc pc = .ok (.invokestatic idx, 3)) (hf : cells + 0 ≤ R.cells ∧ slots + 0 ≤ R.slots)
    (k : ∀ (H1 : Heap) (locs1 : List Loc), TH D A s.heap ws H1 locs1 → W p l e R s m args below meth c H1 locs1 cells slots Q (F0 m (pc + 3) ls (.long r :: rest))) : W p l e R s m args below meth c H locs cells slots Q (F0 m pc ls st0) := by
  refine va_calll (va_runS (As := vs) (rest := rest) C (hM H.size) cw ⟨fun a' U g mk q => q, fun U hU hW => ⟨rfl, by subst hU; rfl⟩⟩ rfl hn hsize hst (lv_room hroom) hdg hf) hT.2.2 (fun q _ h => hA q (Nat.le_trans hT.2.2.1 h)) (fun q h => hA q (Nat.le_trans hT.2.2.1 h)) (fun r1 u T2 H1 locs1 ht hvm hw1 hB hz1 hk1 hS => ?_)
  subst hw1
  exact k H1 locs1 (s_after hT hk1 hS)
end CALLS
theorem t_iret {v : Int32} {q : Int32 × TS} (C : CallFix p m c cc nL s args lw_all RX4) (hT : TH D (AT a s.heap.size) s.heap (wT d a t) H locs) (hf : some (v, t) = some q) (hr : meth.sig.returnType = some .int) (hlocks : meth.locks = false) (hdg : decode cc pc = .ok (.ireturn, 1)) : W p l e R s m args below meth c H locs 0 0 (MQ below (QiT D d a q.1 q.2 s.heap.size) args s 0 0 (AT a s.heap.size)) (F0 m pc ls [.int v]) := by
  cases hf
  exact W.iret C.1 C.2.1 hr (fun t0 ht hW => ⟨⟨v, (), rfl, rfl, by subst ht; exact hT.1⟩, hT.2.2.F ht⟩) hT.2.2.2.2 hdg hlocks
theorem t_zret {v : Int32} {q : Int32 × TS} (C : CallFix p m c cc nL s args lw_all RX4) (hT : TH D (AT a s.heap.size) s.heap (wT d a t) H locs) (hf : some (v, t) = some q) (hz : v = 0 ∨ v = 1) (hr : meth.sig.returnType = some .boolean) (hlocks : meth.locks = false) (hdg : decode cc pc = .ok (.ireturn, 1)) : W p l e R s m args below meth c H locs 0 0 (MQ below (QiT D d a q.1 q.2 s.heap.size) args s 0 0 (AT a s.heap.size)) (F0 m pc ls [.int v]) := by
  cases hf
  exact W.zret C.1 C.2.1 hr (z01 hz) (fun t0 ht hW => ⟨⟨v, (), rfl, rfl, by subst ht; exact hT.1⟩, hT.2.2.F ht⟩) hT.2.2.2.2 hdg hlocks
theorem t_lret {v : Int64} {q : Int64 × TS} (C : CallFix p m c cc nL s args lw_all RX4) (hT : TH D (AT a s.heap.size) s.heap (wT d a t) H locs) (hf : some (v, t) = some q) (hr : meth.sig.returnType = some .long) (hlocks : meth.locks = false) (hdg : decode cc pc = .ok (.lreturn, 1)) : W p l e R s m args below meth c H locs 0 0 (MQ below (QlT D d a q.1 q.2 s.heap.size) args s 0 0 (AT a s.heap.size)) (F0 m pc ls [.long v]) := by
  cases hf
  exact W.lret C.1 C.2.1 hr (fun t0 ht hW => ⟨⟨v, (), rfl, rfl, by subst ht; exact hT.1⟩, hT.2.2.F ht⟩) hT.2.2.2.2 hdg hlocks
theorem t_vret {q : TS} (C : CallFix p m c cc nL s args lw_all RX4) (hT : TH D (AT a s.heap.size) s.heap (wT d a t) H locs) (hf : some t = some q) (hr : meth.sig.returnType = none) (hlocks : meth.locks = false) (hdg : decode cc pc = .ok (.return_, 1)) : W p l e R s m args below meth c H locs 0 0 (MQ below (QvT D d a q s.heap.size) args s 0 0 (AT a s.heap.size)) (F0 m pc ls []) := by
  cases hf
  exact W.vret C.1 C.2.1 hr (fun t0 ht hW => ⟨⟨(), rfl, trivial, by subst ht; exact hT.1⟩, hT.2.2.F ht⟩) hT.2.2.2.2 hdg hlocks
theorem s_iret {v q : Int32} (C : CallFix p m c cc nL s args lw_all own) (hT : TH D (fun q => s.heap.size ≤ q) s.heap [] H locs) (hf : some v = some q) (hr : meth.sig.returnType = some .int) (hlocks : meth.locks = false) (hdg : decode cc pc = .ok (.ireturn, 1)) : W p l e R s m args below meth c H locs 0 0 (MQ below (QiS q s.heap.size) args s 0 0 (fun q => s.heap.size ≤ q)) (F0 m pc ls [.int v]) := by
  cases hf
  exact W.iret C.1 C.2.1 hr (fun t0 ht hW => ⟨⟨v, (), rfl, rfl, trivial⟩, hT.2.2.F ht⟩) hT.2.2.2.2 hdg hlocks
theorem s_zret {v q : Int32} (C : CallFix p m c cc nL s args lw_all own) (hT : TH D (fun q => s.heap.size ≤ q) s.heap [] H locs) (hf : some v = some q) (hz : v = 0 ∨ v = 1) (hr : meth.sig.returnType = some .boolean) (hlocks : meth.locks = false) (hdg : decode cc pc = .ok (.ireturn, 1)) : W p l e R s m args below meth c H locs 0 0 (MQ below (QiS q s.heap.size) args s 0 0 (fun q => s.heap.size ≤ q)) (F0 m pc ls [.int v]) := by
  cases hf
  exact W.zret C.1 C.2.1 hr (z01 hz) (fun t0 ht hW => ⟨⟨v, (), rfl, rfl, trivial⟩, hT.2.2.F ht⟩) hT.2.2.2.2 hdg hlocks
theorem s_lret {v q : Int64} (C : CallFix p m c cc nL s args lw_all own) (hT : TH D (fun q => s.heap.size ≤ q) s.heap [] H locs) (hf : some v = some q) (hr : meth.sig.returnType = some .long) (hlocks : meth.locks = false) (hdg : decode cc pc = .ok (.lreturn, 1)) : W p l e R s m args below meth c H locs 0 0 (MQ below (QlS q s.heap.size) args s 0 0 (fun q => s.heap.size ≤ q)) (F0 m pc ls [.long v]) := by
  cases hf
  exact W.lret C.1 C.2.1 hr (fun t0 ht hW => ⟨⟨v, (), rfl, rfl, trivial⟩, hT.2.2.F ht⟩) hT.2.2.2.2 hdg hlocks
end TW
section TW2
variable {p : Program} {l : Launch} {e : Env} {R : Room} {s : State} {m : MethodId} {args : Array Value} {below : List Frame} {meth : Method} {c : Code} {H : Heap} {locs : List Loc} {cells slots : Nat} {Q : State → Prop}
variable {cc : ByteArray} {nL pc : Nat} {ls : Array Slot} {rest : List Value} {D : va_G} {d : Nat → ClassId} {a : Nat → Nat} {A : Nat → Prop} {t : TS} {own : String}
theorem t_ist {k n : Nat} {i x : Int32} (C : CallFix p m c cc nL s args lw_all own) (hV : va_K D db_cls (db_tys d) s) (hT : TH D A s.heap (wT d a t) H locs) (p0 j : Nat) (ha : (wT d a t)[p0]? = some (a k, .inl (d 0, n, .inl (t.2.1 k)))) (hin : vp_in i n) (hj : i.toNatClampNeg = j) (hset : (wT d a t).set p0 (a k, .inl (d 0, n, .inl (upd (t.2.1 k) j x))) = wT d a (tsA t k j x)) (hdg : decode cc pc = .ok (.iastore, 1))
    (kk : ∀ (t1 : TS) (H1 : Heap) (locs1 : List Loc), t1 = tsA t k j x → TH D A s.heap (wT d a t1) H1 locs1 → W p l e R s m args below meth c H1 locs1 cells slots Q (F0 m (pc + 1) ls rest)) : W p l e R s m args below meth c H locs cells slots Q (F0 m pc ls (.int x :: .int i :: .ref (a k) :: rest)) :=
  g_ist C hV hT p0 j ha hin hj hset hdg (fun H1 locs1 h => kk _ H1 locs1 rfl h)
theorem t_bst {k n : Nat} {i x : Int32} (C : CallFix p m c cc nL s args lw_all own) (hV : va_K D db_cls (db_tys d) s) (hT : TH D A s.heap (wT d a t) H locs) (p0 j : Nat) (ha : (wT d a t)[p0]? = some (a k, .inl (d 1, n, .inl (t.2.1 k)))) (hin : vp_in i n) (hj : i.toNatClampNeg = j) (hset : (wT d a t).set p0 (a k, .inl (d 1, n, .inl (upd (t.2.1 k) j (vp_nar .byte x)))) = wT d a (tsA t k j (vp_nar .byte x))) (hdg : decode cc pc = .ok (.bastore, 1))
    (kk : ∀ (t1 : TS) (H1 : Heap) (locs1 : List Loc), t1 = tsA t k j (vp_nar .byte x) → TH D A s.heap (wT d a t1) H1 locs1 → W p l e R s m args below meth c H1 locs1 cells slots Q (F0 m (pc + 1) ls rest)) : W p l e R s m args below meth c H locs cells slots Q (F0 m pc ls (.int x :: .int i :: .ref (a k) :: rest)) :=
  g_bst C hV hT p0 j ha hin hj hset hdg (fun H1 locs1 h => kk _ H1 locs1 rfl h)
theorem t_zst {k n : Nat} {i x : Int32} (C : CallFix p m c cc nL s args lw_all own) (hV : va_K D db_cls (db_tys d) s) (hT : TH D A s.heap (wT d a t) H locs) (p0 j : Nat) (ha : (wT d a t)[p0]? = some (a k, .inl (d 3, n, .inl (t.2.1 k)))) (hin : vp_in i n) (hj : i.toNatClampNeg = j) (hset : (wT d a t).set p0 (a k, .inl (d 3, n, .inl (upd (t.2.1 k) j (vp_nar .boolean x)))) = wT d a (tsA t k j (vp_nar .boolean x))) (hdg : decode cc pc = .ok (.bastore, 1))
    (kk : ∀ (t1 : TS) (H1 : Heap) (locs1 : List Loc), t1 = tsA t k j (vp_nar .boolean x) → TH D A s.heap (wT d a t1) H1 locs1 → W p l e R s m args below meth c H1 locs1 cells slots Q (F0 m (pc + 1) ls rest)) : W p l e R s m args below meth c H locs cells slots Q (F0 m pc ls (.int x :: .int i :: .ref (a k) :: rest)) :=
  g_zst C hV hT p0 j ha hin hj hset hdg (fun H1 locs1 h => kk _ H1 locs1 rfl h)
theorem t_lst {k n : Nat} {i : Int32} {x : Int64} (C : CallFix p m c cc nL s args lw_all own) (hV : va_K D db_cls (db_tys d) s) (hT : TH D A s.heap (wT d a t) H locs) (p0 j : Nat) (ha : (wT d a t)[p0]? = some (a k, .inl (d 2, n, .inr (.inl (t.2.2.2 k))))) (hin : vp_in i n) (hj : i.toNatClampNeg = j) (hset : (wT d a t).set p0 (a k, .inl (d 2, n, .inr (.inl (vp_updL (t.2.2.2 k) j x)))) = wT d a (tsM t k j x)) (hdg : decode cc pc = .ok (.lastore, 1))
    (kk : ∀ (t1 : TS) (H1 : Heap) (locs1 : List Loc), t1 = tsM t k j x → TH D A s.heap (wT d a t1) H1 locs1 → W p l e R s m args below meth c H1 locs1 cells slots Q (F0 m (pc + 1) ls rest)) : W p l e R s m args below meth c H locs cells slots Q (F0 m pc ls (.long x :: .int i :: .ref (a k) :: rest)) :=
  g_lst C hV hT p0 j ha hin hj hset hdg (fun H1 locs1 h => kk _ H1 locs1 rfl h)
end TW2
theorem vin_of {i : Int32} {n : Nat} (h : ¬ (i < 0 ∨ n ≤ i.toNatClampNeg)) : vp_in i n := h
def irem (x y : Int32) : Int32 := x - x / y * y
def lrem (x y : Int64) : Int64 := x - x / y * y
section GR
variable {p : Program} {l : Launch} {e : Env} {R : Room} {s : State} {m : MethodId} {args : Array Value} {below : List Frame} {meth : Method} {c : Code} {H : Heap} {locs : List Loc} {cells slots : Nat} {Q : State → Prop} {cc : ByteArray} {pc : Nat} {ls : Array Slot} {rest : List Value}
theorem g_irem (hexec : p.tables.exec = Jvm.exec) (hb : c.code = cc) {x y : Int32} (hdg : decode cc pc = .ok (.irem, 1)) (hne : ¬ y = 0)
    (k : W p l e R s m args below meth c H locs cells slots Q (F0 m (pc + 1) ls (.int (irem x y) :: rest))) : W p l e R s m args below meth c H locs cells slots Q (F0 m pc ls (.int y :: .int x :: rest)) := lv_irem hexec hb hdg hne k
theorem g_lrem (hexec : p.tables.exec = Jvm.exec) (hb : c.code = cc) {x y : Int64} (hdg : decode cc pc = .ok (.lrem, 1)) (hne : ¬ y = 0)
    (k : W p l e R s m args below meth c H locs cells slots Q (F0 m (pc + 1) ls (.long (lrem x y) :: rest))) : W p l e R s m args below meth c H locs cells slots Q (F0 m pc ls (.long y :: .long x :: rest)) := lv_lrem hexec hb hdg hne k
end GR
