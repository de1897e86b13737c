set_option maxRecDepth 100000
/-! ===== rules that are only read: trees by what they mean ===== -/
abbrev FV : Type := (Nat → Int64) → Int64
abbrev FC : Type := (Nat → Int64) → Int32
/-- what a sign does with two numbers -/
def jop (sg : Int32) (x y : Int64) : Int64 := if ¬ sg = 43 then (if ¬ sg = 45 then (if ¬ sg = 42 then (if y = 0 then 0 else if ¬ sg = 47 then lrem x y else x / y) else x * y) else x - y) else x + y
def jcmp (sg sm : Int32) (x y : Int64) : Int32 := if x = y then (if sg = 61 then 1 else if sm = 0 then 0 else 1) else if sg = 60 then (if x < y then 1 else 0) else if sg = 62 then (if x ≤ y then 0 else 1) else 0
def VT (P : Nat → va_E → Prop) : Nat → Nat → FV → Prop
  | 0, _, _ => False
  | n + 1, a, f => (∃ k : Int32, P a (.inr (9, [.int k])) ∧ f = fun _ => k.toInt64) ∨ (∃ k : Int32, P a (.inr (10, [.int k])) ∧ vp_in k 12 ∧ f = fun w => w k.toNatClampNeg) ∨
    (∃ (x y : Nat) (fx fy : FV) (sg : Int32), P a (.inr (11, [.ref x, .ref y, .int sg])) ∧ VT P n x fx ∧ VT P n y fy ∧ f = fun w => jop sg (fx w) (fy w))
def CT (P : Nat → va_E → Prop) : Nat → Nat → FC → Prop
  | 0, _, _ => False
  | n + 1, a, f => (∃ (x y : Nat) (fx fy : FV) (sg sm : Int32), P a (.inr (14, [.ref x, .ref y, .int sg, .int sm])) ∧ VT P 64 x fx ∧ VT P 64 y fy ∧ f = fun w => jcmp sg sm (fx w) (fy w)) ∨
    (∃ (x : Nat) (fx : FC), P a (.inr (13, [.ref x])) ∧ CT P n x fx ∧ f = fun w => if fx w = 0 then 1 else 0) ∨
    (∃ (x y : Nat) (fx fy : FC) (o : Int32), P a (.inr (15, [.ref x, .ref y, .int o])) ∧ CT P n x fx ∧ CT P n y fy ∧ f = fun w => if o = 0 then (if fx w = 0 then 0 else if fy w = 0 then 0 else 1) else (if fx w = 0 then (if fy w = 0 then 0 else 1) else 1))
theorem VT.mono {P P' : Nat → va_E → Prop} (h : ∀ q e, P q e → P' q e) : ∀ (n a : Nat) (f : FV), VT P n a f → VT P' n a f := by
  intro n
  induction n with
  | zero => intro a f hf; exact hf
  | succ n ih =>
    intro a f hf
    rcases hf with ⟨k, h1, h2⟩ | ⟨k, h1, h2⟩ | ⟨x, y, fx, fy, sg, h1, h2, h3, h4⟩
    · exact Or.inl ⟨k, h _ _ h1, h2⟩
    · exact Or.inr (Or.inl ⟨k, h _ _ h1, h2⟩)
    · exact Or.inr (Or.inr ⟨x, y, fx, fy, sg, h _ _ h1, ih _ _ h2, ih _ _ h3, h4⟩)
theorem CT.mono {P P' : Nat → va_E → Prop} (h : ∀ q e, P q e → P' q e) : ∀ (n a : Nat) (f : FC), CT P n a f → CT P' n a f := by
  intro n
  induction n with
  | zero => intro a f hf; exact hf
  | succ n ih =>
    intro a f hf
    rcases hf with ⟨x, y, fx, fy, sg, sm, h1, h2, h3, h4⟩ | ⟨x, fx, h1, h2, h3⟩ | ⟨x, y, fx, fy, o, h1, h2, h3, h4⟩
    · exact Or.inl ⟨x, y, fx, fy, sg, sm, h _ _ h1, h2.mono h, h3.mono h, h4⟩
    · exact Or.inr (Or.inl ⟨x, fx, h _ _ h1, ih _ _ h2, h3⟩)
    · exact Or.inr (Or.inr ⟨x, y, fx, fy, o, h _ _ h1, ih _ _ h2, ih _ _ h3, h4⟩)
/-- the first clause that holds says by its sum -/
def letsG (fc : Nat → FC) (fv : Nat → FV) (w : Nat → Int64) : Nat → Nat → Int32
  | 0, _ => 0
  | m + 1, k => if fc k w = 0 then letsG fc fv w m (k + 1) else if fv k w ≤ 0 then 0 else 1
def CO (P : Nat → va_E → Prop) (c : Option Nat) (f : FC) : Prop := (c = none ∧ f = fun _ => 1) ∨ ∃ y, c = some y ∧ CT P 128 y f
def RuleAt (d : Nat → ClassId) (x : Nat) (g : FC) (P : Nat → va_E → Prop) : Prop :=
  ∃ (lst el n cap : Nat) (mc : Int32) (f : Nat → Option Nat) (tx vx : Nat → Nat) (cx : Nat → Option Nat) (fv : Nat → FV) (fc : Nat → FC),
    P x (.inr (8, [.ref lst])) ∧ P lst (.inr (4, [.int mc, .ref el, .int (nI n)])) ∧ n ≤ cap ∧ n ≤ 12 ∧ P el (.inl (d 6, cap, .inr (.inr (.inr (.inr f))))) ∧
    (∀ k, k < n → f k = some (tx k) ∧ P (tx k) (.inr (12, [.ref (vx k), va_rf (cx k)])) ∧ VT P 64 (vx k) (fv k) ∧ CO P (cx k) (fc k)) ∧ g = fun w => letsG fc fv w n 0
theorem RuleAt.mono {P P' : Nat → va_E → Prop} (h : ∀ q e, P q e → P' q e) {d : Nat → ClassId} {x : Nat} {g : FC} (hr : RuleAt d x g P) : RuleAt d x g P' := by
  obtain ⟨lst, el, n, cap, mc, f, tx, vx, cx, fv, fc, h1, h2, h3, h4, h5, h6, h7⟩ := hr
  refine ⟨lst, el, n, cap, mc, f, tx, vx, cx, fv, fc, h _ _ h1, h _ _ h2, h3, h4, h _ _ h5, fun k hk => ?_, h7⟩
  obtain ⟨g1, g2, g3, g4⟩ := h6 k hk
  refine ⟨g1, h _ _ g2, g3.mono h, ?_⟩
  rcases g4 with g4 | ⟨y, g4, g5⟩
  · exact Or.inl g4
  · exact Or.inr ⟨y, g4, g5.mono h⟩
theorem RuleAt.obj {d : Nat → ClassId} {x : Nat} {g : FC} {P : Nat → va_E → Prop} (hr : RuleAt d x g P) : ∃ lst, P x (.inr (8, [.ref lst])) := by
  obtain ⟨lst, el, n, cap, mc, f, tx, vx, cx, fv, fc, h1, -⟩ := hr
  exact ⟨lst, h1⟩
theorem RuleAt.step {D : va_G} {d : Nat → ClassId} {x : Nat} {g : FC} {A B : Nat → Prop} {H0 H : Heap} {locs : List Loc} (h : RuleAt d x g (FzP D A H0)) (hS : va_S A H0 H locs) (hB : ∀ q, B q → A q) : RuleAt d x g (FzP D B H) := h.mono (fun _ _ h => h.step hS hB)
/-- the list of rules, at the cell b -/
def RAt (d : Nat → ClassId) (b : Nat) (r : RS) (P : Nat → va_E → Prop) : Prop :=
  ∃ (mc : Int32) (el n cap : Nat) (f : Nat → Option Nat) (rx : Nat → Nat), P b (.inr (4, [.int mc, .ref el, .int r.1])) ∧ r.1 = nI n ∧ n ≤ 6 ∧ n ≤ cap ∧ P el (.inl (d 6, cap, .inr (.inr (.inr (.inr f))))) ∧ ∀ k, k < n → f k = some (rx k) ∧ RuleAt d (rx k) (r.2 k) P
theorem RAt.mono {P P' : Nat → va_E → Prop} (h : ∀ q e, P q e → P' q e) {d : Nat → ClassId} {b : Nat} {r : RS} (hr : RAt d b r P) : RAt d b r P' := by
  obtain ⟨mc, el, n, cap, f, rx, h1, h2, h3, h4, h5, h6⟩ := hr
  exact ⟨mc, el, n, cap, f, rx, h _ _ h1, h2, h3, h4, h _ _ h5, fun k hk => ⟨(h6 k hk).1, (h6 k hk).2.mono h⟩⟩
theorem RAt.step {D : va_G} {d : Nat → ClassId} {b : Nat} {r : RS} {A B : Nat → Prop} {H0 H : Heap} {locs : List Loc} (h : RAt d b r (FzP D A H0)) (hS : va_S A H0 H locs) (hB : ∀ q, B q → A q) : RAt d b r (FzP D B H) := h.mono (fun _ _ h => h.step hS hB)
theorem RAt.unpack {d : Nat → ClassId} {b : Nat} {r : RS} {P : Nat → va_E → Prop} (hr : RAt d b r P) : ∃ (mc : Int32) (el cap : Nat) (f : Nat → Option Nat), P b (.inr (4, [.int mc, .ref el, .int r.1])) ∧ P el (.inl (d 6, cap, .inr (.inr (.inr (.inr f))))) ∧ r.1.toNatClampNeg ≤ cap ∧ ∀ i : Int32, vp_in i r.1.toNatClampNeg → ∃ x lst, f i.toNatClampNeg = some x ∧ RuleAt d x (r.2 i.toNatClampNeg) P ∧ P x (.inr (8, [.ref lst])) := by
  obtain ⟨mc, el, n, cap, f, rx, h1, h2, h3, h4, h5, h6⟩ := hr
  have e6 : r.1.toNatClampNeg = n := by rw [h2]; exact nI_clamp (by omega)
  refine ⟨mc, el, cap, f, h1, h5, by rw [e6]; exact h4, fun i hi => ?_⟩
  have h7 : i.toNatClampNeg < n := by rw [← e6]; exact Nat.not_le.mp fun q => hi (Or.inr q)
  obtain ⟨lst, h8⟩ := (h6 _ h7).2.obj
  exact ⟨_, lst, (h6 _ h7).1, (h6 _ h7).2, h8⟩
theorem vin26p {i : Int32} (h : vp_in i 20) : 6 + i.toNatClampNeg < 26 := by have := Nat.not_le.mp fun q => h (Or.inr q); omega
theorem vin26s {i : Int32} (h : vp_in i 4) : 2 + i.toNatClampNeg < 26 := by have := Nat.not_le.mp fun q => h (Or.inr q); omega
theorem wC_pos {d : Nat → ClassId} {a ja : Nat → Nat} {c : CS} {i : Nat} (hi : i < 26) (k : Nat) {q : Nat × va_E} (h : (wS d (sa a i) (c.2.2.2 i))[k]? = some q) : ∃ p0 : Nat, (wC d a ja c)[p0]? = some q := List.getElem?_of_mem (wC_mem hi (List.mem_of_getElem? h))
theorem TH.ats {D : va_G} {A : Nat → Prop} {H0 H : Heap} {locs : List Loc} {d : Nat → ClassId} {a ja : Nat → Nat} {c : CS} (hT : TH D A H0 (wC d a ja c) H locs) {i : Nat} (hi : i < 26) (k : Nat) {q : Nat × va_E} (h : (wS d (sa a i) (c.2.2.2 i))[k]? = some q) : va_at D db_cls q H := hT.at (wC_mem hi (List.mem_of_getElem? h))
theorem A_full {A : Nat → Prop} {d : Nat → ClassId} {a ja : Nat → Nat} {t0 t : CS} {n0 n : Nat} (hA0 : A = va_A (wC d a ja t0) n0) (h : n0 ≤ n) (q : Nat) (hq : va_A (wC d a ja t) n q) : A q := by
  rw [hA0]
  rw [va_A_map, wC_fst] at hq ⊢
  exact hq.imp id (Nat.le_trans h)
theorem A_st {D : va_G} {A : Nat → Prop} {H0 H : Heap} {locs : List Loc} {d : Nat → ClassId} {a ja : Nat → Nat} {t0 t : CS} {S : SS} {i : Nat} (hA0 : A = va_A (wC d a ja t0) H0.size) (hT : TH D A H0 (wC d a ja t) H locs) (hi : i < 26) (q : Nat) (hq : va_A (wS d (sa a i) S) H.size q) : A q := by
  rw [hA0]
  rw [va_A_map] at hq ⊢
  rw [wC_fst]
  rcases hq with h | h
  · exact Or.inl (List.mem_append_right _ (List.mem_flatMap.mpr ⟨i, List.mem_range.mpr hi, h⟩))
  · exact Or.inr (Nat.le_trans hT.2.2.1 h)
theorem vin_succ {x : Int32} (h : vp_in x 4) : (x + 1).toNatClampNeg = x.toNatClampNeg + 1 := by
  obtain ⟨j, hj, rfl⟩ := vp_in_of h (by decide)
  rw [nI_1, nI_clamp (by omega), nI_clamp (by omega)]
