set_option maxRecDepth 100000
/-! ===== images ===== -/
/-- an image: ints by field (5 many, 6 force, 7 x), arrays by field (2 when, 3 who, 4 how), its State -/
abbrev GS : Type := (Nat → Int32) × (Nat → Nat → Int32) × SS
def gfs (b c : Nat → Nat) (a32 : Nat) (jr : Option Nat) (g : GS) : List Value := [va_rf jr, .ref (c 0), .ref (b 1), .ref (b 2), .ref (b 3), .int (g.1 5), .int (g.1 6), .int (g.1 7), .ref a32]
def wG (d : Nat → ClassId) (b c : Nat → Nat) (a32 : Nat) (jr : Option Nat) (g : GS) : va_W := (b 0, .inr (16, gfs b c a32 jr g)) :: (wS d c g.2.2 ++ [(b 1, .inl (d 0, 10, .inl (g.2.1 2))), (b 2, .inl (d 0, 10, .inl (g.2.1 3))), (b 3, .inl (d 0, 10, .inl (g.2.1 4)))])
def gsI (g : GS) (k : Nat) (v : Int32) : GS := (va_up g.1 k v, g.2.1, g.2.2)
def gsA (g : GS) (k j : Nat) (v : Int32) : GS := (g.1, va_up g.2.1 k (upd (g.2.1 k) j v), g.2.2)
def gsS (g : GS) (S : SS) : GS := (g.1, g.2.1, S)
def gs0 : GS := (fun _ => 0, fun _ _ => 0, ss0)
theorem wI0_eq (d : Nat → ClassId) (a32 : Nat) (b c : Nat → Nat) : wI0 d a32 b c = wG d b c a32 none gs0 := rfl
theorem gset_0 (d : Nat → ClassId) (b c : Nat → Nat) (a32 : Nat) (jr : Option Nat) (g : GS) (q : Nat) : (wG d b c a32 jr g).set 0 (b 0, .inr (16, (gfs b c a32 jr g).set 0 (.ref q))) = wG d b c a32 (some q) g := rfl
theorem gset_5 (d : Nat → ClassId) (b c : Nat → Nat) (a32 : Nat) (jr : Option Nat) (g : GS) (v : Int32) : (wG d b c a32 jr g).set 0 (b 0, .inr (16, (gfs b c a32 jr g).set 5 (.int v))) = wG d b c a32 jr (gsI g 5 v) := rfl
theorem gset_6 (d : Nat → ClassId) (b c : Nat → Nat) (a32 : Nat) (jr : Option Nat) (g : GS) (v : Int32) : (wG d b c a32 jr g).set 0 (b 0, .inr (16, (gfs b c a32 jr g).set 6 (.int v))) = wG d b c a32 jr (gsI g 6 v) := rfl
theorem gset_7 (d : Nat → ClassId) (b c : Nat → Nat) (a32 : Nat) (jr : Option Nat) (g : GS) (v : Int32) : (wG d b c a32 jr g).set 0 (b 0, .inr (16, (gfs b c a32 jr g).set 7 (.int v))) = wG d b c a32 jr (gsI g 7 v) := rfl
theorem gast_2 (d : Nat → ClassId) (b c : Nat → Nat) (a32 : Nat) (jr : Option Nat) (g : GS) (j : Nat) (v : Int32) : (wG d b c a32 jr g).set 9 (b 1, .inl (d 0, 10, .inl (upd (g.2.1 2) j v))) = wG d b c a32 jr (gsA g 2 j v) := rfl
theorem gast_3 (d : Nat → ClassId) (b c : Nat → Nat) (a32 : Nat) (jr : Option Nat) (g : GS) (j : Nat) (v : Int32) : (wG d b c a32 jr g).set 10 (b 2, .inl (d 0, 10, .inl (upd (g.2.1 3) j v))) = wG d b c a32 jr (gsA g 3 j v) := rfl
theorem gast_4 (d : Nat → ClassId) (b c : Nat → Nat) (a32 : Nat) (jr : Option Nat) (g : GS) (j : Nat) (v : Int32) : (wG d b c a32 jr g).set 11 (b 3, .inl (d 0, 10, .inl (upd (g.2.1 4) j v))) = wG d b c a32 jr (gsA g 4 j v) := rfl
/-- the component, only read by Image.keep: its object, the notes, its State -/
def KAt (d : Nat → ClassId) (a ja : Nat → Nat) (c : CS) (P : Nat → va_E → Prop) : Prop := P (a 32) (.inr (1, cfs a ja c)) ∧ P (a 8) (.inl (d 0, 10, .inl (c.2.1 8))) ∧ P (a 9) (.inl (d 0, 10, .inl (c.2.1 9))) ∧ P (a 10) (.inl (d 0, 10, .inl (c.2.1 10))) ∧ SAt d (sa a 0) (c.2.2.2 0) P
/-- an image that is only read -/
def GAt (d : Nat → ClassId) (b c : Nat → Nat) (a32 : Nat) (jr : Option Nat) (g : GS) (P : Nat → va_E → Prop) : Prop := ∀ q ∈ wG d b c a32 jr g, P q.1 q.2
/-! Image.keep's world: with the junction that it holds -/
abbrev GK : Type := Option Nat × GS
def wK (d : Nat → ClassId) (b ic : Nat → Nat) (a32 : Nat) (t : GK) : va_W := wG d b ic a32 t.1 t.2
def gkJ (t : GK) (q : Nat) : GK := (some q, t.2)
def gkI (t : GK) (k : Nat) (v : Int32) : GK := (t.1, gsI t.2 k v)
def gkA (t : GK) (k j : Nat) (v : Int32) : GK := (t.1, gsA t.2 k j v)
def gkS (t : GK) (S : SS) : GK := (t.1, gsS t.2 S)
theorem wK_fst (d : Nat → ClassId) (b ic : Nat → Nat) (a32 : Nat) (t t' : GK) : (wK d b ic a32 t).map Prod.fst = (wK d b ic a32 t').map Prod.fst := rfl
theorem wK_cutS {A : Nat → Prop} {d : Nat → ClassId} {b ic : Nat → Nat} {a32 : Nat} {t : GK} (hD : va_D A (wK d b ic a32 t)) (S : SS) : Cut (wK d b ic a32 t) (wS d ic t.2.2.2) (wS d ic S) (wK d b ic a32 (gkS t S)) := by
  have hn := D_nd hD
  have hn : (b 0 :: (adS ic ++ [b 1, b 2, b 3])).Nodup := hn
  obtain ⟨h1, h2⟩ := List.nodup_cons.mp hn
  obtain ⟨h3, h4, h5⟩ := List.pairwise_append.mp h2
  refine ⟨fun q hq => List.mem_cons_of_mem _ (List.mem_append_left _ hq), h3, fun q hq => ?_, rfl⟩
  rcases List.mem_cons.mp hq with h | h
  · right
    refine ⟨by rw [h]; exact List.mem_cons_self, fun hx => h1 ?_⟩
    rw [h] at hx
    exact List.mem_append_left _ hx
  · rcases List.mem_append.mp h with h | h
    · exact Or.inl h
    · right
      refine ⟨List.mem_cons_of_mem _ (List.mem_append_right _ h), fun hx => ?_⟩
      have hq2 : q.1 ∈ [b 1, b 2, b 3] := List.mem_map.mpr ⟨q, h, rfl⟩
      exact h5 q.1 hx q.1 hq2 rfl
