set_option maxRecDepth 100000
/-! ===== what the statics hold: texts, exceptions, mirrors (places: d 20 NAMES, d 21 the class object of Object[], d (100 + i) text i, d (200 + i) its bytes) ===== -/
def db_txt : List String := ["road", "wait", "every", "part", "scored", "let", "sound", "since", "went", "all", "beat", "hour", "not", "and", "or", "junction", "clash", "score", "if"]
def db_byt : List (List Int32) := [[114, 111, 97, 100], [119, 97, 105, 116], [101, 118, 101, 114, 121], [112, 97, 114, 116], [115, 99, 111, 114, 101, 100], [108, 101, 116], [115, 111, 117, 110, 100], [115, 105, 110, 99, 101], [119, 101, 110, 116], [97, 108, 108], [98, 101, 97, 116], [104, 111, 117, 114], [110, 111, 116], [97, 110, 100], [111, 114], [106, 117, 110, 99, 116, 105, 111, 110], [99, 108, 97, 115, 104], [115, 99, 111, 114, 101], [105, 102]]
def db_len : List Nat := [4, 4, 5, 4, 6, 3, 5, 5, 4, 3, 4, 4, 3, 3, 2, 8, 5, 5, 2]
def db_lit : List (Nat × String × Nat) := [(176, "junction", 15), (185, "road", 0), (190, "clash", 16), (194, "score", 17), (198, "let", 5), (207, "if", 18), (107, "not", 12), (132, "and", 13), (145, "or", 14)]
def RZ (d : Nat → ClassId) (A : Nat → Prop) (U : State) (H : Heap) : Prop :=
  vx_Zq Bundle.tN "UNASSIGNED_STACK" Bundle.steD A U H ∧ vx_Zq Bundle.tN "SUPPRESSED_SENTINEL" Bundle.listD A U H ∧ va_Z "DutyBeats" "NAMES" "[Ljava/lang/String;" (.ref (d 20)) A U H ∧ va_T (.object "java/lang/String") (d 20) 12 (fun j => .ref (d (100 + j))) A U H ∧
  vk_S 19 db_len db_byt (fun i => d (100 + i)) (fun i => d (200 + i)) A U H ∧ va_Z "java/lang/String" "COMPACT_STRINGS" "Z" (.int 1) A U H ∧ va_Zq "jdk/internal/util/Preconditions" "SIOOBE_FORMATTER" "Ljava/util/function/BiFunction;" A U H ∧ va_Mi "[Ljava/lang/Object;" (d 21) U ∧ ∀ x ∈ db_lit, vk_R "DutyBeats$Parser" x.1 x.2.1 (d (100 + x.2.2)) U
section RZS
variable {d : Nat → ClassId} {A B : Nat → Prop} {s u U : State} {H H1 : Heap}
theorem RZ.moved (hvm : u.vm.Alike U.vm) (hl : ∀ x ∈ db_lit, vk_R "DutyBeats$Parser" x.1 x.2.1 (d (100 + x.2.2)) U) (h : RZ d A u H) : RZ d A U H := by
  obtain ⟨h1, h2, h3, h4, h5, h6, h7, h8, -⟩ := h
  exact ⟨vx_Zq.moved hvm h1, vx_Zq.moved hvm h2, h3.moved hvm, h4.moved hvm, vk_S.moved hvm h5, h6.moved hvm, va_Zq.moved hvm h7, va_Mi.moved hvm h8, hl⟩
theorem RZ.lit (h : RZ d A U H) : ∀ x ∈ db_lit, vk_R "DutyBeats$Parser" x.1 x.2.1 (d (100 + x.2.2)) U := h.2.2.2.2.2.2.2.2
theorem RZ.warm (hW : s.WarmedH U.vm) (h : RZ d A s H) : RZ d A U H := h.moved hW.alike (fun x hx => vk_R.warm hW (h.lit x hx))
theorem RZ.same (hv : u.vm = U.vm) (h : RZ d A u H) : RZ d A U H := h.moved (by rw [hv]; exact Vm.Alike.refl _) (fun x hx => vk_R.same hv.symm (h.lit x hx))
theorem RZ.kept (h : RZ d A U H) (hq : ∀ a : Nat, a < H.size → ¬ A a → H1[a]? = H[a]?) : RZ d A U H1 := by
  obtain ⟨h1, h2, h3, h4, h5, h6, h7, h8, h9⟩ := h
  exact ⟨h1.kept hq, h2.kept hq, h3.kept hq, h4.kept hq, h5.kept hq, h6.kept hq, va_Zq.kept h7 hq, h8, h9⟩
theorem RZ.narrow (h : RZ d A U H) (hAB : ∀ q, B q → A q) : RZ d B U H := by
  obtain ⟨h1, h2, h3, h4, h5, h6, h7, h8, h9⟩ := h
  exact ⟨h1.narrow hAB, h2.narrow hAB, h3.narrow hAB, h4.narrow hAB, h5.narrow hAB, h6.narrow hAB, va_Zq.narrow h7 hAB, h8, h9⟩
end RZS
