set_option maxRecDepth 100000
def RX0 : String := "DutyBeats"
def TX0 : u_T := fun k => match k with
  | 0 => ("DutyBeats", "junction", "LDutyBeats$Junction;", false)
  | 1 => ("DutyBeats", "state", "LDutyBeats$State;", true)
  | 2 => ("DutyBeats", "kept", "LDutyBeats$State;", true)
  | 3 => ("DutyBeats", "rules", "Ljava/util/ArrayList;", true)
  | 4 => ("DutyBeats", "inForce", "I", false)
  | 5 => ("DutyBeats", "wrong", "LDutyBeats$Wrong;", true)
  | 6 => ("DutyBeats", "tape", "[B", true)
  | 7 => ("DutyBeats", "taped", "I", false)
  | 8 => ("DutyBeats", "noteWhen", "[I", true)
  | 9 => ("DutyBeats", "noteWho", "[I", true)
  | 10 => ("DutyBeats", "noteMany", "[I", true)
  | 11 => ("DutyBeats", "notes", "I", false)
  | 12 => ("DutyBeats", "draw", "I", false)
  | 13 => ("DutyBeats", "roomNow", "I", false)
  | 14 => ("DutyBeats", "shutNow", "I", false)
  | 15 => ("DutyBeats", "setNow", "I", false)
  | 16 => ("DutyBeats", "words", "[J", true)
  | 17 => ("DutyBeats", "goneNow", "[I", true)
  | 18 => ("DutyBeats", "past", "[LDutyBeats$State;", true)
  | 19 => ("DutyBeats", "pastMany", "I", false)
  | 20 => ("DutyBeats", "pastAt", "I", false)
  | 21 => ("DutyBeats", "onBeat", "[I", true)
  | 22 => ("DutyBeats", "row", "[I", true)
  | 23 => ("DutyBeats", "bestRow", "[I", true)
  | 24 => ("DutyBeats", "leastWaited", "I", false)
  | 25 => ("DutyBeats", "mostHeard", "I", false)
  | 26 => ("DutyBeats", "stages", "[LDutyBeats$State;", true)
  | 27 => ("DutyBeats", "firstHas", "[I", true)
  | 28 => ("DutyBeats", "secondHas", "[I", true)
  | 29 => ("DutyBeats", "lay", "[I", true)
  | 30 => ("DutyBeats", "shows", "[I", true)
  | _ => ("DutyBeats", "images", "[LDutyBeats$Image;", true)
def tyX0 : Nat → FieldType := fun k => match k with
  | 0 => .object "DutyBeats$Junction"
  | 1 => .object "DutyBeats$State"
  | 2 => .object "DutyBeats$State"
  | 3 => .object "java/util/ArrayList"
  | 4 => .int
  | 5 => .object "DutyBeats$Wrong"
  | 6 => .array .byte
  | 7 => .int
  | 8 => .array .int
  | 9 => .array .int
  | 10 => .array .int
  | 11 => .int
  | 12 => .int
  | 13 => .int
  | 14 => .int
  | 15 => .int
  | 16 => .array .long
  | 17 => .array .int
  | 18 => .array (.object "DutyBeats$State")
  | 19 => .int
  | 20 => .int
  | 21 => .array .int
  | 22 => .array .int
  | 23 => .array .int
  | 24 => .int
  | 25 => .int
  | 26 => .array (.object "DutyBeats$State")
  | 27 => .array .int
  | 28 => .array .int
  | 29 => .array .int
  | 30 => .array .int
  | _ => .array (.object "DutyBeats$Image")
abbrev wsX00 : List Cond := u_ws RX0 TX0 32
theorem nmX0 : ∀ a, a < 32 → ∀ b, b < 32 → a ≠ b → (TX0 a).2.1 ≠ (TX0 b).2.1 := by decide +kernel
theorem tyX0_ok : ∀ k, k < 32 → parseFieldDescriptor (TX0 k).2.2.1 = some (tyX0 k) := by decide +kernel
theorem q120 : (Jvm.Cond.initialized "DutyBeats") ∈ lw_all := lw_g (lw_at lw_m1 1 rfl) rfl
theorem q155 : (Jvm.Cond.instantiable "DutyBeats" (32 : Nat)) ∈ lw_all := lw_g (lw_at lw_m1 36 rfl) rfl
theorem q157 : (Jvm.Cond.instanceMethod ({ cls := "DutyBeats", name := "<init>", desc := "()V" } : Jvm.MethodName)) ∈ lw_all := lw_g (lw_at lw_m1 38 rfl) rfl
theorem q158 : (Jvm.Cond.code ({ cls := "DutyBeats", name := "<init>", desc := "()V" } : Jvm.MethodName) prog_1_method_4_code (1 : Nat) (Option.none : Option Jvm.ClassFile.FieldType)) ∈ lw_all := lw_g (lw_at lw_m1 39 rfl) rfl
theorem q159 : (Jvm.Cond.methodLink "DutyBeats" (1 : Nat) ({ cls := "java/lang/Object", name := "<init>", desc := "()V" } : Jvm.MethodName)) ∈ lw_all := lw_g (lw_at lw_m1 40 rfl) rfl
theorem q162 : (Jvm.Cond.classLink "DutyBeats" (7 : Nat) "DutyBeats$Junction") ∈ lw_all := lw_g (lw_at lw_m1 43 rfl) rfl
theorem q164 : (Jvm.Cond.methodLinkNest "DutyBeats" (9 : Nat) ({ cls := "DutyBeats$Junction", name := "<init>", desc := "()V" } : Jvm.MethodName) "DutyBeats") ∈ lw_tbl := lw_at lw_m1 45 rfl
theorem q200 : (Jvm.Cond.fieldLinkNest "DutyBeats" (177 : Nat) "DutyBeats$Junction" "clashes" "[I" "DutyBeats") ∈ lw_tbl := lw_at lw_m1 81 rfl
theorem q205 : (Jvm.Cond.fieldLinkNest "DutyBeats" (118 : Nat) "DutyBeats$Junction" "bar" "I" "DutyBeats") ∈ lw_tbl := lw_at lw_m1 86 rfl
theorem q208 : (Jvm.Cond.fieldLinkNest "DutyBeats" (248 : Nat) "DutyBeats$Junction" "room" "I" "DutyBeats") ∈ lw_tbl := lw_at lw_m1 89 rfl
theorem q221 : (Jvm.Cond.classLink "DutyBeats" (16 : Nat) "DutyBeats$State") ∈ lw_all := lw_g (lw_at lw_m1 102 rfl) rfl
theorem q223 : (Jvm.Cond.methodLinkNest "DutyBeats" (18 : Nat) ({ cls := "DutyBeats$State", name := "<init>", desc := "()V" } : Jvm.MethodName) "DutyBeats") ∈ lw_tbl := lw_at lw_m1 104 rfl
theorem q228 : (Jvm.Cond.fieldLinkNest "DutyBeats" (168 : Nat) "DutyBeats$State" "wait" "[I" "DutyBeats") ∈ lw_tbl := lw_at lw_m1 109 rfl
theorem q230 : (Jvm.Cond.fieldLinkNest "DutyBeats" (171 : Nat) "DutyBeats$State" "every" "[I" "DutyBeats") ∈ lw_tbl := lw_at lw_m1 111 rfl
theorem q232 : (Jvm.Cond.fieldLinkNest "DutyBeats" (174 : Nat) "DutyBeats$State" "part" "[I" "DutyBeats") ∈ lw_tbl := lw_at lw_m1 113 rfl
theorem q234 : (Jvm.Cond.fieldLinkNest "DutyBeats" (180 : Nat) "DutyBeats$State" "went" "[I" "DutyBeats") ∈ lw_tbl := lw_at lw_m1 115 rfl
theorem q236 : (Jvm.Cond.fieldLinkNest "DutyBeats" (183 : Nat) "DutyBeats$State" "waited" "[I" "DutyBeats") ∈ lw_tbl := lw_at lw_m1 117 rfl
theorem q238 : (Jvm.Cond.fieldLinkNest "DutyBeats" (255 : Nat) "DutyBeats$State" "last" "[I" "DutyBeats") ∈ lw_tbl := lw_at lw_m1 119 rfl
theorem q240 : (Jvm.Cond.fieldLinkNest "DutyBeats" (193 : Nat) "DutyBeats$State" "score" "[I" "DutyBeats") ∈ lw_tbl := lw_at lw_m1 121 rfl
theorem q242 : (Jvm.Cond.fieldLinkNest "DutyBeats" (196 : Nat) "DutyBeats$State" "heard" "I" "DutyBeats") ∈ lw_tbl := lw_at lw_m1 123 rfl
theorem q244 : (Jvm.Cond.fieldLinkNest "DutyBeats" (199 : Nat) "DutyBeats$State" "beat" "I" "DutyBeats") ∈ lw_tbl := lw_at lw_m1 125 rfl
theorem q264 : (Jvm.Cond.classLink "DutyBeats" (26 : Nat) "java/util/ArrayList") ∈ lw_all := lw_g (lw_at lw_m1 145 rfl) rfl
theorem q265 : (Jvm.Cond.methodLink "DutyBeats" (28 : Nat) ({ cls := "java/util/ArrayList", name := "<init>", desc := "(I)V" } : Jvm.MethodName)) ∈ lw_all := lw_g (lw_at lw_m1 146 rfl) rfl
theorem q266 : (Jvm.Cond.classLink "DutyBeats" (39 : Nat) "DutyBeats$Wrong") ∈ lw_all := lw_g (lw_at lw_m1 147 rfl) rfl
theorem q303 : (Jvm.Cond.methodLinkNest "DutyBeats" (41 : Nat) ({ cls := "DutyBeats$Wrong", name := "<init>", desc := "()V" } : Jvm.MethodName) "DutyBeats") ∈ lw_tbl := lw_at lw_m1 184 rfl
theorem q310 : (Jvm.Cond.fieldLinkNest "DutyBeats" (129 : Nat) "DutyBeats$Wrong" "number" "I" "DutyBeats") ∈ lw_tbl := lw_at lw_m1 191 rfl
theorem q325 : (Jvm.Cond.fieldLink "DutyBeats" (69 : Nat) "DutyBeats" "NAMES" "[Ljava/lang/String;") ∈ lw_all := lw_g (lw_at lw_m1 206 rfl) rfl
theorem q326 : (Jvm.Cond.laysStatic "DutyBeats" "NAMES" "[Ljava/lang/String;") ∈ lw_tbl := lw_at lw_m1 207 rfl
theorem q327 : (Jvm.Cond.methodLink "DutyBeats" (80 : Nat) ({ cls := "DutyBeats", name := "newStates", desc := "(I)[LDutyBeats$State;" } : Jvm.MethodName)) ∈ lw_all := lw_g (lw_at lw_m1 208 rfl) rfl
theorem q328 : (Jvm.Cond.static ({ cls := "DutyBeats", name := "newStates", desc := "(I)[LDutyBeats$State;" } : Jvm.MethodName)) ∈ lw_all := lw_g (lw_at lw_m1 209 rfl) rfl
theorem q329 : (Jvm.Cond.code ({ cls := "DutyBeats", name := "newStates", desc := "(I)[LDutyBeats$State;" } : Jvm.MethodName) prog_1_method_24_code (3 : Nat) (Option.some (Jvm.ClassFile.FieldType.array (Jvm.ClassFile.FieldType.object "DutyBeats$State")))) ∈ lw_all := lw_g (lw_at lw_m1 210 rfl) rfl
theorem q331 : (Jvm.Cond.classLink "DutyBeats" (112 : Nat) "DutyBeats$Image") ∈ lw_all := lw_g (lw_at lw_m1 212 rfl) rfl
theorem q334 : (Jvm.Cond.fieldLink "DutyBeats" (10 : Nat) "DutyBeats" "junction" "LDutyBeats$Junction;") ∈ lw_all := lw_g (lw_at lw_m1 215 rfl) rfl
theorem q336 : (Jvm.Cond.fieldLink "DutyBeats" (19 : Nat) "DutyBeats" "state" "LDutyBeats$State;") ∈ lw_all := lw_g (lw_at lw_m1 217 rfl) rfl
theorem q337 : (Jvm.Cond.fieldLink "DutyBeats" (23 : Nat) "DutyBeats" "kept" "LDutyBeats$State;") ∈ lw_all := lw_g (lw_at lw_m1 218 rfl) rfl
theorem q338 : (Jvm.Cond.fieldLink "DutyBeats" (31 : Nat) "DutyBeats" "rules" "Ljava/util/ArrayList;") ∈ lw_all := lw_g (lw_at lw_m1 219 rfl) rfl
theorem q341 : (Jvm.Cond.fieldLink "DutyBeats" (35 : Nat) "DutyBeats" "inForce" "I") ∈ lw_all := lw_g (lw_at lw_m1 222 rfl) rfl
theorem q342 : (Jvm.Cond.fieldLink "DutyBeats" (42 : Nat) "DutyBeats" "wrong" "LDutyBeats$Wrong;") ∈ lw_all := lw_g (lw_at lw_m1 223 rfl) rfl
theorem q344 : (Jvm.Cond.fieldLink "DutyBeats" (46 : Nat) "DutyBeats" "tape" "[B") ∈ lw_all := lw_g (lw_at lw_m1 225 rfl) rfl
theorem q346 : (Jvm.Cond.fieldLink "DutyBeats" (132 : Nat) "DutyBeats" "taped" "I") ∈ lw_all := lw_g (lw_at lw_m1 227 rfl) rfl
theorem q348 : (Jvm.Cond.fieldLink "DutyBeats" (50 : Nat) "DutyBeats" "noteWhen" "[I") ∈ lw_all := lw_g (lw_at lw_m1 229 rfl) rfl
theorem q350 : (Jvm.Cond.fieldLink "DutyBeats" (54 : Nat) "DutyBeats" "noteWho" "[I") ∈ lw_all := lw_g (lw_at lw_m1 231 rfl) rfl
theorem q352 : (Jvm.Cond.fieldLink "DutyBeats" (57 : Nat) "DutyBeats" "noteMany" "[I") ∈ lw_all := lw_g (lw_at lw_m1 233 rfl) rfl
theorem q354 : (Jvm.Cond.fieldLink "DutyBeats" (150 : Nat) "DutyBeats" "notes" "I") ∈ lw_all := lw_g (lw_at lw_m1 235 rfl) rfl
theorem q356 : (Jvm.Cond.fieldLink "DutyBeats" (353 : Nat) "DutyBeats" "draw" "I") ∈ lw_all := lw_g (lw_at lw_m1 237 rfl) rfl
theorem q357 : (Jvm.Cond.fieldLink "DutyBeats" (60 : Nat) "DutyBeats" "roomNow" "I") ∈ lw_all := lw_g (lw_at lw_m1 238 rfl) rfl
theorem q358 : (Jvm.Cond.fieldLink "DutyBeats" (63 : Nat) "DutyBeats" "shutNow" "I") ∈ lw_all := lw_g (lw_at lw_m1 239 rfl) rfl
theorem q359 : (Jvm.Cond.fieldLink "DutyBeats" (66 : Nat) "DutyBeats" "setNow" "I") ∈ lw_all := lw_g (lw_at lw_m2 0 rfl) rfl
theorem q360 : (Jvm.Cond.fieldLink "DutyBeats" (73 : Nat) "DutyBeats" "words" "[J") ∈ lw_all := lw_g (lw_at lw_m2 1 rfl) rfl
theorem q361 : (Jvm.Cond.fieldLink "DutyBeats" (77 : Nat) "DutyBeats" "goneNow" "[I") ∈ lw_all := lw_g (lw_at lw_m2 2 rfl) rfl
theorem q362 : (Jvm.Cond.fieldLink "DutyBeats" (84 : Nat) "DutyBeats" "past" "[LDutyBeats$State;") ∈ lw_all := lw_g (lw_at lw_m2 3 rfl) rfl
theorem q364 : (Jvm.Cond.fieldLink "DutyBeats" (153 : Nat) "DutyBeats" "pastMany" "I") ∈ lw_all := lw_g (lw_at lw_m2 5 rfl) rfl
theorem q365 : (Jvm.Cond.fieldLink "DutyBeats" (275 : Nat) "DutyBeats" "pastAt" "I") ∈ lw_all := lw_g (lw_at lw_m2 6 rfl) rfl
theorem q366 : (Jvm.Cond.fieldLink "DutyBeats" (88 : Nat) "DutyBeats" "onBeat" "[I") ∈ lw_all := lw_g (lw_at lw_m2 7 rfl) rfl
theorem q367 : (Jvm.Cond.fieldLink "DutyBeats" (91 : Nat) "DutyBeats" "row" "[I") ∈ lw_all := lw_g (lw_at lw_m2 8 rfl) rfl
theorem q368 : (Jvm.Cond.fieldLink "DutyBeats" (94 : Nat) "DutyBeats" "bestRow" "[I") ∈ lw_all := lw_g (lw_at lw_m2 9 rfl) rfl
theorem q369 : (Jvm.Cond.fieldLink "DutyBeats" (319 : Nat) "DutyBeats" "leastWaited" "I") ∈ lw_all := lw_g (lw_at lw_m2 10 rfl) rfl
theorem q370 : (Jvm.Cond.fieldLink "DutyBeats" (322 : Nat) "DutyBeats" "mostHeard" "I") ∈ lw_all := lw_g (lw_at lw_m2 11 rfl) rfl
theorem q371 : (Jvm.Cond.fieldLink "DutyBeats" (97 : Nat) "DutyBeats" "stages" "[LDutyBeats$State;") ∈ lw_all := lw_g (lw_at lw_m2 12 rfl) rfl
theorem q372 : (Jvm.Cond.fieldLink "DutyBeats" (100 : Nat) "DutyBeats" "firstHas" "[I") ∈ lw_all := lw_g (lw_at lw_m2 13 rfl) rfl
theorem q373 : (Jvm.Cond.fieldLink "DutyBeats" (103 : Nat) "DutyBeats" "secondHas" "[I") ∈ lw_all := lw_g (lw_at lw_m2 14 rfl) rfl
theorem q374 : (Jvm.Cond.fieldLink "DutyBeats" (106 : Nat) "DutyBeats" "lay" "[I") ∈ lw_all := lw_g (lw_at lw_m2 15 rfl) rfl
theorem q375 : (Jvm.Cond.fieldLink "DutyBeats" (109 : Nat) "DutyBeats" "shows" "[I") ∈ lw_all := lw_g (lw_at lw_m2 16 rfl) rfl
theorem q376 : (Jvm.Cond.fieldLink "DutyBeats" (114 : Nat) "DutyBeats" "images" "[LDutyBeats$Image;") ∈ lw_all := lw_g (lw_at lw_m2 17 rfl) rfl
theorem q377 : (Jvm.Cond.lays "DutyBeats" "DutyBeats" "junction" "LDutyBeats$Junction;") ∈ lw_all := lw_g (lw_at lw_m2 18 rfl) rfl
theorem q378 : (Jvm.Cond.soleField "DutyBeats" "junction") ∈ lw_all := lw_g (lw_at lw_m2 19 rfl) rfl
theorem q379 : (Jvm.Cond.laysFinal "DutyBeats" "DutyBeats" "state" "LDutyBeats$State;") ∈ lw_all := lw_g (lw_at lw_m2 20 rfl) rfl
theorem q380 : (Jvm.Cond.soleField "DutyBeats" "state") ∈ lw_all := lw_g (lw_at lw_m2 21 rfl) rfl
theorem q381 : (Jvm.Cond.laysFinal "DutyBeats" "DutyBeats" "kept" "LDutyBeats$State;") ∈ lw_all := lw_g (lw_at lw_m2 22 rfl) rfl
theorem q382 : (Jvm.Cond.soleField "DutyBeats" "kept") ∈ lw_all := lw_g (lw_at lw_m2 23 rfl) rfl
theorem q383 : (Jvm.Cond.laysFinal "DutyBeats" "DutyBeats" "rules" "Ljava/util/ArrayList;") ∈ lw_all := lw_g (lw_at lw_m2 24 rfl) rfl
theorem q384 : (Jvm.Cond.soleField "DutyBeats" "rules") ∈ lw_all := lw_g (lw_at lw_m2 25 rfl) rfl
theorem q385 : (Jvm.Cond.lays "DutyBeats" "DutyBeats" "inForce" "I") ∈ lw_all := lw_g (lw_at lw_m2 26 rfl) rfl
theorem q386 : (Jvm.Cond.soleField "DutyBeats" "inForce") ∈ lw_all := lw_g (lw_at lw_m2 27 rfl) rfl
theorem q387 : (Jvm.Cond.laysFinal "DutyBeats" "DutyBeats" "wrong" "LDutyBeats$Wrong;") ∈ lw_all := lw_g (lw_at lw_m2 28 rfl) rfl
theorem q388 : (Jvm.Cond.soleField "DutyBeats" "wrong") ∈ lw_all := lw_g (lw_at lw_m2 29 rfl) rfl
theorem q389 : (Jvm.Cond.laysFinal "DutyBeats" "DutyBeats" "tape" "[B") ∈ lw_all := lw_g (lw_at lw_m2 30 rfl) rfl
theorem q390 : (Jvm.Cond.soleField "DutyBeats" "tape") ∈ lw_all := lw_g (lw_at lw_m2 31 rfl) rfl
theorem q391 : (Jvm.Cond.lays "DutyBeats" "DutyBeats" "taped" "I") ∈ lw_all := lw_g (lw_at lw_m2 32 rfl) rfl
theorem q392 : (Jvm.Cond.soleField "DutyBeats" "taped") ∈ lw_all := lw_g (lw_at lw_m2 33 rfl) rfl
theorem q393 : (Jvm.Cond.laysFinal "DutyBeats" "DutyBeats" "noteWhen" "[I") ∈ lw_all := lw_g (lw_at lw_m2 34 rfl) rfl
theorem q394 : (Jvm.Cond.soleField "DutyBeats" "noteWhen") ∈ lw_all := lw_g (lw_at lw_m2 35 rfl) rfl
theorem q395 : (Jvm.Cond.laysFinal "DutyBeats" "DutyBeats" "noteWho" "[I") ∈ lw_all := lw_g (lw_at lw_m2 36 rfl) rfl
theorem q396 : (Jvm.Cond.soleField "DutyBeats" "noteWho") ∈ lw_all := lw_g (lw_at lw_m2 37 rfl) rfl
theorem q397 : (Jvm.Cond.laysFinal "DutyBeats" "DutyBeats" "noteMany" "[I") ∈ lw_all := lw_g (lw_at lw_m2 38 rfl) rfl
theorem q398 : (Jvm.Cond.soleField "DutyBeats" "noteMany") ∈ lw_all := lw_g (lw_at lw_m2 39 rfl) rfl
theorem q399 : (Jvm.Cond.lays "DutyBeats" "DutyBeats" "notes" "I") ∈ lw_all := lw_g (lw_at lw_m2 40 rfl) rfl
theorem q400 : (Jvm.Cond.soleField "DutyBeats" "notes") ∈ lw_all := lw_g (lw_at lw_m2 41 rfl) rfl
theorem q401 : (Jvm.Cond.lays "DutyBeats" "DutyBeats" "draw" "I") ∈ lw_all := lw_g (lw_at lw_m2 42 rfl) rfl
theorem q402 : (Jvm.Cond.soleField "DutyBeats" "draw") ∈ lw_all := lw_g (lw_at lw_m2 43 rfl) rfl
theorem q403 : (Jvm.Cond.lays "DutyBeats" "DutyBeats" "roomNow" "I") ∈ lw_all := lw_g (lw_at lw_m2 44 rfl) rfl
theorem q404 : (Jvm.Cond.soleField "DutyBeats" "roomNow") ∈ lw_all := lw_g (lw_at lw_m2 45 rfl) rfl
theorem q405 : (Jvm.Cond.lays "DutyBeats" "DutyBeats" "shutNow" "I") ∈ lw_all := lw_g (lw_at lw_m2 46 rfl) rfl
theorem q406 : (Jvm.Cond.soleField "DutyBeats" "shutNow") ∈ lw_all := lw_g (lw_at lw_m2 47 rfl) rfl
theorem q407 : (Jvm.Cond.lays "DutyBeats" "DutyBeats" "setNow" "I") ∈ lw_all := lw_g (lw_at lw_m2 48 rfl) rfl
theorem q408 : (Jvm.Cond.soleField "DutyBeats" "setNow") ∈ lw_all := lw_g (lw_at lw_m2 49 rfl) rfl
theorem q409 : (Jvm.Cond.laysFinal "DutyBeats" "DutyBeats" "words" "[J") ∈ lw_all := lw_g (lw_at lw_m2 50 rfl) rfl
theorem q410 : (Jvm.Cond.soleField "DutyBeats" "words") ∈ lw_all := lw_g (lw_at lw_m2 51 rfl) rfl
theorem q411 : (Jvm.Cond.laysFinal "DutyBeats" "DutyBeats" "goneNow" "[I") ∈ lw_all := lw_g (lw_at lw_m2 52 rfl) rfl
theorem q412 : (Jvm.Cond.soleField "DutyBeats" "goneNow") ∈ lw_all := lw_g (lw_at lw_m2 53 rfl) rfl
theorem q413 : (Jvm.Cond.laysFinal "DutyBeats" "DutyBeats" "past" "[LDutyBeats$State;") ∈ lw_all := lw_g (lw_at lw_m2 54 rfl) rfl
theorem q414 : (Jvm.Cond.soleField "DutyBeats" "past") ∈ lw_all := lw_g (lw_at lw_m2 55 rfl) rfl
theorem q415 : (Jvm.Cond.lays "DutyBeats" "DutyBeats" "pastMany" "I") ∈ lw_all := lw_g (lw_at lw_m2 56 rfl) rfl
theorem q416 : (Jvm.Cond.soleField "DutyBeats" "pastMany") ∈ lw_all := lw_g (lw_at lw_m2 57 rfl) rfl
theorem q417 : (Jvm.Cond.lays "DutyBeats" "DutyBeats" "pastAt" "I") ∈ lw_all := lw_g (lw_at lw_m2 58 rfl) rfl
theorem q418 : (Jvm.Cond.soleField "DutyBeats" "pastAt") ∈ lw_all := lw_g (lw_at lw_m2 59 rfl) rfl
theorem q419 : (Jvm.Cond.laysFinal "DutyBeats" "DutyBeats" "onBeat" "[I") ∈ lw_all := lw_g (lw_at lw_m2 60 rfl) rfl
theorem q420 : (Jvm.Cond.soleField "DutyBeats" "onBeat") ∈ lw_all := lw_g (lw_at lw_m2 61 rfl) rfl
theorem q421 : (Jvm.Cond.laysFinal "DutyBeats" "DutyBeats" "row" "[I") ∈ lw_all := lw_g (lw_at lw_m2 62 rfl) rfl
theorem q422 : (Jvm.Cond.soleField "DutyBeats" "row") ∈ lw_all := lw_g (lw_at lw_m2 63 rfl) rfl
theorem q423 : (Jvm.Cond.laysFinal "DutyBeats" "DutyBeats" "bestRow" "[I") ∈ lw_all := lw_g (lw_at lw_m2 64 rfl) rfl
theorem q424 : (Jvm.Cond.soleField "DutyBeats" "bestRow") ∈ lw_all := lw_g (lw_at lw_m2 65 rfl) rfl
theorem q425 : (Jvm.Cond.lays "DutyBeats" "DutyBeats" "leastWaited" "I") ∈ lw_all := lw_g (lw_at lw_m2 66 rfl) rfl
theorem q426 : (Jvm.Cond.soleField "DutyBeats" "leastWaited") ∈ lw_all := lw_g (lw_at lw_m2 67 rfl) rfl
theorem q427 : (Jvm.Cond.lays "DutyBeats" "DutyBeats" "mostHeard" "I") ∈ lw_all := lw_g (lw_at lw_m2 68 rfl) rfl
theorem q428 : (Jvm.Cond.soleField "DutyBeats" "mostHeard") ∈ lw_all := lw_g (lw_at lw_m2 69 rfl) rfl
theorem q429 : (Jvm.Cond.laysFinal "DutyBeats" "DutyBeats" "stages" "[LDutyBeats$State;") ∈ lw_all := lw_g (lw_at lw_m2 70 rfl) rfl
theorem q430 : (Jvm.Cond.soleField "DutyBeats" "stages") ∈ lw_all := lw_g (lw_at lw_m2 71 rfl) rfl
theorem q431 : (Jvm.Cond.laysFinal "DutyBeats" "DutyBeats" "firstHas" "[I") ∈ lw_all := lw_g (lw_at lw_m2 72 rfl) rfl
theorem q432 : (Jvm.Cond.soleField "DutyBeats" "firstHas") ∈ lw_all := lw_g (lw_at lw_m2 73 rfl) rfl
theorem q433 : (Jvm.Cond.laysFinal "DutyBeats" "DutyBeats" "secondHas" "[I") ∈ lw_all := lw_g (lw_at lw_m2 74 rfl) rfl
theorem q434 : (Jvm.Cond.soleField "DutyBeats" "secondHas") ∈ lw_all := lw_g (lw_at lw_m2 75 rfl) rfl
theorem q435 : (Jvm.Cond.laysFinal "DutyBeats" "DutyBeats" "lay" "[I") ∈ lw_all := lw_g (lw_at lw_m2 76 rfl) rfl
theorem q436 : (Jvm.Cond.soleField "DutyBeats" "lay") ∈ lw_all := lw_g (lw_at lw_m2 77 rfl) rfl
theorem q437 : (Jvm.Cond.laysFinal "DutyBeats" "DutyBeats" "shows" "[I") ∈ lw_all := lw_g (lw_at lw_m2 78 rfl) rfl
theorem q438 : (Jvm.Cond.soleField "DutyBeats" "shows") ∈ lw_all := lw_g (lw_at lw_m2 79 rfl) rfl
theorem q439 : (Jvm.Cond.laysFinal "DutyBeats" "DutyBeats" "images" "[LDutyBeats$Image;") ∈ lw_all := lw_g (lw_at lw_m2 80 rfl) rfl
theorem q440 : (Jvm.Cond.soleField "DutyBeats" "images") ∈ lw_all := lw_g (lw_at lw_m2 81 rfl) rfl
theorem q441 : (Jvm.Cond.superclass "DutyBeats" "java/lang/Object") ∈ lw_all := lw_g (lw_at lw_m2 82 rfl) rfl
theorem q445 : (Jvm.Cond.instanceMethod ({ cls := "DutyBeats", name := "feed", desc := "(IIIII)I" } : Jvm.MethodName)) ∈ lw_all := lw_g (lw_at lw_m2 86 rfl) rfl
theorem q446 : (Jvm.Cond.selects "DutyBeats" ({ cls := "DutyBeats", name := "feed", desc := "(IIIII)I" } : Jvm.MethodName) ({ cls := "DutyBeats", name := "feed", desc := "(IIIII)I" } : Jvm.MethodName)) ∈ lw_all := lw_g (lw_at lw_m2 87 rfl) rfl
theorem q447 : (Jvm.Cond.code ({ cls := "DutyBeats", name := "feed", desc := "(IIIII)I" } : Jvm.MethodName) prog_1_method_9_code (6 : Nat) (Option.some Jvm.ClassFile.FieldType.int)) ∈ lw_all := lw_g (lw_at lw_m2 88 rfl) rfl
theorem q448 : (Jvm.Cond.methodLink "DutyBeats" (135 : Nat) ({ cls := "DutyBeats", name := "put", desc := "(I)V" } : Jvm.MethodName)) ∈ lw_all := lw_g (lw_at lw_m2 89 rfl) rfl
theorem q449 : (Jvm.Cond.privateMethod ({ cls := "DutyBeats", name := "put", desc := "(I)V" } : Jvm.MethodName)) ∈ lw_tbl := lw_at lw_m2 90 rfl
theorem q450 : (Jvm.Cond.instanceMethod ({ cls := "DutyBeats", name := "put", desc := "(I)V" } : Jvm.MethodName)) ∈ lw_all := lw_g (lw_at lw_m2 91 rfl) rfl
theorem q451 : (Jvm.Cond.code ({ cls := "DutyBeats", name := "put", desc := "(I)V" } : Jvm.MethodName) prog_1_method_10_code (3 : Nat) (Option.none : Option Jvm.ClassFile.FieldType)) ∈ lw_all := lw_g (lw_at lw_m2 92 rfl) rfl
theorem q453 : (Jvm.Cond.instanceMethod ({ cls := "DutyBeats", name := "end", desc := "(I)I" } : Jvm.MethodName)) ∈ lw_all := lw_g (lw_at lw_m2 94 rfl) rfl
theorem q454 : (Jvm.Cond.selects "DutyBeats" ({ cls := "DutyBeats", name := "end", desc := "(I)I" } : Jvm.MethodName) ({ cls := "DutyBeats", name := "end", desc := "(I)I" } : Jvm.MethodName)) ∈ lw_all := lw_g (lw_at lw_m2 95 rfl) rfl
theorem q455 : (Jvm.Cond.code ({ cls := "DutyBeats", name := "end", desc := "(I)I" } : Jvm.MethodName) prog_1_method_11_code (2 : Nat) (Option.some Jvm.ClassFile.FieldType.int)) ∈ lw_all := lw_g (lw_at lw_m2 96 rfl) rfl
theorem q457 : (Jvm.Cond.instanceMethod ({ cls := "DutyBeats", name := "junction", desc := "()I" } : Jvm.MethodName)) ∈ lw_all := lw_g (lw_at lw_m2 98 rfl) rfl
theorem q458 : (Jvm.Cond.selects "DutyBeats" ({ cls := "DutyBeats", name := "junction", desc := "()I" } : Jvm.MethodName) ({ cls := "DutyBeats", name := "junction", desc := "()I" } : Jvm.MethodName)) ∈ lw_all := lw_g (lw_at lw_m2 99 rfl) rfl
theorem q459 : (Jvm.Cond.codeWith ({ cls := "DutyBeats", name := "junction", desc := "()I" } : Jvm.MethodName) prog_1_method_12_code (4 : Nat) (Option.some Jvm.ClassFile.FieldType.int) [((0 : Nat), (49 : Nat), (56 : Nat), (39 : Nat)), ((0 : Nat), (49 : Nat), (72 : Nat), (0 : Nat)), ((56 : Nat), (65 : Nat), (72 : Nat), (0 : Nat))]) ∈ lw_all := lw_g (lw_at lw_m2 100 rfl) rfl
theorem q460 : (Jvm.Cond.classLink "DutyBeats" (138 : Nat) "DutyBeats$Parser") ∈ lw_all := lw_g (lw_at lw_m2 101 rfl) rfl
theorem q462 : (Jvm.Cond.methodLink "DutyBeats" (140 : Nat) ({ cls := "DutyBeats$Parser", name := "<init>", desc := "(LDutyBeats;[Ljava/lang/String;I)V" } : Jvm.MethodName)) ∈ lw_all := lw_g (lw_at lw_m2 103 rfl) rfl
theorem q488 : (Jvm.Cond.methodLink "DutyBeats" (143 : Nat) ({ cls := "DutyBeats$Parser", name := "junction", desc := "()LDutyBeats$Junction;" } : Jvm.MethodName)) ∈ lw_all := lw_g (lw_at lw_m2 129 rfl) rfl
theorem q518 : (Jvm.Cond.static ({ cls := "DutyBeats", name := "in", desc := "(JJJ)Z" } : Jvm.MethodName)) ∈ lw_all := lw_g (lw_at lw_m2 159 rfl) rfl
theorem q519 : (Jvm.Cond.code ({ cls := "DutyBeats", name := "in", desc := "(JJJ)Z" } : Jvm.MethodName) prog_1_method_1_code (6 : Nat) (Option.some Jvm.ClassFile.FieldType.boolean)) ∈ lw_all := lw_g (lw_at lw_m2 160 rfl) rfl
theorem q569 : (Jvm.Cond.privateMethod ({ cls := "DutyBeats", name := "fails", desc := "(II)LDutyBeats$Wrong;" } : Jvm.MethodName)) ∈ lw_tbl := lw_at lw_m2 210 rfl
theorem q570 : (Jvm.Cond.instanceMethod ({ cls := "DutyBeats", name := "fails", desc := "(II)LDutyBeats$Wrong;" } : Jvm.MethodName)) ∈ lw_all := lw_g (lw_at lw_m2 211 rfl) rfl
theorem q571 : (Jvm.Cond.code ({ cls := "DutyBeats", name := "fails", desc := "(II)LDutyBeats$Wrong;" } : Jvm.MethodName) prog_1_method_8_code (3 : Nat) (Option.some (Jvm.ClassFile.FieldType.object "DutyBeats$Wrong"))) ∈ lw_all := lw_g (lw_at lw_m2 212 rfl) rfl
theorem q651 : (Jvm.Cond.selects "DutyBeats" ({ cls := "java/lang/Object", name := "getClass", desc := "()Ljava/lang/Class;" } : Jvm.MethodName) ({ cls := "java/lang/Object", name := "getClass", desc := "()Ljava/lang/Class;" } : Jvm.MethodName)) ∈ lw_all := lw_g (lw_at lw_m3 52 rfl) rfl
theorem q691 : (Jvm.Cond.methodLink "DutyBeats" (146 : Nat) ({ cls := "DutyBeats$State", name := "begin", desc := "(LDutyBeats$Junction;)V" } : Jvm.MethodName)) ∈ lw_all := lw_g (lw_at lw_m3 92 rfl) rfl
theorem q709 : (Jvm.Cond.methodLink "DutyBeats" (121 : Nat) ({ cls := "DutyBeats$Junction", name := "roads", desc := "()I" } : Jvm.MethodName)) ∈ lw_all := lw_g (lw_at lw_m3 110 rfl) rfl
theorem q711 : (Jvm.Cond.instanceMethod ({ cls := "DutyBeats", name := "rule", desc := "()I" } : Jvm.MethodName)) ∈ lw_all := lw_g (lw_at lw_m3 112 rfl) rfl
theorem q712 : (Jvm.Cond.selects "DutyBeats" ({ cls := "DutyBeats", name := "rule", desc := "()I" } : Jvm.MethodName) ({ cls := "DutyBeats", name := "rule", desc := "()I" } : Jvm.MethodName)) ∈ lw_all := lw_g (lw_at lw_m3 113 rfl) rfl
theorem q713 : (Jvm.Cond.codeWith ({ cls := "DutyBeats", name := "rule", desc := "()I" } : Jvm.MethodName) prog_1_method_13_code (4 : Nat) (Option.some Jvm.ClassFile.FieldType.int) [((14 : Nat), (31 : Nat), (38 : Nat), (39 : Nat)), ((14 : Nat), (31 : Nat), (54 : Nat), (0 : Nat)), ((38 : Nat), (47 : Nat), (54 : Nat), (0 : Nat))]) ∈ lw_all := lw_g (lw_at lw_m3 114 rfl) rfl
theorem q714 : (Jvm.Cond.methodLink "DutyBeats" (156 : Nat) ({ cls := "java/util/ArrayList", name := "size", desc := "()I" } : Jvm.MethodName)) ∈ lw_all := lw_g (lw_at lw_m3 115 rfl) rfl
theorem q715 : (Jvm.Cond.methodLink "DutyBeats" (159 : Nat) ({ cls := "DutyBeats$Parser", name := "rule", desc := "()I" } : Jvm.MethodName)) ∈ lw_all := lw_g (lw_at lw_m3 116 rfl) rfl
theorem q881 : (Jvm.Cond.instanceMethod ({ cls := "DutyBeats", name := "force", desc := "(I)I" } : Jvm.MethodName)) ∈ lw_all := lw_g (lw_at lw_m4 42 rfl) rfl
theorem q882 : (Jvm.Cond.selects "DutyBeats" ({ cls := "DutyBeats", name := "force", desc := "(I)I" } : Jvm.MethodName) ({ cls := "DutyBeats", name := "force", desc := "(I)I" } : Jvm.MethodName)) ∈ lw_all := lw_g (lw_at lw_m4 43 rfl) rfl
theorem q883 : (Jvm.Cond.code ({ cls := "DutyBeats", name := "force", desc := "(I)I" } : Jvm.MethodName) prog_1_method_14_code (3 : Nat) (Option.some Jvm.ClassFile.FieldType.int)) ∈ lw_all := lw_g (lw_at lw_m4 44 rfl) rfl
theorem q884 : (Jvm.Cond.constantLong "DutyBeats" (162 : Nat) (-1 : Int64)) ∈ lw_all := lw_g (lw_at lw_m4 45 rfl) rfl
theorem q885 : (Jvm.Cond.methodLink "DutyBeats" (125 : Nat) ({ cls := "DutyBeats", name := "in", desc := "(JJJ)Z" } : Jvm.MethodName)) ∈ lw_all := lw_g (lw_at lw_m4 46 rfl) rfl
theorem q887 : (Jvm.Cond.instanceMethod ({ cls := "DutyBeats", name := "road", desc := "(II)I" } : Jvm.MethodName)) ∈ lw_all := lw_g (lw_at lw_m4 48 rfl) rfl
theorem q888 : (Jvm.Cond.selects "DutyBeats" ({ cls := "DutyBeats", name := "road", desc := "(II)I" } : Jvm.MethodName) ({ cls := "DutyBeats", name := "road", desc := "(II)I" } : Jvm.MethodName)) ∈ lw_all := lw_g (lw_at lw_m4 49 rfl) rfl
theorem q889 : (Jvm.Cond.code ({ cls := "DutyBeats", name := "road", desc := "(II)I" } : Jvm.MethodName) prog_1_method_15_code (3 : Nat) (Option.some Jvm.ClassFile.FieldType.int)) ∈ lw_all := lw_g (lw_at lw_m4 50 rfl) rfl
theorem q890 : (Jvm.Cond.methodLink "DutyBeats" (164 : Nat) ({ cls := "DutyBeats", name := "isRoad", desc := "(I)Z" } : Jvm.MethodName)) ∈ lw_all := lw_g (lw_at lw_m4 51 rfl) rfl
theorem q891 : (Jvm.Cond.privateMethod ({ cls := "DutyBeats", name := "isRoad", desc := "(I)Z" } : Jvm.MethodName)) ∈ lw_tbl := lw_at lw_m4 52 rfl
theorem q892 : (Jvm.Cond.instanceMethod ({ cls := "DutyBeats", name := "isRoad", desc := "(I)Z" } : Jvm.MethodName)) ∈ lw_all := lw_g (lw_at lw_m4 53 rfl) rfl
theorem q893 : (Jvm.Cond.code ({ cls := "DutyBeats", name := "isRoad", desc := "(I)Z" } : Jvm.MethodName) prog_1_method_6_code (2 : Nat) (Option.some Jvm.ClassFile.FieldType.boolean)) ∈ lw_all := lw_g (lw_at lw_m4 54 rfl) rfl
theorem q894 : (Jvm.Cond.methodLink "DutyBeats" (186 : Nat) ({ cls := "DutyBeats$State", name := "since", desc := "(I)I" } : Jvm.MethodName)) ∈ lw_all := lw_g (lw_at lw_m4 55 rfl) rfl
theorem q900 : (Jvm.Cond.instanceMethod ({ cls := "DutyBeats", name := "scored", desc := "(I)I" } : Jvm.MethodName)) ∈ lw_all := lw_g (lw_at lw_m4 61 rfl) rfl
theorem q901 : (Jvm.Cond.selects "DutyBeats" ({ cls := "DutyBeats", name := "scored", desc := "(I)I" } : Jvm.MethodName) ({ cls := "DutyBeats", name := "scored", desc := "(I)I" } : Jvm.MethodName)) ∈ lw_all := lw_g (lw_at lw_m4 62 rfl) rfl
theorem q902 : (Jvm.Cond.code ({ cls := "DutyBeats", name := "scored", desc := "(I)I" } : Jvm.MethodName) prog_1_method_16_code (2 : Nat) (Option.some Jvm.ClassFile.FieldType.int)) ∈ lw_all := lw_g (lw_at lw_m4 63 rfl) rfl
theorem q903 : (Jvm.Cond.methodLink "DutyBeats" (190 : Nat) ({ cls := "DutyBeats", name := "isBeat", desc := "(I)Z" } : Jvm.MethodName)) ∈ lw_all := lw_g (lw_at lw_m4 64 rfl) rfl
theorem q904 : (Jvm.Cond.privateMethod ({ cls := "DutyBeats", name := "isBeat", desc := "(I)Z" } : Jvm.MethodName)) ∈ lw_tbl := lw_at lw_m4 65 rfl
theorem q905 : (Jvm.Cond.instanceMethod ({ cls := "DutyBeats", name := "isBeat", desc := "(I)Z" } : Jvm.MethodName)) ∈ lw_all := lw_g (lw_at lw_m4 66 rfl) rfl
theorem q906 : (Jvm.Cond.code ({ cls := "DutyBeats", name := "isBeat", desc := "(I)Z" } : Jvm.MethodName) prog_1_method_7_code (2 : Nat) (Option.some Jvm.ClassFile.FieldType.boolean)) ∈ lw_all := lw_g (lw_at lw_m4 67 rfl) rfl
theorem q908 : (Jvm.Cond.instanceMethod ({ cls := "DutyBeats", name := "heard", desc := "()I" } : Jvm.MethodName)) ∈ lw_all := lw_g (lw_at lw_m4 69 rfl) rfl
theorem q909 : (Jvm.Cond.selects "DutyBeats" ({ cls := "DutyBeats", name := "heard", desc := "()I" } : Jvm.MethodName) ({ cls := "DutyBeats", name := "heard", desc := "()I" } : Jvm.MethodName)) ∈ lw_all := lw_g (lw_at lw_m4 70 rfl) rfl
theorem q910 : (Jvm.Cond.code ({ cls := "DutyBeats", name := "heard", desc := "()I" } : Jvm.MethodName) prog_1_method_17_code (1 : Nat) (Option.some Jvm.ClassFile.FieldType.int)) ∈ lw_all := lw_g (lw_at lw_m4 71 rfl) rfl
theorem q912 : (Jvm.Cond.instanceMethod ({ cls := "DutyBeats", name := "undo", desc := "()I" } : Jvm.MethodName)) ∈ lw_all := lw_g (lw_at lw_m4 73 rfl) rfl
theorem q913 : (Jvm.Cond.selects "DutyBeats" ({ cls := "DutyBeats", name := "undo", desc := "()I" } : Jvm.MethodName) ({ cls := "DutyBeats", name := "undo", desc := "()I" } : Jvm.MethodName)) ∈ lw_all := lw_g (lw_at lw_m4 74 rfl) rfl
theorem q914 : (Jvm.Cond.code ({ cls := "DutyBeats", name := "undo", desc := "()I" } : Jvm.MethodName) prog_1_method_26_code (1 : Nat) (Option.some Jvm.ClassFile.FieldType.int)) ∈ lw_all := lw_g (lw_at lw_m4 75 rfl) rfl
theorem q915 : (Jvm.Cond.methodLink "DutyBeats" (278 : Nat) ({ cls := "DutyBeats$State", name := "copyFrom", desc := "(LDutyBeats$State;)V" } : Jvm.MethodName)) ∈ lw_all := lw_g (lw_at lw_m4 76 rfl) rfl
theorem q920 : (Jvm.Cond.instanceMethod ({ cls := "DutyBeats", name := "beat", desc := "()I" } : Jvm.MethodName)) ∈ lw_all := lw_g (lw_at lw_m4 81 rfl) rfl
theorem q921 : (Jvm.Cond.selects "DutyBeats" ({ cls := "DutyBeats", name := "beat", desc := "()I" } : Jvm.MethodName) ({ cls := "DutyBeats", name := "beat", desc := "()I" } : Jvm.MethodName)) ∈ lw_all := lw_g (lw_at lw_m4 82 rfl) rfl
theorem q922 : (Jvm.Cond.code ({ cls := "DutyBeats", name := "beat", desc := "()I" } : Jvm.MethodName) prog_1_method_27_code (1 : Nat) (Option.some Jvm.ClassFile.FieldType.int)) ∈ lw_all := lw_g (lw_at lw_m4 83 rfl) rfl
theorem q923 : (Jvm.Cond.methodLink "DutyBeats" (282 : Nat) ({ cls := "DutyBeats", name := "isJunction", desc := "()Z" } : Jvm.MethodName)) ∈ lw_all := lw_g (lw_at lw_m4 84 rfl) rfl
theorem q924 : (Jvm.Cond.privateMethod ({ cls := "DutyBeats", name := "isJunction", desc := "()Z" } : Jvm.MethodName)) ∈ lw_tbl := lw_at lw_m4 85 rfl
theorem q925 : (Jvm.Cond.instanceMethod ({ cls := "DutyBeats", name := "isJunction", desc := "()Z" } : Jvm.MethodName)) ∈ lw_all := lw_g (lw_at lw_m4 86 rfl) rfl
theorem q926 : (Jvm.Cond.code ({ cls := "DutyBeats", name := "isJunction", desc := "()Z" } : Jvm.MethodName) prog_1_method_5_code (1 : Nat) (Option.some Jvm.ClassFile.FieldType.boolean)) ∈ lw_all := lw_g (lw_at lw_m4 87 rfl) rfl
theorem q927 : (Jvm.Cond.methodLink "DutyBeats" (286 : Nat) ({ cls := "DutyBeats", name := "keeps", desc := "()V" } : Jvm.MethodName)) ∈ lw_all := lw_g (lw_at lw_m4 88 rfl) rfl
theorem q928 : (Jvm.Cond.privateMethod ({ cls := "DutyBeats", name := "keeps", desc := "()V" } : Jvm.MethodName)) ∈ lw_tbl := lw_at lw_m4 89 rfl
theorem q929 : (Jvm.Cond.instanceMethod ({ cls := "DutyBeats", name := "keeps", desc := "()V" } : Jvm.MethodName)) ∈ lw_all := lw_g (lw_at lw_m4 90 rfl) rfl
theorem q930 : (Jvm.Cond.code ({ cls := "DutyBeats", name := "keeps", desc := "()V" } : Jvm.MethodName) prog_1_method_25_code (1 : Nat) (Option.none : Option Jvm.ClassFile.FieldType)) ∈ lw_all := lw_g (lw_at lw_m4 91 rfl) rfl
theorem q931 : (Jvm.Cond.methodLink "DutyBeats" (258 : Nat) ({ cls := "java/lang/Math", name := "min", desc := "(II)I" } : Jvm.MethodName)) ∈ lw_all := lw_g (lw_at lw_m4 92 rfl) rfl
theorem q932 : (Jvm.Cond.methodLink "DutyBeats" (269 : Nat) ({ cls := "DutyBeats", name := "goesOn", desc := "(LDutyBeats$State;)I" } : Jvm.MethodName)) ∈ lw_all := lw_g (lw_at lw_m4 93 rfl) rfl
theorem q933 : (Jvm.Cond.privateMethod ({ cls := "DutyBeats", name := "goesOn", desc := "(LDutyBeats$State;)I" } : Jvm.MethodName)) ∈ lw_tbl := lw_at lw_m4 94 rfl
theorem q934 : (Jvm.Cond.instanceMethod ({ cls := "DutyBeats", name := "goesOn", desc := "(LDutyBeats$State;)I" } : Jvm.MethodName)) ∈ lw_all := lw_g (lw_at lw_m4 95 rfl) rfl
theorem q935 : (Jvm.Cond.code ({ cls := "DutyBeats", name := "goesOn", desc := "(LDutyBeats$State;)I" } : Jvm.MethodName) prog_1_method_21_code (5 : Nat) (Option.some Jvm.ClassFile.FieldType.int)) ∈ lw_all := lw_g (lw_at lw_m4 96 rfl) rfl
theorem q936 : (Jvm.Cond.methodLink "DutyBeats" (240 : Nat) ({ cls := "DutyBeats$State", name := "comes", desc := "(II)V" } : Jvm.MethodName)) ∈ lw_all := lw_g (lw_at lw_m4 97 rfl) rfl
theorem q940 : (Jvm.Cond.methodLink "DutyBeats" (244 : Nat) ({ cls := "DutyBeats", name := "letsIn", desc := "(LDutyBeats$State;)I" } : Jvm.MethodName)) ∈ lw_all := lw_g (lw_at lw_m4 101 rfl) rfl
theorem q941 : (Jvm.Cond.privateMethod ({ cls := "DutyBeats", name := "letsIn", desc := "(LDutyBeats$State;)I" } : Jvm.MethodName)) ∈ lw_tbl := lw_at lw_m4 102 rfl
theorem q942 : (Jvm.Cond.instanceMethod ({ cls := "DutyBeats", name := "letsIn", desc := "(LDutyBeats$State;)I" } : Jvm.MethodName)) ∈ lw_all := lw_g (lw_at lw_m4 103 rfl) rfl
theorem q943 : (Jvm.Cond.code ({ cls := "DutyBeats", name := "letsIn", desc := "(LDutyBeats$State;)I" } : Jvm.MethodName) prog_1_method_20_code (4 : Nat) (Option.some Jvm.ClassFile.FieldType.int)) ∈ lw_all := lw_g (lw_at lw_m4 104 rfl) rfl
theorem q944 : (Jvm.Cond.methodLink "DutyBeats" (236 : Nat) ({ cls := "DutyBeats", name := "isWanted", desc := "(LDutyBeats$State;II)Z" } : Jvm.MethodName)) ∈ lw_all := lw_g (lw_at lw_m4 105 rfl) rfl
theorem q945 : (Jvm.Cond.privateMethod ({ cls := "DutyBeats", name := "isWanted", desc := "(LDutyBeats$State;II)Z" } : Jvm.MethodName)) ∈ lw_tbl := lw_at lw_m4 106 rfl
theorem q946 : (Jvm.Cond.instanceMethod ({ cls := "DutyBeats", name := "isWanted", desc := "(LDutyBeats$State;II)Z" } : Jvm.MethodName)) ∈ lw_all := lw_g (lw_at lw_m4 107 rfl) rfl
theorem q947 : (Jvm.Cond.code ({ cls := "DutyBeats", name := "isWanted", desc := "(LDutyBeats$State;II)Z" } : Jvm.MethodName) prog_1_method_19_code (4 : Nat) (Option.some Jvm.ClassFile.FieldType.boolean)) ∈ lw_all := lw_g (lw_at lw_m4 108 rfl) rfl
theorem q948 : (Jvm.Cond.methodLink "DutyBeats" (206 : Nat) ({ cls := "DutyBeats", name := "isScored", desc := "(LDutyBeats$State;I)Z" } : Jvm.MethodName)) ∈ lw_all := lw_g (lw_at lw_m4 109 rfl) rfl
theorem q949 : (Jvm.Cond.privateMethod ({ cls := "DutyBeats", name := "isScored", desc := "(LDutyBeats$State;I)Z" } : Jvm.MethodName)) ∈ lw_tbl := lw_at lw_m4 110 rfl
theorem q950 : (Jvm.Cond.instanceMethod ({ cls := "DutyBeats", name := "isScored", desc := "(LDutyBeats$State;I)Z" } : Jvm.MethodName)) ∈ lw_all := lw_g (lw_at lw_m4 111 rfl) rfl
theorem q951 : (Jvm.Cond.code ({ cls := "DutyBeats", name := "isScored", desc := "(LDutyBeats$State;I)Z" } : Jvm.MethodName) prog_1_method_18_code (3 : Nat) (Option.some Jvm.ClassFile.FieldType.boolean)) ∈ lw_all := lw_g (lw_at lw_m4 112 rfl) rfl
theorem q952 : (Jvm.Cond.methodLink "DutyBeats" (202 : Nat) ({ cls := "DutyBeats", name := "has", desc := "(II)Z" } : Jvm.MethodName)) ∈ lw_all := lw_g (lw_at lw_m4 113 rfl) rfl
theorem q953 : (Jvm.Cond.static ({ cls := "DutyBeats", name := "has", desc := "(II)Z" } : Jvm.MethodName)) ∈ lw_all := lw_g (lw_at lw_m4 114 rfl) rfl
theorem q954 : (Jvm.Cond.code ({ cls := "DutyBeats", name := "has", desc := "(II)Z" } : Jvm.MethodName) prog_1_method_2_code (2 : Nat) (Option.some Jvm.ClassFile.FieldType.boolean)) ∈ lw_all := lw_g (lw_at lw_m4 115 rfl) rfl
theorem q955 : (Jvm.Cond.methodLink "DutyBeats" (210 : Nat) ({ cls := "DutyBeats", name := "bit", desc := "(Z)I" } : Jvm.MethodName)) ∈ lw_all := lw_g (lw_at lw_m4 116 rfl) rfl
theorem q956 : (Jvm.Cond.static ({ cls := "DutyBeats", name := "bit", desc := "(Z)I" } : Jvm.MethodName)) ∈ lw_all := lw_g (lw_at lw_m4 117 rfl) rfl
theorem q957 : (Jvm.Cond.code ({ cls := "DutyBeats", name := "bit", desc := "(Z)I" } : Jvm.MethodName) prog_1_method_3_code (1 : Nat) (Option.some Jvm.ClassFile.FieldType.int)) ∈ lw_all := lw_g (lw_at lw_m4 118 rfl) rfl
theorem q958 : (Jvm.Cond.methodLink "DutyBeats" (214 : Nat) ({ cls := "java/lang/Integer", name := "bitCount", desc := "(I)I" } : Jvm.MethodName)) ∈ lw_all := lw_g (lw_at lw_m4 119 rfl) rfl
theorem q964 : (Jvm.Cond.methodLink "DutyBeats" (219 : Nat) ({ cls := "DutyBeats$State", name := "sound", desc := "(I)I" } : Jvm.MethodName)) ∈ lw_all := lw_g (lw_at lw_m4 125 rfl) rfl
theorem q970 : (Jvm.Cond.laysStatic "DutyBeats" "SOUNDS" "[I") ∈ lw_tbl := lw_at lw_m4 131 rfl
theorem q974 : (Jvm.Cond.methodLink "DutyBeats" (222 : Nat) ({ cls := "DutyBeats$State", name := "sumOf", desc := "([I)I" } : Jvm.MethodName)) ∈ lw_all := lw_g (lw_at lw_m4 135 rfl) rfl
theorem q977 : (Jvm.Cond.methodLink "DutyBeats" (226 : Nat) ({ cls := "java/util/ArrayList", name := "get", desc := "(I)Ljava/lang/Object;" } : Jvm.MethodName)) ∈ lw_all := lw_g (lw_at lw_m4 138 rfl) rfl
theorem q978 : (Jvm.Cond.classLink "DutyBeats" (230 : Nat) "DutyBeats$Rule") ∈ lw_all := lw_g (lw_at lw_m4 139 rfl) rfl
theorem q979 : (Jvm.Cond.methodLink "DutyBeats" (232 : Nat) ({ cls := "DutyBeats$Rule", name := "lets", desc := "([J)Z" } : Jvm.MethodName)) ∈ lw_all := lw_g (lw_at lw_m4 140 rfl) rfl
theorem q1018 : (Jvm.Cond.methodLink "DutyBeats" (251 : Nat) ({ cls := "DutyBeats$State", name := "goes", desc := "(II)I" } : Jvm.MethodName)) ∈ lw_all := lw_g (lw_at lw_m4 179 rfl) rfl
theorem q1022 : (Jvm.Cond.methodLink "DutyBeats" (263 : Nat) ({ cls := "java/lang/Math", name := "max", desc := "(II)I" } : Jvm.MethodName)) ∈ lw_all := lw_g (lw_at lw_m4 183 rfl) rfl
theorem q1023 : (Jvm.Cond.methodLink "DutyBeats" (266 : Nat) ({ cls := "DutyBeats$State", name := "waits", desc := "(LDutyBeats$Junction;)V" } : Jvm.MethodName)) ∈ lw_all := lw_g (lw_at lw_m4 184 rfl) rfl
theorem q1029 : (Jvm.Cond.instanceMethod ({ cls := "DutyBeats", name := "come", desc := "(II)I" } : Jvm.MethodName)) ∈ lw_all := lw_g (lw_at lw_m4 190 rfl) rfl
theorem q1030 : (Jvm.Cond.selects "DutyBeats" ({ cls := "DutyBeats", name := "come", desc := "(II)I" } : Jvm.MethodName) ({ cls := "DutyBeats", name := "come", desc := "(II)I" } : Jvm.MethodName)) ∈ lw_all := lw_g (lw_at lw_m4 191 rfl) rfl
theorem q1031 : (Jvm.Cond.code ({ cls := "DutyBeats", name := "come", desc := "(II)I" } : Jvm.MethodName) prog_1_method_28_code (3 : Nat) (Option.some Jvm.ClassFile.FieldType.int)) ∈ lw_all := lw_g (lw_at lw_m4 192 rfl) rfl
theorem q1032 : (Jvm.Cond.constantLong "DutyBeats" (289 : Nat) (20 : Int64)) ∈ lw_all := lw_g (lw_at lw_m4 193 rfl) rfl
theorem q1034 : (Jvm.Cond.instanceMethod ({ cls := "DutyBeats", name := "wave", desc := "(I)I" } : Jvm.MethodName)) ∈ lw_all := lw_g (lw_at lw_m4 195 rfl) rfl
theorem q1035 : (Jvm.Cond.selects "DutyBeats" ({ cls := "DutyBeats", name := "wave", desc := "(I)I" } : Jvm.MethodName) ({ cls := "DutyBeats", name := "wave", desc := "(I)I" } : Jvm.MethodName)) ∈ lw_all := lw_g (lw_at lw_m4 196 rfl) rfl
theorem q1036 : (Jvm.Cond.code ({ cls := "DutyBeats", name := "wave", desc := "(I)I" } : Jvm.MethodName) prog_1_method_29_code (2 : Nat) (Option.some Jvm.ClassFile.FieldType.int)) ∈ lw_all := lw_g (lw_at lw_m4 197 rfl) rfl
theorem q1038 : (Jvm.Cond.instanceMethod ({ cls := "DutyBeats", name := "score", desc := "(II)I" } : Jvm.MethodName)) ∈ lw_all := lw_g (lw_at lw_m4 199 rfl) rfl
theorem q1039 : (Jvm.Cond.selects "DutyBeats" ({ cls := "DutyBeats", name := "score", desc := "(II)I" } : Jvm.MethodName) ({ cls := "DutyBeats", name := "score", desc := "(II)I" } : Jvm.MethodName)) ∈ lw_all := lw_g (lw_at lw_m4 200 rfl) rfl
theorem q1040 : (Jvm.Cond.code ({ cls := "DutyBeats", name := "score", desc := "(II)I" } : Jvm.MethodName) prog_1_method_30_code (3 : Nat) (Option.some Jvm.ClassFile.FieldType.int)) ∈ lw_all := lw_g (lw_at lw_m4 201 rfl) rfl
theorem q1042 : (Jvm.Cond.instanceMethod ({ cls := "DutyBeats", name := "tune", desc := "(II)I" } : Jvm.MethodName)) ∈ lw_all := lw_g (lw_at lw_m4 203 rfl) rfl
theorem q1043 : (Jvm.Cond.selects "DutyBeats" ({ cls := "DutyBeats", name := "tune", desc := "(II)I" } : Jvm.MethodName) ({ cls := "DutyBeats", name := "tune", desc := "(II)I" } : Jvm.MethodName)) ∈ lw_all := lw_g (lw_at lw_m4 204 rfl) rfl
theorem q1044 : (Jvm.Cond.code ({ cls := "DutyBeats", name := "tune", desc := "(II)I" } : Jvm.MethodName) prog_1_method_31_code (4 : Nat) (Option.some Jvm.ClassFile.FieldType.int)) ∈ lw_all := lw_g (lw_at lw_m4 205 rfl) rfl
theorem q1045 : (Jvm.Cond.constantLong "DutyBeats" (291 : Nat) (11 : Int64)) ∈ lw_all := lw_g (lw_at lw_m4 206 rfl) rfl
theorem q1047 : (Jvm.Cond.instanceMethod ({ cls := "DutyBeats", name := "ahead", desc := "(III)I" } : Jvm.MethodName)) ∈ lw_all := lw_g (lw_at lw_m4 208 rfl) rfl
theorem q1048 : (Jvm.Cond.selects "DutyBeats" ({ cls := "DutyBeats", name := "ahead", desc := "(III)I" } : Jvm.MethodName) ({ cls := "DutyBeats", name := "ahead", desc := "(III)I" } : Jvm.MethodName)) ∈ lw_all := lw_g (lw_at lw_m4 209 rfl) rfl
theorem q1049 : (Jvm.Cond.code ({ cls := "DutyBeats", name := "ahead", desc := "(III)I" } : Jvm.MethodName) prog_1_method_32_code (4 : Nat) (Option.some Jvm.ClassFile.FieldType.int)) ∈ lw_all := lw_g (lw_at lw_m4 210 rfl) rfl
theorem q1050 : (Jvm.Cond.constantLong "DutyBeats" (293 : Nat) (2 : Int64)) ∈ lw_all := lw_g (lw_at lw_m4 211 rfl) rfl
theorem q1051 : (Jvm.Cond.constantLong "DutyBeats" (295 : Nat) (100 : Int64)) ∈ lw_all := lw_g (lw_at lw_m4 212 rfl) rfl
theorem q1052 : (Jvm.Cond.methodLink "DutyBeats" (272 : Nat) ({ cls := "DutyBeats", name := "goesTill", desc := "(I)V" } : Jvm.MethodName)) ∈ lw_all := lw_g (lw_at lw_m4 213 rfl) rfl
theorem q1053 : (Jvm.Cond.privateMethod ({ cls := "DutyBeats", name := "goesTill", desc := "(I)V" } : Jvm.MethodName)) ∈ lw_tbl := lw_at lw_m4 214 rfl
theorem q1054 : (Jvm.Cond.instanceMethod ({ cls := "DutyBeats", name := "goesTill", desc := "(I)V" } : Jvm.MethodName)) ∈ lw_all := lw_g (lw_at lw_m4 215 rfl) rfl
theorem q1055 : (Jvm.Cond.code ({ cls := "DutyBeats", name := "goesTill", desc := "(I)V" } : Jvm.MethodName) prog_1_method_22_code (3 : Nat) (Option.none : Option Jvm.ClassFile.FieldType)) ∈ lw_all := lw_g (lw_at lw_m4 216 rfl) rfl
theorem q1057 : (Jvm.Cond.instanceMethod ({ cls := "DutyBeats", name := "clear", desc := "(I)I" } : Jvm.MethodName)) ∈ lw_all := lw_g (lw_at lw_m4 218 rfl) rfl
theorem q1058 : (Jvm.Cond.selects "DutyBeats" ({ cls := "DutyBeats", name := "clear", desc := "(I)I" } : Jvm.MethodName) ({ cls := "DutyBeats", name := "clear", desc := "(I)I" } : Jvm.MethodName)) ∈ lw_all := lw_g (lw_at lw_m4 219 rfl) rfl
theorem q1059 : (Jvm.Cond.code ({ cls := "DutyBeats", name := "clear", desc := "(I)I" } : Jvm.MethodName) prog_1_method_33_code (3 : Nat) (Option.some Jvm.ClassFile.FieldType.int)) ∈ lw_all := lw_g (lw_at lw_m4 220 rfl) rfl
theorem q1061 : (Jvm.Cond.instanceMethod ({ cls := "DutyBeats", name := "cadenza", desc := "(I)I" } : Jvm.MethodName)) ∈ lw_all := lw_g (lw_at lw_m4 222 rfl) rfl
theorem q1062 : (Jvm.Cond.selects "DutyBeats" ({ cls := "DutyBeats", name := "cadenza", desc := "(I)I" } : Jvm.MethodName) ({ cls := "DutyBeats", name := "cadenza", desc := "(I)I" } : Jvm.MethodName)) ∈ lw_all := lw_g (lw_at lw_m4 223 rfl) rfl
theorem q1063 : (Jvm.Cond.code ({ cls := "DutyBeats", name := "cadenza", desc := "(I)I" } : Jvm.MethodName) prog_1_method_34_code (3 : Nat) (Option.some Jvm.ClassFile.FieldType.int)) ∈ lw_all := lw_g (lw_at lw_m4 224 rfl) rfl
theorem q1065 : (Jvm.Cond.instanceMethod ({ cls := "DutyBeats", name := "longest", desc := "(II)I" } : Jvm.MethodName)) ∈ lw_all := lw_g (lw_at lw_m4 226 rfl) rfl
theorem q1066 : (Jvm.Cond.selects "DutyBeats" ({ cls := "DutyBeats", name := "longest", desc := "(II)I" } : Jvm.MethodName) ({ cls := "DutyBeats", name := "longest", desc := "(II)I" } : Jvm.MethodName)) ∈ lw_all := lw_g (lw_at lw_m4 227 rfl) rfl
theorem q1067 : (Jvm.Cond.code ({ cls := "DutyBeats", name := "longest", desc := "(II)I" } : Jvm.MethodName) prog_1_method_35_code (8 : Nat) (Option.some Jvm.ClassFile.FieldType.int)) ∈ lw_all := lw_g (lw_at lw_m4 228 rfl) rfl
theorem q1069 : (Jvm.Cond.instanceMethod ({ cls := "DutyBeats", name := "chord", desc := "(I)I" } : Jvm.MethodName)) ∈ lw_all := lw_g (lw_at lw_m4 230 rfl) rfl
theorem q1070 : (Jvm.Cond.selects "DutyBeats" ({ cls := "DutyBeats", name := "chord", desc := "(I)I" } : Jvm.MethodName) ({ cls := "DutyBeats", name := "chord", desc := "(I)I" } : Jvm.MethodName)) ∈ lw_all := lw_g (lw_at lw_m4 231 rfl) rfl
theorem q1071 : (Jvm.Cond.code ({ cls := "DutyBeats", name := "chord", desc := "(I)I" } : Jvm.MethodName) prog_1_method_36_code (5 : Nat) (Option.some Jvm.ClassFile.FieldType.int)) ∈ lw_all := lw_g (lw_at lw_m4 232 rfl) rfl
theorem q1072 : (Jvm.Cond.methodLink "DutyBeats" (297 : Nat) ({ cls := "DutyBeats$Junction", name := "areFree", desc := "(I)Z" } : Jvm.MethodName)) ∈ lw_all := lw_g (lw_at lw_m4 233 rfl) rfl
theorem q1079 : (Jvm.Cond.instanceMethod ({ cls := "DutyBeats", name := "beats", desc := "(I)I" } : Jvm.MethodName)) ∈ lw_all := lw_g (lw_at lw_m5 0 rfl) rfl
theorem q1080 : (Jvm.Cond.selects "DutyBeats" ({ cls := "DutyBeats", name := "beats", desc := "(I)I" } : Jvm.MethodName) ({ cls := "DutyBeats", name := "beats", desc := "(I)I" } : Jvm.MethodName)) ∈ lw_all := lw_g (lw_at lw_m5 1 rfl) rfl
theorem q1081 : (Jvm.Cond.code ({ cls := "DutyBeats", name := "beats", desc := "(I)I" } : Jvm.MethodName) prog_1_method_38_code (3 : Nat) (Option.some Jvm.ClassFile.FieldType.int)) ∈ lw_all := lw_g (lw_at lw_m5 2 rfl) rfl
theorem q1082 : (Jvm.Cond.constantLong "DutyBeats" (304 : Nat) (5 : Int64)) ∈ lw_all := lw_g (lw_at lw_m5 3 rfl) rfl
theorem q1083 : (Jvm.Cond.methodLink "DutyBeats" (300 : Nat) ({ cls := "DutyBeats", name := "canLay", desc := "(LDutyBeats;II)Z" } : Jvm.MethodName)) ∈ lw_all := lw_g (lw_at lw_m5 4 rfl) rfl
theorem q1084 : (Jvm.Cond.static ({ cls := "DutyBeats", name := "canLay", desc := "(LDutyBeats;II)Z" } : Jvm.MethodName)) ∈ lw_all := lw_g (lw_at lw_m5 5 rfl) rfl
theorem q1085 : (Jvm.Cond.code ({ cls := "DutyBeats", name := "canLay", desc := "(LDutyBeats;II)Z" } : Jvm.MethodName) prog_1_method_37_code (6 : Nat) (Option.some Jvm.ClassFile.FieldType.boolean)) ∈ lw_all := lw_g (lw_at lw_m5 6 rfl) rfl
theorem q1087 : (Jvm.Cond.instanceMethod ({ cls := "DutyBeats", name := "bestScore", desc := "(II)I" } : Jvm.MethodName)) ∈ lw_all := lw_g (lw_at lw_m5 8 rfl) rfl
theorem q1088 : (Jvm.Cond.selects "DutyBeats" ({ cls := "DutyBeats", name := "bestScore", desc := "(II)I" } : Jvm.MethodName) ({ cls := "DutyBeats", name := "bestScore", desc := "(II)I" } : Jvm.MethodName)) ∈ lw_all := lw_g (lw_at lw_m5 9 rfl) rfl
theorem q1089 : (Jvm.Cond.code ({ cls := "DutyBeats", name := "bestScore", desc := "(II)I" } : Jvm.MethodName) prog_1_method_39_code (9 : Nat) (Option.some Jvm.ClassFile.FieldType.int)) ∈ lw_all := lw_g (lw_at lw_m5 10 rfl) rfl
theorem q1090 : (Jvm.Cond.constantLong "DutyBeats" (306 : Nat) (30 : Int64)) ∈ lw_all := lw_g (lw_at lw_m5 11 rfl) rfl
theorem q1091 : (Jvm.Cond.methodLink "DutyBeats" (308 : Nat) ({ cls := "DutyBeats", name := "waitedIn", desc := "(I)I" } : Jvm.MethodName)) ∈ lw_all := lw_g (lw_at lw_m5 12 rfl) rfl
theorem q1092 : (Jvm.Cond.privateMethod ({ cls := "DutyBeats", name := "waitedIn", desc := "(I)I" } : Jvm.MethodName)) ∈ lw_tbl := lw_at lw_m5 13 rfl
theorem q1093 : (Jvm.Cond.instanceMethod ({ cls := "DutyBeats", name := "waitedIn", desc := "(I)I" } : Jvm.MethodName)) ∈ lw_all := lw_g (lw_at lw_m5 14 rfl) rfl
theorem q1094 : (Jvm.Cond.code ({ cls := "DutyBeats", name := "waitedIn", desc := "(I)I" } : Jvm.MethodName) prog_1_method_23_code (2 : Nat) (Option.some Jvm.ClassFile.FieldType.int)) ∈ lw_all := lw_g (lw_at lw_m5 15 rfl) rfl
theorem q1096 : (Jvm.Cond.instanceMethod ({ cls := "DutyBeats", name := "row", desc := "(II)I" } : Jvm.MethodName)) ∈ lw_all := lw_g (lw_at lw_m5 17 rfl) rfl
theorem q1097 : (Jvm.Cond.selects "DutyBeats" ({ cls := "DutyBeats", name := "row", desc := "(II)I" } : Jvm.MethodName) ({ cls := "DutyBeats", name := "row", desc := "(II)I" } : Jvm.MethodName)) ∈ lw_all := lw_g (lw_at lw_m5 18 rfl) rfl
theorem q1098 : (Jvm.Cond.code ({ cls := "DutyBeats", name := "row", desc := "(II)I" } : Jvm.MethodName) prog_1_method_42_code (3 : Nat) (Option.some Jvm.ClassFile.FieldType.int)) ∈ lw_all := lw_g (lw_at lw_m5 19 rfl) rfl
theorem q1099 : (Jvm.Cond.constantLong "DutyBeats" (325 : Nat) (3 : Int64)) ∈ lw_all := lw_g (lw_at lw_m5 20 rfl) rfl
theorem q1100 : (Jvm.Cond.constantLong "DutyBeats" (327 : Nat) (4 : Int64)) ∈ lw_all := lw_g (lw_at lw_m5 21 rfl) rfl
theorem q1101 : (Jvm.Cond.methodLink "DutyBeats" (315 : Nat) ({ cls := "DutyBeats", name := "rowsFrom", desc := "(LDutyBeats;II)V" } : Jvm.MethodName)) ∈ lw_all := lw_g (lw_at lw_m5 22 rfl) rfl
theorem q1102 : (Jvm.Cond.static ({ cls := "DutyBeats", name := "rowsFrom", desc := "(LDutyBeats;II)V" } : Jvm.MethodName)) ∈ lw_all := lw_g (lw_at lw_m5 23 rfl) rfl
theorem q1103 : (Jvm.Cond.code ({ cls := "DutyBeats", name := "rowsFrom", desc := "(LDutyBeats;II)V" } : Jvm.MethodName) prog_1_method_40_code (4 : Nat) (Option.none : Option Jvm.ClassFile.FieldType)) ∈ lw_all := lw_g (lw_at lw_m5 24 rfl) rfl
theorem q1104 : (Jvm.Cond.methodLink "DutyBeats" (311 : Nat) ({ cls := "DutyBeats", name := "triesRow", desc := "(LDutyBeats$State;I)V" } : Jvm.MethodName)) ∈ lw_all := lw_g (lw_at lw_m5 25 rfl) rfl
theorem q1105 : (Jvm.Cond.privateMethod ({ cls := "DutyBeats", name := "triesRow", desc := "(LDutyBeats$State;I)V" } : Jvm.MethodName)) ∈ lw_tbl := lw_at lw_m5 26 rfl
theorem q1106 : (Jvm.Cond.instanceMethod ({ cls := "DutyBeats", name := "triesRow", desc := "(LDutyBeats$State;I)V" } : Jvm.MethodName)) ∈ lw_all := lw_g (lw_at lw_m5 27 rfl) rfl
theorem q1107 : (Jvm.Cond.code ({ cls := "DutyBeats", name := "triesRow", desc := "(LDutyBeats$State;I)V" } : Jvm.MethodName) prog_1_method_41_code (5 : Nat) (Option.none : Option Jvm.ClassFile.FieldType)) ∈ lw_all := lw_g (lw_at lw_m5 28 rfl) rfl
theorem q1109 : (Jvm.Cond.instanceMethod ({ cls := "DutyBeats", name := "leastRoom", desc := "(I)I" } : Jvm.MethodName)) ∈ lw_all := lw_g (lw_at lw_m5 30 rfl) rfl
theorem q1110 : (Jvm.Cond.selects "DutyBeats" ({ cls := "DutyBeats", name := "leastRoom", desc := "(I)I" } : Jvm.MethodName) ({ cls := "DutyBeats", name := "leastRoom", desc := "(I)I" } : Jvm.MethodName)) ∈ lw_all := lw_g (lw_at lw_m5 31 rfl) rfl
theorem q1111 : (Jvm.Cond.code ({ cls := "DutyBeats", name := "leastRoom", desc := "(I)I" } : Jvm.MethodName) prog_1_method_44_code (4 : Nat) (Option.some Jvm.ClassFile.FieldType.int)) ∈ lw_all := lw_g (lw_at lw_m5 32 rfl) rfl
theorem q1112 : (Jvm.Cond.constantLong "DutyBeats" (329 : Nat) (60 : Int64)) ∈ lw_all := lw_g (lw_at lw_m5 33 rfl) rfl
theorem q1113 : (Jvm.Cond.methodLink "DutyBeats" (331 : Nat) ({ cls := "DutyBeats", name := "areFewIn", desc := "(I)Z" } : Jvm.MethodName)) ∈ lw_all := lw_g (lw_at lw_m5 34 rfl) rfl
theorem q1114 : (Jvm.Cond.privateMethod ({ cls := "DutyBeats", name := "areFewIn", desc := "(I)Z" } : Jvm.MethodName)) ∈ lw_tbl := lw_at lw_m5 35 rfl
theorem q1115 : (Jvm.Cond.instanceMethod ({ cls := "DutyBeats", name := "areFewIn", desc := "(I)Z" } : Jvm.MethodName)) ∈ lw_all := lw_g (lw_at lw_m5 36 rfl) rfl
theorem q1116 : (Jvm.Cond.code ({ cls := "DutyBeats", name := "areFewIn", desc := "(I)Z" } : Jvm.MethodName) prog_1_method_43_code (4 : Nat) (Option.some Jvm.ClassFile.FieldType.boolean)) ∈ lw_all := lw_g (lw_at lw_m5 37 rfl) rfl
theorem q1118 : (Jvm.Cond.instanceMethod ({ cls := "DutyBeats", name := "shut", desc := "(II)I" } : Jvm.MethodName)) ∈ lw_all := lw_g (lw_at lw_m5 39 rfl) rfl
theorem q1119 : (Jvm.Cond.selects "DutyBeats" ({ cls := "DutyBeats", name := "shut", desc := "(II)I" } : Jvm.MethodName) ({ cls := "DutyBeats", name := "shut", desc := "(II)I" } : Jvm.MethodName)) ∈ lw_all := lw_g (lw_at lw_m5 40 rfl) rfl
theorem q1120 : (Jvm.Cond.code ({ cls := "DutyBeats", name := "shut", desc := "(II)I" } : Jvm.MethodName) prog_1_method_45_code (7 : Nat) (Option.some Jvm.ClassFile.FieldType.int)) ∈ lw_all := lw_g (lw_at lw_m5 41 rfl) rfl
theorem q1122 : (Jvm.Cond.instanceMethod ({ cls := "DutyBeats", name := "rests", desc := "(IIII)I" } : Jvm.MethodName)) ∈ lw_all := lw_g (lw_at lw_m5 43 rfl) rfl
theorem q1123 : (Jvm.Cond.selects "DutyBeats" ({ cls := "DutyBeats", name := "rests", desc := "(IIII)I" } : Jvm.MethodName) ({ cls := "DutyBeats", name := "rests", desc := "(IIII)I" } : Jvm.MethodName)) ∈ lw_all := lw_g (lw_at lw_m5 44 rfl) rfl
theorem q1124 : (Jvm.Cond.code ({ cls := "DutyBeats", name := "rests", desc := "(IIII)I" } : Jvm.MethodName) prog_1_method_48_code (8 : Nat) (Option.some Jvm.ClassFile.FieldType.int)) ∈ lw_all := lw_g (lw_at lw_m5 45 rfl) rfl
theorem q1125 : (Jvm.Cond.methodLink "DutyBeats" (334 : Nat) ({ cls := "DutyBeats", name := "hasThen", desc := "(I)I" } : Jvm.MethodName)) ∈ lw_all := lw_g (lw_at lw_m5 46 rfl) rfl
theorem q1126 : (Jvm.Cond.privateMethod ({ cls := "DutyBeats", name := "hasThen", desc := "(I)I" } : Jvm.MethodName)) ∈ lw_tbl := lw_at lw_m5 47 rfl
theorem q1127 : (Jvm.Cond.instanceMethod ({ cls := "DutyBeats", name := "hasThen", desc := "(I)I" } : Jvm.MethodName)) ∈ lw_all := lw_g (lw_at lw_m5 48 rfl) rfl
theorem q1128 : (Jvm.Cond.code ({ cls := "DutyBeats", name := "hasThen", desc := "(I)I" } : Jvm.MethodName) prog_1_method_46_code (2 : Nat) (Option.some Jvm.ClassFile.FieldType.int)) ∈ lw_all := lw_g (lw_at lw_m5 49 rfl) rfl
theorem q1129 : (Jvm.Cond.methodLink "DutyBeats" (337 : Nat) ({ cls := "DutyBeats", name := "isRest", desc := "(I)Z" } : Jvm.MethodName)) ∈ lw_all := lw_g (lw_at lw_m5 50 rfl) rfl
theorem q1130 : (Jvm.Cond.privateMethod ({ cls := "DutyBeats", name := "isRest", desc := "(I)Z" } : Jvm.MethodName)) ∈ lw_tbl := lw_at lw_m5 51 rfl
theorem q1131 : (Jvm.Cond.instanceMethod ({ cls := "DutyBeats", name := "isRest", desc := "(I)Z" } : Jvm.MethodName)) ∈ lw_all := lw_g (lw_at lw_m5 52 rfl) rfl
theorem q1132 : (Jvm.Cond.code ({ cls := "DutyBeats", name := "isRest", desc := "(I)Z" } : Jvm.MethodName) prog_1_method_47_code (3 : Nat) (Option.some Jvm.ClassFile.FieldType.boolean)) ∈ lw_all := lw_g (lw_at lw_m5 53 rfl) rfl
theorem q1134 : (Jvm.Cond.instanceMethod ({ cls := "DutyBeats", name := "ring", desc := "(I)I" } : Jvm.MethodName)) ∈ lw_all := lw_g (lw_at lw_m5 55 rfl) rfl
theorem q1135 : (Jvm.Cond.selects "DutyBeats" ({ cls := "DutyBeats", name := "ring", desc := "(I)I" } : Jvm.MethodName) ({ cls := "DutyBeats", name := "ring", desc := "(I)I" } : Jvm.MethodName)) ∈ lw_all := lw_g (lw_at lw_m5 56 rfl) rfl
theorem q1136 : (Jvm.Cond.code ({ cls := "DutyBeats", name := "ring", desc := "(I)I" } : Jvm.MethodName) prog_1_method_50_code (4 : Nat) (Option.some Jvm.ClassFile.FieldType.int)) ∈ lw_all := lw_g (lw_at lw_m5 57 rfl) rfl
theorem q1137 : (Jvm.Cond.methodLink "DutyBeats" (340 : Nat) ({ cls := "DutyBeats", name := "areAlike", desc := "(II)Z" } : Jvm.MethodName)) ∈ lw_all := lw_g (lw_at lw_m5 58 rfl) rfl
theorem q1138 : (Jvm.Cond.privateMethod ({ cls := "DutyBeats", name := "areAlike", desc := "(II)Z" } : Jvm.MethodName)) ∈ lw_tbl := lw_at lw_m5 59 rfl
theorem q1139 : (Jvm.Cond.instanceMethod ({ cls := "DutyBeats", name := "areAlike", desc := "(II)Z" } : Jvm.MethodName)) ∈ lw_all := lw_g (lw_at lw_m5 60 rfl) rfl
theorem q1140 : (Jvm.Cond.code ({ cls := "DutyBeats", name := "areAlike", desc := "(II)Z" } : Jvm.MethodName) prog_1_method_49_code (4 : Nat) (Option.some Jvm.ClassFile.FieldType.boolean)) ∈ lw_all := lw_g (lw_at lw_m5 61 rfl) rfl
theorem q1142 : (Jvm.Cond.instanceMethod ({ cls := "DutyBeats", name := "pence", desc := "(II)I" } : Jvm.MethodName)) ∈ lw_all := lw_g (lw_at lw_m5 63 rfl) rfl
theorem q1143 : (Jvm.Cond.selects "DutyBeats" ({ cls := "DutyBeats", name := "pence", desc := "(II)I" } : Jvm.MethodName) ({ cls := "DutyBeats", name := "pence", desc := "(II)I" } : Jvm.MethodName)) ∈ lw_all := lw_g (lw_at lw_m5 64 rfl) rfl
theorem q1144 : (Jvm.Cond.code ({ cls := "DutyBeats", name := "pence", desc := "(II)I" } : Jvm.MethodName) prog_1_method_51_code (11 : Nat) (Option.some Jvm.ClassFile.FieldType.int)) ∈ lw_all := lw_g (lw_at lw_m5 65 rfl) rfl
theorem q1145 : (Jvm.Cond.constantLong "DutyBeats" (343 : Nat) (9999 : Int64)) ∈ lw_all := lw_g (lw_at lw_m5 66 rfl) rfl
theorem q1147 : (Jvm.Cond.instanceMethod ({ cls := "DutyBeats", name := "note", desc := "(III)I" } : Jvm.MethodName)) ∈ lw_all := lw_g (lw_at lw_m5 68 rfl) rfl
theorem q1148 : (Jvm.Cond.selects "DutyBeats" ({ cls := "DutyBeats", name := "note", desc := "(III)I" } : Jvm.MethodName) ({ cls := "DutyBeats", name := "note", desc := "(III)I" } : Jvm.MethodName)) ∈ lw_all := lw_g (lw_at lw_m5 69 rfl) rfl
theorem q1149 : (Jvm.Cond.code ({ cls := "DutyBeats", name := "note", desc := "(III)I" } : Jvm.MethodName) prog_1_method_52_code (4 : Nat) (Option.some Jvm.ClassFile.FieldType.int)) ∈ lw_all := lw_g (lw_at lw_m5 70 rfl) rfl
theorem q1150 : (Jvm.Cond.constantLong "DutyBeats" (345 : Nat) (9 : Int64)) ∈ lw_all := lw_g (lw_at lw_m5 71 rfl) rfl
theorem q1152 : (Jvm.Cond.instanceMethod ({ cls := "DutyBeats", name := "ruled", desc := "(I)I" } : Jvm.MethodName)) ∈ lw_all := lw_g (lw_at lw_m5 73 rfl) rfl
theorem q1153 : (Jvm.Cond.selects "DutyBeats" ({ cls := "DutyBeats", name := "ruled", desc := "(I)I" } : Jvm.MethodName) ({ cls := "DutyBeats", name := "ruled", desc := "(I)I" } : Jvm.MethodName)) ∈ lw_all := lw_g (lw_at lw_m5 74 rfl) rfl
theorem q1154 : (Jvm.Cond.code ({ cls := "DutyBeats", name := "ruled", desc := "(I)I" } : Jvm.MethodName) prog_1_method_54_code (5 : Nat) (Option.some Jvm.ClassFile.FieldType.int)) ∈ lw_all := lw_g (lw_at lw_m5 75 rfl) rfl
theorem q1155 : (Jvm.Cond.methodLink "DutyBeats" (347 : Nat) ({ cls := "DutyBeats", name := "couldRule", desc := "(I)Z" } : Jvm.MethodName)) ∈ lw_all := lw_g (lw_at lw_m5 76 rfl) rfl
theorem q1156 : (Jvm.Cond.privateMethod ({ cls := "DutyBeats", name := "couldRule", desc := "(I)Z" } : Jvm.MethodName)) ∈ lw_tbl := lw_at lw_m5 77 rfl
theorem q1157 : (Jvm.Cond.instanceMethod ({ cls := "DutyBeats", name := "couldRule", desc := "(I)Z" } : Jvm.MethodName)) ∈ lw_all := lw_g (lw_at lw_m5 78 rfl) rfl
theorem q1158 : (Jvm.Cond.code ({ cls := "DutyBeats", name := "couldRule", desc := "(I)Z" } : Jvm.MethodName) prog_1_method_53_code (5 : Nat) (Option.some Jvm.ClassFile.FieldType.boolean)) ∈ lw_all := lw_g (lw_at lw_m5 79 rfl) rfl
theorem q1160 : (Jvm.Cond.instanceMethod ({ cls := "DutyBeats", name := "look", desc := "(II)I" } : Jvm.MethodName)) ∈ lw_all := lw_g (lw_at lw_m5 81 rfl) rfl
theorem q1161 : (Jvm.Cond.selects "DutyBeats" ({ cls := "DutyBeats", name := "look", desc := "(II)I" } : Jvm.MethodName) ({ cls := "DutyBeats", name := "look", desc := "(II)I" } : Jvm.MethodName)) ∈ lw_all := lw_g (lw_at lw_m5 82 rfl) rfl
theorem q1162 : (Jvm.Cond.code ({ cls := "DutyBeats", name := "look", desc := "(II)I" } : Jvm.MethodName) prog_1_method_56_code (6 : Nat) (Option.some Jvm.ClassFile.FieldType.int)) ∈ lw_all := lw_g (lw_at lw_m5 83 rfl) rfl
theorem q1163 : (Jvm.Cond.methodLink "DutyBeats" (350 : Nat) ({ cls := "DutyBeats", name := "mostAlike", desc := "(II)I" } : Jvm.MethodName)) ∈ lw_all := lw_g (lw_at lw_m5 84 rfl) rfl
theorem q1164 : (Jvm.Cond.privateMethod ({ cls := "DutyBeats", name := "mostAlike", desc := "(II)I" } : Jvm.MethodName)) ∈ lw_tbl := lw_at lw_m5 85 rfl
theorem q1165 : (Jvm.Cond.instanceMethod ({ cls := "DutyBeats", name := "mostAlike", desc := "(II)I" } : Jvm.MethodName)) ∈ lw_all := lw_g (lw_at lw_m5 86 rfl) rfl
theorem q1166 : (Jvm.Cond.code ({ cls := "DutyBeats", name := "mostAlike", desc := "(II)I" } : Jvm.MethodName) prog_1_method_55_code (7 : Nat) (Option.some Jvm.ClassFile.FieldType.int)) ∈ lw_all := lw_g (lw_at lw_m5 87 rfl) rfl
theorem q1168 : (Jvm.Cond.instanceMethod ({ cls := "DutyBeats", name := "seed", desc := "(I)I" } : Jvm.MethodName)) ∈ lw_all := lw_g (lw_at lw_m5 89 rfl) rfl
theorem q1169 : (Jvm.Cond.selects "DutyBeats" ({ cls := "DutyBeats", name := "seed", desc := "(I)I" } : Jvm.MethodName) ({ cls := "DutyBeats", name := "seed", desc := "(I)I" } : Jvm.MethodName)) ∈ lw_all := lw_g (lw_at lw_m5 90 rfl) rfl
theorem q1170 : (Jvm.Cond.code ({ cls := "DutyBeats", name := "seed", desc := "(I)I" } : Jvm.MethodName) prog_1_method_57_code (3 : Nat) (Option.some Jvm.ClassFile.FieldType.int)) ∈ lw_all := lw_g (lw_at lw_m5 91 rfl) rfl
theorem q1172 : (Jvm.Cond.instanceMethod ({ cls := "DutyBeats", name := "mornings", desc := "(IIII)I" } : Jvm.MethodName)) ∈ lw_all := lw_g (lw_at lw_m5 93 rfl) rfl
theorem q1173 : (Jvm.Cond.selects "DutyBeats" ({ cls := "DutyBeats", name := "mornings", desc := "(IIII)I" } : Jvm.MethodName) ({ cls := "DutyBeats", name := "mornings", desc := "(IIII)I" } : Jvm.MethodName)) ∈ lw_all := lw_g (lw_at lw_m5 94 rfl) rfl
theorem q1174 : (Jvm.Cond.code ({ cls := "DutyBeats", name := "mornings", desc := "(IIII)I" } : Jvm.MethodName) prog_1_method_59_code (10 : Nat) (Option.some Jvm.ClassFile.FieldType.int)) ∈ lw_all := lw_g (lw_at lw_m5 95 rfl) rfl
theorem q1175 : (Jvm.Cond.constantLong "DutyBeats" (363 : Nat) (10 : Int64)) ∈ lw_all := lw_g (lw_at lw_m5 96 rfl) rfl
theorem q1176 : (Jvm.Cond.constant "DutyBeats" (365 : Nat) (-100000 : Int32)) ∈ lw_all := lw_g (lw_at lw_m5 97 rfl) rfl
theorem q1177 : (Jvm.Cond.methodLink "DutyBeats" (366 : Nat) ({ cls := "DutyBeats", name := "draws", desc := "(I)I" } : Jvm.MethodName)) ∈ lw_all := lw_g (lw_at lw_m5 98 rfl) rfl
theorem q1178 : (Jvm.Cond.privateMethod ({ cls := "DutyBeats", name := "draws", desc := "(I)I" } : Jvm.MethodName)) ∈ lw_tbl := lw_at lw_m5 99 rfl
theorem q1179 : (Jvm.Cond.instanceMethod ({ cls := "DutyBeats", name := "draws", desc := "(I)I" } : Jvm.MethodName)) ∈ lw_all := lw_g (lw_at lw_m5 100 rfl) rfl
theorem q1180 : (Jvm.Cond.code ({ cls := "DutyBeats", name := "draws", desc := "(I)I" } : Jvm.MethodName) prog_1_method_58_code (2 : Nat) (Option.some Jvm.ClassFile.FieldType.int)) ∈ lw_all := lw_g (lw_at lw_m5 101 rfl) rfl
theorem q1181 : (Jvm.Cond.constantLong "DutyBeats" (356 : Nat) (1103515245 : Int64)) ∈ lw_all := lw_g (lw_at lw_m5 102 rfl) rfl
theorem q1182 : (Jvm.Cond.constantLong "DutyBeats" (358 : Nat) (12345 : Int64)) ∈ lw_all := lw_g (lw_at lw_m5 103 rfl) rfl
theorem q1183 : (Jvm.Cond.constantLong "DutyBeats" (360 : Nat) (2147483648 : Int64)) ∈ lw_all := lw_g (lw_at lw_m5 104 rfl) rfl
theorem q1184 : (Jvm.Cond.constant "DutyBeats" (362 : Nat) (65536 : Int32)) ∈ lw_all := lw_g (lw_at lw_m5 105 rfl) rfl
theorem q1186 : (Jvm.Cond.instanceMethod ({ cls := "DutyBeats", name := "count", desc := "(I)I" } : Jvm.MethodName)) ∈ lw_all := lw_g (lw_at lw_m5 107 rfl) rfl
theorem q1187 : (Jvm.Cond.selects "DutyBeats" ({ cls := "DutyBeats", name := "count", desc := "(I)I" } : Jvm.MethodName) ({ cls := "DutyBeats", name := "count", desc := "(I)I" } : Jvm.MethodName)) ∈ lw_all := lw_g (lw_at lw_m5 108 rfl) rfl
theorem q1188 : (Jvm.Cond.code ({ cls := "DutyBeats", name := "count", desc := "(I)I" } : Jvm.MethodName) prog_1_method_60_code (2 : Nat) (Option.some Jvm.ClassFile.FieldType.int)) ∈ lw_all := lw_g (lw_at lw_m5 109 rfl) rfl
theorem q1190 : (Jvm.Cond.instanceMethod ({ cls := "DutyBeats", name := "image", desc := "(I)I" } : Jvm.MethodName)) ∈ lw_all := lw_g (lw_at lw_m5 111 rfl) rfl
theorem q1191 : (Jvm.Cond.selects "DutyBeats" ({ cls := "DutyBeats", name := "image", desc := "(I)I" } : Jvm.MethodName) ({ cls := "DutyBeats", name := "image", desc := "(I)I" } : Jvm.MethodName)) ∈ lw_all := lw_g (lw_at lw_m5 112 rfl) rfl
theorem q1192 : (Jvm.Cond.code ({ cls := "DutyBeats", name := "image", desc := "(I)I" } : Jvm.MethodName) prog_1_method_61_code (2 : Nat) (Option.some Jvm.ClassFile.FieldType.int)) ∈ lw_all := lw_g (lw_at lw_m5 113 rfl) rfl
theorem q1194 : (Jvm.Cond.methodLinkNest "DutyBeats" (369 : Nat) ({ cls := "DutyBeats$Image", name := "<init>", desc := "(LDutyBeats;)V" } : Jvm.MethodName) "DutyBeats") ∈ lw_tbl := lw_at lw_m5 115 rfl
theorem q1228 : (Jvm.Cond.methodLink "DutyBeats" (372 : Nat) ({ cls := "DutyBeats$Image", name := "keep", desc := "()V" } : Jvm.MethodName)) ∈ lw_all := lw_g (lw_at lw_m5 149 rfl) rfl
theorem q1234 : (Jvm.Cond.instanceMethod ({ cls := "DutyBeats", name := "back", desc := "(I)I" } : Jvm.MethodName)) ∈ lw_all := lw_g (lw_at lw_m5 155 rfl) rfl
theorem q1235 : (Jvm.Cond.selects "DutyBeats" ({ cls := "DutyBeats", name := "back", desc := "(I)I" } : Jvm.MethodName) ({ cls := "DutyBeats", name := "back", desc := "(I)I" } : Jvm.MethodName)) ∈ lw_all := lw_g (lw_at lw_m5 156 rfl) rfl
theorem q1236 : (Jvm.Cond.code ({ cls := "DutyBeats", name := "back", desc := "(I)I" } : Jvm.MethodName) prog_1_method_62_code (2 : Nat) (Option.some Jvm.ClassFile.FieldType.int)) ∈ lw_all := lw_g (lw_at lw_m5 157 rfl) rfl
theorem q1237 : (Jvm.Cond.methodLink "DutyBeats" (375 : Nat) ({ cls := "DutyBeats$Image", name := "back", desc := "()V" } : Jvm.MethodName)) ∈ lw_all := lw_g (lw_at lw_m5 158 rfl) rfl
theorem q1876 : (Jvm.Cond.castable "DutyBeats" "java/lang/Object") ∈ lw_tbl := lw_at lw_m8 77 rfl
theorem q1905 : (Jvm.Cond.stringRef "DutyBeats" (383 : Nat) "road") ∈ lw_tbl := lw_at lw_m8 106 rfl
theorem q1906 : (Jvm.Cond.stringRef "DutyBeats" (385 : Nat) "wait") ∈ lw_tbl := lw_at lw_m8 107 rfl
theorem q1907 : (Jvm.Cond.stringRef "DutyBeats" (386 : Nat) "every") ∈ lw_tbl := lw_at lw_m8 108 rfl
theorem q1908 : (Jvm.Cond.stringRef "DutyBeats" (387 : Nat) "part") ∈ lw_tbl := lw_at lw_m8 109 rfl
theorem q1909 : (Jvm.Cond.stringRef "DutyBeats" (388 : Nat) "scored") ∈ lw_tbl := lw_at lw_m8 110 rfl
theorem q1910 : (Jvm.Cond.stringRef "DutyBeats" (390 : Nat) "let") ∈ lw_tbl := lw_at lw_m8 111 rfl
theorem q1911 : (Jvm.Cond.stringRef "DutyBeats" (392 : Nat) "sound") ∈ lw_tbl := lw_at lw_m8 112 rfl
theorem q1912 : (Jvm.Cond.stringRef "DutyBeats" (393 : Nat) "since") ∈ lw_tbl := lw_at lw_m8 113 rfl
theorem q1913 : (Jvm.Cond.stringRef "DutyBeats" (394 : Nat) "went") ∈ lw_tbl := lw_at lw_m8 114 rfl
theorem q1914 : (Jvm.Cond.stringRef "DutyBeats" (395 : Nat) "all") ∈ lw_tbl := lw_at lw_m8 115 rfl
theorem q1915 : (Jvm.Cond.stringRef "DutyBeats" (397 : Nat) "beat") ∈ lw_tbl := lw_at lw_m8 116 rfl
theorem q1916 : (Jvm.Cond.stringRef "DutyBeats" (398 : Nat) "hour") ∈ lw_tbl := lw_at lw_m8 117 rfl
theorem in_X0 : ∀ w ∈ wsX00, w ∈ lw_all := lw_in wsX00 [377, 379, 381, 383, 385, 387, 389, 391, 393, 395, 397, 399, 401, 403, 405, 407, 409, 411, 413, 415, 417, 419, 421, 423, 425, 427, 429, 431, 433, 435, 437, 439] (by decide +kernel) (by decide +kernel)
def RX1 : String := "DutyBeats$Junction"
def TX1 : u_T := fun k => match k with
  | 0 => ("DutyBeats$Junction", "roads", "Ljava/util/ArrayList;", true)
  | 1 => ("DutyBeats$Junction", "clashes", "[I", true)
  | 2 => ("DutyBeats$Junction", "score", "[I", true)
  | 3 => ("DutyBeats$Junction", "bar", "I", false)
  | _ => ("DutyBeats$Junction", "room", "I", false)
def tyX1 : Nat → FieldType := fun k => match k with
  | 0 => .object "java/util/ArrayList"
  | 1 => .array .int
  | 2 => .array .int
  | 3 => .int
  | _ => .int
abbrev wsX10 : List Cond := u_ws RX1 TX1 5
theorem nmX1 : ∀ a, a < 5 → ∀ b, b < 5 → a ≠ b → (TX1 a).2.1 ≠ (TX1 b).2.1 := by decide +kernel
theorem tyX1_ok : ∀ k, k < 5 → parseFieldDescriptor (TX1 k).2.2.1 = some (tyX1 k) := by decide +kernel
theorem q121 : (Jvm.Cond.initialized "DutyBeats$Junction") ∈ lw_all := lw_g (lw_at lw_m1 2 rfl) rfl
theorem q163 : (Jvm.Cond.instantiable "DutyBeats$Junction" (5 : Nat)) ∈ lw_all := lw_g (lw_at lw_m1 44 rfl) rfl
theorem q165 : (Jvm.Cond.instanceMethod ({ cls := "DutyBeats$Junction", name := "<init>", desc := "()V" } : Jvm.MethodName)) ∈ lw_all := lw_g (lw_at lw_m1 46 rfl) rfl
theorem q166 : (Jvm.Cond.code ({ cls := "DutyBeats$Junction", name := "<init>", desc := "()V" } : Jvm.MethodName) prog_8_method_1_code (1 : Nat) (Option.none : Option Jvm.ClassFile.FieldType)) ∈ lw_all := lw_g (lw_at lw_m1 47 rfl) rfl
theorem q167 : (Jvm.Cond.methodLink "DutyBeats$Junction" (3 : Nat) ({ cls := "java/lang/Object", name := "<init>", desc := "()V" } : Jvm.MethodName)) ∈ lw_all := lw_g (lw_at lw_m1 48 rfl) rfl
theorem q168 : (Jvm.Cond.classLink "DutyBeats$Junction" (9 : Nat) "java/util/ArrayList") ∈ lw_all := lw_g (lw_at lw_m1 49 rfl) rfl
theorem q170 : (Jvm.Cond.methodLink "DutyBeats$Junction" (11 : Nat) ({ cls := "java/util/ArrayList", name := "<init>", desc := "(I)V" } : Jvm.MethodName)) ∈ lw_all := lw_g (lw_at lw_m1 51 rfl) rfl
theorem q196 : (Jvm.Cond.fieldLink "DutyBeats$Junction" (14 : Nat) "DutyBeats$Junction" "roads" "Ljava/util/ArrayList;") ∈ lw_all := lw_g (lw_at lw_m1 77 rfl) rfl
theorem q199 : (Jvm.Cond.fieldLink "DutyBeats$Junction" (20 : Nat) "DutyBeats$Junction" "clashes" "[I") ∈ lw_all := lw_g (lw_at lw_m1 80 rfl) rfl
theorem q202 : (Jvm.Cond.fieldLink "DutyBeats$Junction" (24 : Nat) "DutyBeats$Junction" "score" "[I") ∈ lw_all := lw_g (lw_at lw_m1 83 rfl) rfl
theorem q209 : (Jvm.Cond.laysFinal "DutyBeats$Junction" "DutyBeats$Junction" "roads" "Ljava/util/ArrayList;") ∈ lw_all := lw_g (lw_at lw_m1 90 rfl) rfl
theorem q210 : (Jvm.Cond.soleField "DutyBeats$Junction" "roads") ∈ lw_all := lw_g (lw_at lw_m1 91 rfl) rfl
theorem q211 : (Jvm.Cond.laysFinal "DutyBeats$Junction" "DutyBeats$Junction" "clashes" "[I") ∈ lw_all := lw_g (lw_at lw_m1 92 rfl) rfl
theorem q212 : (Jvm.Cond.soleField "DutyBeats$Junction" "clashes") ∈ lw_all := lw_g (lw_at lw_m1 93 rfl) rfl
theorem q213 : (Jvm.Cond.laysFinal "DutyBeats$Junction" "DutyBeats$Junction" "score" "[I") ∈ lw_all := lw_g (lw_at lw_m1 94 rfl) rfl
theorem q214 : (Jvm.Cond.soleField "DutyBeats$Junction" "score") ∈ lw_all := lw_g (lw_at lw_m1 95 rfl) rfl
theorem q215 : (Jvm.Cond.lays "DutyBeats$Junction" "DutyBeats$Junction" "bar" "I") ∈ lw_all := lw_g (lw_at lw_m1 96 rfl) rfl
theorem q216 : (Jvm.Cond.soleField "DutyBeats$Junction" "bar") ∈ lw_all := lw_g (lw_at lw_m1 97 rfl) rfl
theorem q217 : (Jvm.Cond.lays "DutyBeats$Junction" "DutyBeats$Junction" "room" "I") ∈ lw_all := lw_g (lw_at lw_m1 98 rfl) rfl
theorem q218 : (Jvm.Cond.soleField "DutyBeats$Junction" "room") ∈ lw_all := lw_g (lw_at lw_m1 99 rfl) rfl
theorem q219 : (Jvm.Cond.superclass "DutyBeats$Junction" "java/lang/Object") ∈ lw_all := lw_g (lw_at lw_m1 100 rfl) rfl
theorem q584 : (Jvm.Cond.instanceMethod ({ cls := "DutyBeats$Junction", name := "roads", desc := "()I" } : Jvm.MethodName)) ∈ lw_all := lw_g (lw_at lw_m2 225 rfl) rfl
theorem q585 : (Jvm.Cond.selects "DutyBeats$Junction" ({ cls := "DutyBeats$Junction", name := "roads", desc := "()I" } : Jvm.MethodName) ({ cls := "DutyBeats$Junction", name := "roads", desc := "()I" } : Jvm.MethodName)) ∈ lw_all := lw_g (lw_at lw_m2 226 rfl) rfl
theorem q586 : (Jvm.Cond.code ({ cls := "DutyBeats$Junction", name := "roads", desc := "()I" } : Jvm.MethodName) prog_8_method_2_code (1 : Nat) (Option.some Jvm.ClassFile.FieldType.int)) ∈ lw_all := lw_g (lw_at lw_m2 227 rfl) rfl
theorem q587 : (Jvm.Cond.methodLink "DutyBeats$Junction" (27 : Nat) ({ cls := "java/util/ArrayList", name := "size", desc := "()I" } : Jvm.MethodName)) ∈ lw_all := lw_g (lw_at lw_m2 228 rfl) rfl
theorem q657 : (Jvm.Cond.selects "DutyBeats$Junction" ({ cls := "java/lang/Object", name := "getClass", desc := "()Ljava/lang/Class;" } : Jvm.MethodName) ({ cls := "java/lang/Object", name := "getClass", desc := "()Ljava/lang/Class;" } : Jvm.MethodName)) ∈ lw_all := lw_g (lw_at lw_m3 58 rfl) rfl
theorem q1073 : (Jvm.Cond.instanceMethod ({ cls := "DutyBeats$Junction", name := "areFree", desc := "(I)Z" } : Jvm.MethodName)) ∈ lw_all := lw_g (lw_at lw_m4 234 rfl) rfl
theorem q1074 : (Jvm.Cond.selects "DutyBeats$Junction" ({ cls := "DutyBeats$Junction", name := "areFree", desc := "(I)Z" } : Jvm.MethodName) ({ cls := "DutyBeats$Junction", name := "areFree", desc := "(I)Z" } : Jvm.MethodName)) ∈ lw_all := lw_g (lw_at lw_m4 235 rfl) rfl
theorem q1075 : (Jvm.Cond.code ({ cls := "DutyBeats$Junction", name := "areFree", desc := "(I)Z" } : Jvm.MethodName) prog_8_method_3_code (3 : Nat) (Option.some Jvm.ClassFile.FieldType.boolean)) ∈ lw_all := lw_g (lw_at lw_m4 236 rfl) rfl
theorem q1076 : (Jvm.Cond.methodLink "DutyBeats$Junction" (31 : Nat) ({ cls := "DutyBeats$Junction", name := "roads", desc := "()I" } : Jvm.MethodName)) ∈ lw_all := lw_g (lw_at lw_m4 237 rfl) rfl
theorem q1077 : (Jvm.Cond.methodLinkNest "DutyBeats$Junction" (33 : Nat) ({ cls := "DutyBeats", name := "has", desc := "(II)Z" } : Jvm.MethodName) "DutyBeats") ∈ lw_tbl := lw_at lw_m4 238 rfl
theorem q1877 : (Jvm.Cond.castable "DutyBeats$Junction" "java/lang/Object") ∈ lw_tbl := lw_at lw_m8 78 rfl
theorem in_X1 : ∀ w ∈ wsX10, w ∈ lw_all := lw_in wsX10 [209, 211, 213, 215, 217] (by decide +kernel) (by decide +kernel)
def RJ0 : String := "java/util/AbstractCollection"
theorem q122 : (Jvm.Cond.initialized "java/util/AbstractCollection") ∈ lw_all := lw_g (lw_at lw_m1 3 rfl) rfl
theorem q177 : (Jvm.Cond.instanceMethod ({ cls := "java/util/AbstractCollection", name := "<init>", desc := "()V" } : Jvm.MethodName)) ∈ lw_all := lw_g (lw_at lw_m1 58 rfl) rfl
theorem q178 : (Jvm.Cond.code ({ cls := "java/util/AbstractCollection", name := "<init>", desc := "()V" } : Jvm.MethodName) prog_36_method_1_code (1 : Nat) (Option.none : Option Jvm.ClassFile.FieldType)) ∈ lw_all := lw_g (lw_at lw_m1 59 rfl) rfl
theorem q179 : (Jvm.Cond.methodLink "java/util/AbstractCollection" (1 : Nat) ({ cls := "java/lang/Object", name := "<init>", desc := "()V" } : Jvm.MethodName)) ∈ lw_all := lw_g (lw_at lw_m1 60 rfl) rfl
def RJ1 : String := "java/util/AbstractList"
theorem q123 : (Jvm.Cond.initialized "java/util/AbstractList") ∈ lw_all := lw_g (lw_at lw_m1 4 rfl) rfl
theorem q174 : (Jvm.Cond.instanceMethod ({ cls := "java/util/AbstractList", name := "<init>", desc := "()V" } : Jvm.MethodName)) ∈ lw_all := lw_g (lw_at lw_m1 55 rfl) rfl
theorem q175 : (Jvm.Cond.code ({ cls := "java/util/AbstractList", name := "<init>", desc := "()V" } : Jvm.MethodName) prog_37_method_1_code (1 : Nat) (Option.none : Option Jvm.ClassFile.FieldType)) ∈ lw_all := lw_g (lw_at lw_m1 56 rfl) rfl
theorem q176 : (Jvm.Cond.methodLink "java/util/AbstractList" (1 : Nat) ({ cls := "java/util/AbstractCollection", name := "<init>", desc := "()V" } : Jvm.MethodName)) ∈ lw_all := lw_g (lw_at lw_m1 57 rfl) rfl
theorem q186 : (Jvm.Cond.fieldLink "java/util/AbstractList" (7 : Nat) "java/util/AbstractList" "modCount" "I") ∈ lw_all := lw_g (lw_at lw_m1 67 rfl) rfl
theorem q194 : (Jvm.Cond.soleField "java/util/AbstractList" "modCount") ∈ lw_all := lw_g (lw_at lw_m1 75 rfl) rfl
def RJ2 : String := "java/util/ArrayList"
def TJ2 : u_T := fun k => match k with
  | 0 => ("java/util/AbstractList", "modCount", "I", false)
  | 1 => ("java/util/ArrayList", "elementData", "[Ljava/lang/Object;", false)
  | _ => ("java/util/ArrayList", "size", "I", false)
def tyJ2 : Nat → FieldType := fun k => match k with
  | 0 => .int
  | 1 => .array (.object "java/lang/Object")
  | _ => .int
abbrev wsJ20 : List Cond := u_ws RJ2 TJ2 3
theorem nmJ2 : ∀ a, a < 3 → ∀ b, b < 3 → a ≠ b → (TJ2 a).2.1 ≠ (TJ2 b).2.1 := by decide +kernel
theorem tyJ2_ok : ∀ k, k < 3 → parseFieldDescriptor (TJ2 k).2.2.1 = some (tyJ2 k) := by decide +kernel
theorem q124 : (Jvm.Cond.initialized "java/util/ArrayList") ∈ lw_all := lw_g (lw_at lw_m1 5 rfl) rfl
theorem q169 : (Jvm.Cond.instantiable "java/util/ArrayList" (3 : Nat)) ∈ lw_all := lw_g (lw_at lw_m1 50 rfl) rfl
theorem q171 : (Jvm.Cond.instanceMethod ({ cls := "java/util/ArrayList", name := "<init>", desc := "(I)V" } : Jvm.MethodName)) ∈ lw_all := lw_g (lw_at lw_m1 52 rfl) rfl
theorem q172 : (Jvm.Cond.code ({ cls := "java/util/ArrayList", name := "<init>", desc := "(I)V" } : Jvm.MethodName) prog_38_method_1_code (2 : Nat) (Option.none : Option Jvm.ClassFile.FieldType)) ∈ lw_all := lw_g (lw_at lw_m1 53 rfl) rfl
theorem q173 : (Jvm.Cond.methodLink "java/util/ArrayList" (1 : Nat) ({ cls := "java/util/AbstractList", name := "<init>", desc := "()V" } : Jvm.MethodName)) ∈ lw_all := lw_g (lw_at lw_m1 54 rfl) rfl
theorem q180 : (Jvm.Cond.classLink "java/util/ArrayList" (7 : Nat) "java/lang/Object") ∈ lw_all := lw_g (lw_at lw_m1 61 rfl) rfl
theorem q182 : (Jvm.Cond.fieldLink "java/util/ArrayList" (15 : Nat) "java/util/ArrayList" "EMPTY_ELEMENTDATA" "[Ljava/lang/Object;") ∈ lw_all := lw_g (lw_at lw_m1 63 rfl) rfl
theorem q183 : (Jvm.Cond.laysStatic "java/util/ArrayList" "EMPTY_ELEMENTDATA" "[Ljava/lang/Object;") ∈ lw_tbl := lw_at lw_m1 64 rfl
theorem q184 : (Jvm.Cond.fieldLink "java/util/ArrayList" (9 : Nat) "java/util/ArrayList" "elementData" "[Ljava/lang/Object;") ∈ lw_all := lw_g (lw_at lw_m1 65 rfl) rfl
theorem q185 : (Jvm.Cond.fieldLink "java/util/ArrayList" (48 : Nat) "java/util/ArrayList" "size" "I") ∈ lw_all := lw_g (lw_at lw_m1 66 rfl) rfl
theorem q187 : (Jvm.Cond.fieldLink "java/util/ArrayList" (63 : Nat) "java/util/ArrayList" "modCount" "I") ∈ lw_all := lw_g (lw_at lw_m1 68 rfl) rfl
theorem q188 : (Jvm.Cond.sameField "java/util/ArrayList" "java/util/AbstractList" "modCount" "I") ∈ lw_all := lw_g (lw_at lw_m1 69 rfl) rfl
theorem q189 : (Jvm.Cond.lays "java/util/ArrayList" "java/util/ArrayList" "elementData" "[Ljava/lang/Object;") ∈ lw_all := lw_g (lw_at lw_m1 70 rfl) rfl
theorem q190 : (Jvm.Cond.soleField "java/util/ArrayList" "elementData") ∈ lw_all := lw_g (lw_at lw_m1 71 rfl) rfl
theorem q191 : (Jvm.Cond.lays "java/util/ArrayList" "java/util/ArrayList" "size" "I") ∈ lw_all := lw_g (lw_at lw_m1 72 rfl) rfl
theorem q192 : (Jvm.Cond.soleField "java/util/ArrayList" "size") ∈ lw_all := lw_g (lw_at lw_m1 73 rfl) rfl
theorem q193 : (Jvm.Cond.lays "java/util/ArrayList" "java/util/AbstractList" "modCount" "I") ∈ lw_all := lw_g (lw_at lw_m1 74 rfl) rfl
theorem q195 : (Jvm.Cond.superclass "java/util/ArrayList" "java/util/AbstractList") ∈ lw_all := lw_g (lw_at lw_m1 76 rfl) rfl
theorem q588 : (Jvm.Cond.instanceMethod ({ cls := "java/util/ArrayList", name := "size", desc := "()I" } : Jvm.MethodName)) ∈ lw_all := lw_g (lw_at lw_m2 229 rfl) rfl
theorem q589 : (Jvm.Cond.selects "java/util/ArrayList" ({ cls := "java/util/ArrayList", name := "size", desc := "()I" } : Jvm.MethodName) ({ cls := "java/util/ArrayList", name := "size", desc := "()I" } : Jvm.MethodName)) ∈ lw_all := lw_g (lw_at lw_m2 230 rfl) rfl
theorem q590 : (Jvm.Cond.code ({ cls := "java/util/ArrayList", name := "size", desc := "()I" } : Jvm.MethodName) prog_38_method_8_code (1 : Nat) (Option.some Jvm.ClassFile.FieldType.int)) ∈ lw_all := lw_g (lw_at lw_m2 231 rfl) rfl
theorem q618 : (Jvm.Cond.instanceMethod ({ cls := "java/util/ArrayList", name := "add", desc := "(Ljava/lang/Object;)Z" } : Jvm.MethodName)) ∈ lw_all := lw_g (lw_at lw_m3 19 rfl) rfl
theorem q619 : (Jvm.Cond.selects "java/util/ArrayList" ({ cls := "java/util/ArrayList", name := "add", desc := "(Ljava/lang/Object;)Z" } : Jvm.MethodName) ({ cls := "java/util/ArrayList", name := "add", desc := "(Ljava/lang/Object;)Z" } : Jvm.MethodName)) ∈ lw_all := lw_g (lw_at lw_m3 20 rfl) rfl
theorem q620 : (Jvm.Cond.code ({ cls := "java/util/ArrayList", name := "add", desc := "(Ljava/lang/Object;)Z" } : Jvm.MethodName) prog_38_method_25_code (2 : Nat) (Option.some Jvm.ClassFile.FieldType.boolean)) ∈ lw_all := lw_g (lw_at lw_m3 21 rfl) rfl
theorem q621 : (Jvm.Cond.methodLink "java/util/ArrayList" (131 : Nat) ({ cls := "java/util/ArrayList", name := "add", desc := "(Ljava/lang/Object;[Ljava/lang/Object;I)V" } : Jvm.MethodName)) ∈ lw_all := lw_g (lw_at lw_m3 22 rfl) rfl
theorem q622 : (Jvm.Cond.privateMethod ({ cls := "java/util/ArrayList", name := "add", desc := "(Ljava/lang/Object;[Ljava/lang/Object;I)V" } : Jvm.MethodName)) ∈ lw_tbl := lw_at lw_m3 23 rfl
theorem q623 : (Jvm.Cond.instanceMethod ({ cls := "java/util/ArrayList", name := "add", desc := "(Ljava/lang/Object;[Ljava/lang/Object;I)V" } : Jvm.MethodName)) ∈ lw_all := lw_g (lw_at lw_m3 24 rfl) rfl
theorem q624 : (Jvm.Cond.code ({ cls := "java/util/ArrayList", name := "add", desc := "(Ljava/lang/Object;[Ljava/lang/Object;I)V" } : Jvm.MethodName) prog_38_method_24_code (4 : Nat) (Option.none : Option Jvm.ClassFile.FieldType)) ∈ lw_all := lw_g (lw_at lw_m3 25 rfl) rfl
theorem q625 : (Jvm.Cond.methodLink "java/util/ArrayList" (129 : Nat) ({ cls := "java/util/ArrayList", name := "grow", desc := "()[Ljava/lang/Object;" } : Jvm.MethodName)) ∈ lw_all := lw_g (lw_at lw_m3 26 rfl) rfl
theorem q626 : (Jvm.Cond.privateMethod ({ cls := "java/util/ArrayList", name := "grow", desc := "()[Ljava/lang/Object;" } : Jvm.MethodName)) ∈ lw_tbl := lw_at lw_m3 27 rfl
theorem q627 : (Jvm.Cond.instanceMethod ({ cls := "java/util/ArrayList", name := "grow", desc := "()[Ljava/lang/Object;" } : Jvm.MethodName)) ∈ lw_all := lw_g (lw_at lw_m3 28 rfl) rfl
theorem q628 : (Jvm.Cond.code ({ cls := "java/util/ArrayList", name := "grow", desc := "()[Ljava/lang/Object;" } : Jvm.MethodName) prog_38_method_7_code (1 : Nat) (Option.some (Jvm.ClassFile.FieldType.array (Jvm.ClassFile.FieldType.object "java/lang/Object")))) ∈ lw_all := lw_g (lw_at lw_m3 29 rfl) rfl
theorem q629 : (Jvm.Cond.methodLink "java/util/ArrayList" (69 : Nat) ({ cls := "java/util/ArrayList", name := "grow", desc := "(I)[Ljava/lang/Object;" } : Jvm.MethodName)) ∈ lw_all := lw_g (lw_at lw_m3 30 rfl) rfl
theorem q630 : (Jvm.Cond.privateMethod ({ cls := "java/util/ArrayList", name := "grow", desc := "(I)[Ljava/lang/Object;" } : Jvm.MethodName)) ∈ lw_tbl := lw_at lw_m3 31 rfl
theorem q631 : (Jvm.Cond.instanceMethod ({ cls := "java/util/ArrayList", name := "grow", desc := "(I)[Ljava/lang/Object;" } : Jvm.MethodName)) ∈ lw_all := lw_g (lw_at lw_m3 32 rfl) rfl
theorem q632 : (Jvm.Cond.code ({ cls := "java/util/ArrayList", name := "grow", desc := "(I)[Ljava/lang/Object;" } : Jvm.MethodName) prog_38_method_6_code (4 : Nat) (Option.some (Jvm.ClassFile.FieldType.array (Jvm.ClassFile.FieldType.object "java/lang/Object")))) ∈ lw_all := lw_g (lw_at lw_m3 33 rfl) rfl
theorem q633 : (Jvm.Cond.fieldLink "java/util/ArrayList" (39 : Nat) "java/util/ArrayList" "DEFAULTCAPACITY_EMPTY_ELEMENTDATA" "[Ljava/lang/Object;") ∈ lw_all := lw_g (lw_at lw_m3 34 rfl) rfl
theorem q634 : (Jvm.Cond.laysStatic "java/util/ArrayList" "DEFAULTCAPACITY_EMPTY_ELEMENTDATA" "[Ljava/lang/Object;") ∈ lw_tbl := lw_at lw_m3 35 rfl
theorem q635 : (Jvm.Cond.methodLink "java/util/ArrayList" (73 : Nat) ({ cls := "jdk/internal/util/ArraysSupport", name := "newLength", desc := "(III)I" } : Jvm.MethodName)) ∈ lw_all := lw_g (lw_at lw_m3 36 rfl) rfl
theorem q645 : (Jvm.Cond.methodLink "java/util/ArrayList" (66 : Nat) ({ cls := "java/util/Arrays", name := "copyOf", desc := "([Ljava/lang/Object;I)[Ljava/lang/Object;" } : Jvm.MethodName)) ∈ lw_all := lw_g (lw_at lw_m3 46 rfl) rfl
theorem q667 : (Jvm.Cond.selects "java/util/ArrayList" ({ cls := "java/lang/Object", name := "getClass", desc := "()Ljava/lang/Class;" } : Jvm.MethodName) ({ cls := "java/lang/Object", name := "getClass", desc := "()Ljava/lang/Class;" } : Jvm.MethodName)) ∈ lw_all := lw_g (lw_at lw_m3 68 rfl) rfl
theorem q680 : (Jvm.Cond.methodLink "java/util/ArrayList" (79 : Nat) ({ cls := "java/lang/Math", name := "max", desc := "(II)I" } : Jvm.MethodName)) ∈ lw_all := lw_g (lw_at lw_m3 81 rfl) rfl
theorem q697 : (Jvm.Cond.instanceMethod ({ cls := "java/util/ArrayList", name := "get", desc := "(I)Ljava/lang/Object;" } : Jvm.MethodName)) ∈ lw_all := lw_g (lw_at lw_m3 98 rfl) rfl
theorem q698 : (Jvm.Cond.selects "java/util/ArrayList" ({ cls := "java/util/ArrayList", name := "get", desc := "(I)Ljava/lang/Object;" } : Jvm.MethodName) ({ cls := "java/util/ArrayList", name := "get", desc := "(I)Ljava/lang/Object;" } : Jvm.MethodName)) ∈ lw_all := lw_g (lw_at lw_m3 99 rfl) rfl
theorem q699 : (Jvm.Cond.code ({ cls := "java/util/ArrayList", name := "get", desc := "(I)Ljava/lang/Object;" } : Jvm.MethodName) prog_38_method_20_code (2 : Nat) (Option.some (Jvm.ClassFile.FieldType.object "java/lang/Object"))) ∈ lw_all := lw_g (lw_at lw_m3 100 rfl) rfl
theorem q700 : (Jvm.Cond.methodLink "java/util/ArrayList" (118 : Nat) ({ cls := "java/util/Objects", name := "checkIndex", desc := "(II)I" } : Jvm.MethodName)) ∈ lw_all := lw_g (lw_at lw_m3 101 rfl) rfl
theorem q704 : (Jvm.Cond.methodLink "java/util/ArrayList" (123 : Nat) ({ cls := "java/util/ArrayList", name := "elementData", desc := "(I)Ljava/lang/Object;" } : Jvm.MethodName)) ∈ lw_all := lw_g (lw_at lw_m3 105 rfl) rfl
theorem q705 : (Jvm.Cond.instanceMethod ({ cls := "java/util/ArrayList", name := "elementData", desc := "(I)Ljava/lang/Object;" } : Jvm.MethodName)) ∈ lw_all := lw_g (lw_at lw_m3 106 rfl) rfl
theorem q706 : (Jvm.Cond.selects "java/util/ArrayList" ({ cls := "java/util/ArrayList", name := "elementData", desc := "(I)Ljava/lang/Object;" } : Jvm.MethodName) ({ cls := "java/util/ArrayList", name := "elementData", desc := "(I)Ljava/lang/Object;" } : Jvm.MethodName)) ∈ lw_all := lw_g (lw_at lw_m3 107 rfl) rfl
theorem q707 : (Jvm.Cond.code ({ cls := "java/util/ArrayList", name := "elementData", desc := "(I)Ljava/lang/Object;" } : Jvm.MethodName) prog_38_method_18_code (2 : Nat) (Option.some (Jvm.ClassFile.FieldType.object "java/lang/Object"))) ∈ lw_all := lw_g (lw_at lw_m3 108 rfl) rfl
theorem q1878 : (Jvm.Cond.castable "java/util/ArrayList" "java/lang/Object") ∈ lw_tbl := lw_at lw_m8 79 rfl
theorem in_J2 : ∀ w ∈ wsJ20, w ∈ lw_all := lw_in wsJ20 [193, 189, 191] (by decide +kernel) (by decide +kernel)
def RX2 : String := "DutyBeats$State"
def TX2 : u_T := fun k => match k with
  | 0 => ("DutyBeats$State", "wait", "[I", true)
  | 1 => ("DutyBeats$State", "every", "[I", true)
  | 2 => ("DutyBeats$State", "part", "[I", true)
  | 3 => ("DutyBeats$State", "went", "[I", true)
  | 4 => ("DutyBeats$State", "waited", "[I", true)
  | 5 => ("DutyBeats$State", "last", "[I", true)
  | 6 => ("DutyBeats$State", "score", "[I", true)
  | 7 => ("DutyBeats$State", "heard", "I", false)
  | _ => ("DutyBeats$State", "beat", "I", false)
def tyX2 : Nat → FieldType := fun k => match k with
  | 0 => .array .int
  | 1 => .array .int
  | 2 => .array .int
  | 3 => .array .int
  | 4 => .array .int
  | 5 => .array .int
  | 6 => .array .int
  | 7 => .int
  | _ => .int
abbrev wsX20 : List Cond := u_ws RX2 TX2 9
theorem nmX2 : ∀ a, a < 9 → ∀ b, b < 9 → a ≠ b → (TX2 a).2.1 ≠ (TX2 b).2.1 := by decide +kernel
theorem tyX2_ok : ∀ k, k < 9 → parseFieldDescriptor (TX2 k).2.2.1 = some (tyX2 k) := by decide +kernel
theorem q125 : (Jvm.Cond.initialized "DutyBeats$State") ∈ lw_all := lw_g (lw_at lw_m1 6 rfl) rfl
theorem q197 : (Jvm.Cond.fieldLinkNest "DutyBeats$State" (46 : Nat) "DutyBeats$Junction" "roads" "Ljava/util/ArrayList;" "DutyBeats") ∈ lw_tbl := lw_at lw_m1 78 rfl
theorem q203 : (Jvm.Cond.fieldLinkNest "DutyBeats$State" (64 : Nat) "DutyBeats$Junction" "score" "[I" "DutyBeats") ∈ lw_tbl := lw_at lw_m1 84 rfl
theorem q222 : (Jvm.Cond.instantiable "DutyBeats$State" (9 : Nat)) ∈ lw_all := lw_g (lw_at lw_m1 103 rfl) rfl
theorem q224 : (Jvm.Cond.instanceMethod ({ cls := "DutyBeats$State", name := "<init>", desc := "()V" } : Jvm.MethodName)) ∈ lw_all := lw_g (lw_at lw_m1 105 rfl) rfl
theorem q225 : (Jvm.Cond.code ({ cls := "DutyBeats$State", name := "<init>", desc := "()V" } : Jvm.MethodName) prog_14_method_1_code (1 : Nat) (Option.none : Option Jvm.ClassFile.FieldType)) ∈ lw_all := lw_g (lw_at lw_m1 106 rfl) rfl
theorem q226 : (Jvm.Cond.methodLink "DutyBeats$State" (3 : Nat) ({ cls := "java/lang/Object", name := "<init>", desc := "()V" } : Jvm.MethodName)) ∈ lw_all := lw_g (lw_at lw_m1 107 rfl) rfl
theorem q227 : (Jvm.Cond.fieldLink "DutyBeats$State" (9 : Nat) "DutyBeats$State" "wait" "[I") ∈ lw_all := lw_g (lw_at lw_m1 108 rfl) rfl
theorem q229 : (Jvm.Cond.fieldLink "DutyBeats$State" (15 : Nat) "DutyBeats$State" "every" "[I") ∈ lw_all := lw_g (lw_at lw_m1 110 rfl) rfl
theorem q231 : (Jvm.Cond.fieldLink "DutyBeats$State" (18 : Nat) "DutyBeats$State" "part" "[I") ∈ lw_all := lw_g (lw_at lw_m1 112 rfl) rfl
theorem q233 : (Jvm.Cond.fieldLink "DutyBeats$State" (21 : Nat) "DutyBeats$State" "went" "[I") ∈ lw_all := lw_g (lw_at lw_m1 114 rfl) rfl
theorem q235 : (Jvm.Cond.fieldLink "DutyBeats$State" (24 : Nat) "DutyBeats$State" "waited" "[I") ∈ lw_all := lw_g (lw_at lw_m1 116 rfl) rfl
theorem q237 : (Jvm.Cond.fieldLink "DutyBeats$State" (27 : Nat) "DutyBeats$State" "last" "[I") ∈ lw_all := lw_g (lw_at lw_m1 118 rfl) rfl
theorem q239 : (Jvm.Cond.fieldLink "DutyBeats$State" (30 : Nat) "DutyBeats$State" "score" "[I") ∈ lw_all := lw_g (lw_at lw_m1 120 rfl) rfl
theorem q241 : (Jvm.Cond.fieldLink "DutyBeats$State" (33 : Nat) "DutyBeats$State" "heard" "I") ∈ lw_all := lw_g (lw_at lw_m1 122 rfl) rfl
theorem q243 : (Jvm.Cond.fieldLink "DutyBeats$State" (37 : Nat) "DutyBeats$State" "beat" "I") ∈ lw_all := lw_g (lw_at lw_m1 124 rfl) rfl
theorem q245 : (Jvm.Cond.laysFinal "DutyBeats$State" "DutyBeats$State" "wait" "[I") ∈ lw_all := lw_g (lw_at lw_m1 126 rfl) rfl
theorem q246 : (Jvm.Cond.soleField "DutyBeats$State" "wait") ∈ lw_all := lw_g (lw_at lw_m1 127 rfl) rfl
theorem q247 : (Jvm.Cond.laysFinal "DutyBeats$State" "DutyBeats$State" "every" "[I") ∈ lw_all := lw_g (lw_at lw_m1 128 rfl) rfl
theorem q248 : (Jvm.Cond.soleField "DutyBeats$State" "every") ∈ lw_all := lw_g (lw_at lw_m1 129 rfl) rfl
theorem q249 : (Jvm.Cond.laysFinal "DutyBeats$State" "DutyBeats$State" "part" "[I") ∈ lw_all := lw_g (lw_at lw_m1 130 rfl) rfl
theorem q250 : (Jvm.Cond.soleField "DutyBeats$State" "part") ∈ lw_all := lw_g (lw_at lw_m1 131 rfl) rfl
theorem q251 : (Jvm.Cond.laysFinal "DutyBeats$State" "DutyBeats$State" "went" "[I") ∈ lw_all := lw_g (lw_at lw_m1 132 rfl) rfl
theorem q252 : (Jvm.Cond.soleField "DutyBeats$State" "went") ∈ lw_all := lw_g (lw_at lw_m1 133 rfl) rfl
theorem q253 : (Jvm.Cond.laysFinal "DutyBeats$State" "DutyBeats$State" "waited" "[I") ∈ lw_all := lw_g (lw_at lw_m1 134 rfl) rfl
theorem q254 : (Jvm.Cond.soleField "DutyBeats$State" "waited") ∈ lw_all := lw_g (lw_at lw_m1 135 rfl) rfl
theorem q255 : (Jvm.Cond.laysFinal "DutyBeats$State" "DutyBeats$State" "last" "[I") ∈ lw_all := lw_g (lw_at lw_m1 136 rfl) rfl
theorem q256 : (Jvm.Cond.soleField "DutyBeats$State" "last") ∈ lw_all := lw_g (lw_at lw_m1 137 rfl) rfl
theorem q257 : (Jvm.Cond.laysFinal "DutyBeats$State" "DutyBeats$State" "score" "[I") ∈ lw_all := lw_g (lw_at lw_m1 138 rfl) rfl
theorem q258 : (Jvm.Cond.soleField "DutyBeats$State" "score") ∈ lw_all := lw_g (lw_at lw_m1 139 rfl) rfl
theorem q259 : (Jvm.Cond.lays "DutyBeats$State" "DutyBeats$State" "heard" "I") ∈ lw_all := lw_g (lw_at lw_m1 140 rfl) rfl
theorem q260 : (Jvm.Cond.soleField "DutyBeats$State" "heard") ∈ lw_all := lw_g (lw_at lw_m1 141 rfl) rfl
theorem q261 : (Jvm.Cond.lays "DutyBeats$State" "DutyBeats$State" "beat" "I") ∈ lw_all := lw_g (lw_at lw_m1 142 rfl) rfl
theorem q262 : (Jvm.Cond.soleField "DutyBeats$State" "beat") ∈ lw_all := lw_g (lw_at lw_m1 143 rfl) rfl
theorem q263 : (Jvm.Cond.superclass "DutyBeats$State" "java/lang/Object") ∈ lw_all := lw_g (lw_at lw_m1 144 rfl) rfl
theorem q605 : (Jvm.Cond.fieldLinkNest "DutyBeats$State" (57 : Nat) "DutyBeats$Road" "waiting" "I" "DutyBeats") ∈ lw_tbl := lw_at lw_m3 6 rfl
theorem q607 : (Jvm.Cond.fieldLinkNest "DutyBeats$State" (60 : Nat) "DutyBeats$Road" "every" "I" "DutyBeats") ∈ lw_tbl := lw_at lw_m3 8 rfl
theorem q609 : (Jvm.Cond.fieldLinkNest "DutyBeats$State" (62 : Nat) "DutyBeats$Road" "part" "I" "DutyBeats") ∈ lw_tbl := lw_at lw_m3 10 rfl
theorem q663 : (Jvm.Cond.selects "DutyBeats$State" ({ cls := "java/lang/Object", name := "getClass", desc := "()Ljava/lang/Class;" } : Jvm.MethodName) ({ cls := "java/lang/Object", name := "getClass", desc := "()Ljava/lang/Class;" } : Jvm.MethodName)) ∈ lw_all := lw_g (lw_at lw_m3 64 rfl) rfl
theorem q692 : (Jvm.Cond.instanceMethod ({ cls := "DutyBeats$State", name := "begin", desc := "(LDutyBeats$Junction;)V" } : Jvm.MethodName)) ∈ lw_all := lw_g (lw_at lw_m3 93 rfl) rfl
theorem q693 : (Jvm.Cond.selects "DutyBeats$State" ({ cls := "DutyBeats$State", name := "begin", desc := "(LDutyBeats$Junction;)V" } : Jvm.MethodName) ({ cls := "DutyBeats$State", name := "begin", desc := "(LDutyBeats$Junction;)V" } : Jvm.MethodName)) ∈ lw_all := lw_g (lw_at lw_m3 94 rfl) rfl
theorem q694 : (Jvm.Cond.code ({ cls := "DutyBeats$State", name := "begin", desc := "(LDutyBeats$Junction;)V" } : Jvm.MethodName) prog_14_method_3_code (4 : Nat) (Option.none : Option Jvm.ClassFile.FieldType)) ∈ lw_all := lw_g (lw_at lw_m3 95 rfl) rfl
theorem q695 : (Jvm.Cond.methodLink "DutyBeats$State" (40 : Nat) ({ cls := "DutyBeats$Junction", name := "roads", desc := "()I" } : Jvm.MethodName)) ∈ lw_all := lw_g (lw_at lw_m3 96 rfl) rfl
theorem q696 : (Jvm.Cond.methodLink "DutyBeats$State" (49 : Nat) ({ cls := "java/util/ArrayList", name := "get", desc := "(I)Ljava/lang/Object;" } : Jvm.MethodName)) ∈ lw_all := lw_g (lw_at lw_m3 97 rfl) rfl
theorem q708 : (Jvm.Cond.classLink "DutyBeats$State" (55 : Nat) "DutyBeats$Road") ∈ lw_all := lw_g (lw_at lw_m3 109 rfl) rfl
theorem q895 : (Jvm.Cond.instanceMethod ({ cls := "DutyBeats$State", name := "since", desc := "(I)I" } : Jvm.MethodName)) ∈ lw_all := lw_g (lw_at lw_m4 56 rfl) rfl
theorem q896 : (Jvm.Cond.selects "DutyBeats$State" ({ cls := "DutyBeats$State", name := "since", desc := "(I)I" } : Jvm.MethodName) ({ cls := "DutyBeats$State", name := "since", desc := "(I)I" } : Jvm.MethodName)) ∈ lw_all := lw_g (lw_at lw_m4 57 rfl) rfl
theorem q897 : (Jvm.Cond.code ({ cls := "DutyBeats$State", name := "since", desc := "(I)I" } : Jvm.MethodName) prog_14_method_5_code (2 : Nat) (Option.some Jvm.ClassFile.FieldType.int)) ∈ lw_all := lw_g (lw_at lw_m4 58 rfl) rfl
theorem q898 : (Jvm.Cond.methodLink "DutyBeats$State" (78 : Nat) ({ cls := "java/lang/Math", name := "min", desc := "(II)I" } : Jvm.MethodName)) ∈ lw_all := lw_g (lw_at lw_m4 59 rfl) rfl
theorem q916 : (Jvm.Cond.instanceMethod ({ cls := "DutyBeats$State", name := "copyFrom", desc := "(LDutyBeats$State;)V" } : Jvm.MethodName)) ∈ lw_all := lw_g (lw_at lw_m4 77 rfl) rfl
theorem q917 : (Jvm.Cond.selects "DutyBeats$State" ({ cls := "DutyBeats$State", name := "copyFrom", desc := "(LDutyBeats$State;)V" } : Jvm.MethodName) ({ cls := "DutyBeats$State", name := "copyFrom", desc := "(LDutyBeats$State;)V" } : Jvm.MethodName)) ∈ lw_all := lw_g (lw_at lw_m4 78 rfl) rfl
theorem q918 : (Jvm.Cond.code ({ cls := "DutyBeats$State", name := "copyFrom", desc := "(LDutyBeats$State;)V" } : Jvm.MethodName) prog_14_method_2_code (3 : Nat) (Option.none : Option Jvm.ClassFile.FieldType)) ∈ lw_all := lw_g (lw_at lw_m4 79 rfl) rfl
theorem q937 : (Jvm.Cond.instanceMethod ({ cls := "DutyBeats$State", name := "comes", desc := "(II)V" } : Jvm.MethodName)) ∈ lw_all := lw_g (lw_at lw_m4 98 rfl) rfl
theorem q938 : (Jvm.Cond.selects "DutyBeats$State" ({ cls := "DutyBeats$State", name := "comes", desc := "(II)V" } : Jvm.MethodName) ({ cls := "DutyBeats$State", name := "comes", desc := "(II)V" } : Jvm.MethodName)) ∈ lw_all := lw_g (lw_at lw_m4 99 rfl) rfl
theorem q939 : (Jvm.Cond.code ({ cls := "DutyBeats$State", name := "comes", desc := "(II)V" } : Jvm.MethodName) prog_14_method_6_code (3 : Nat) (Option.none : Option Jvm.ClassFile.FieldType)) ∈ lw_all := lw_g (lw_at lw_m4 100 rfl) rfl
theorem q965 : (Jvm.Cond.instanceMethod ({ cls := "DutyBeats$State", name := "sound", desc := "(I)I" } : Jvm.MethodName)) ∈ lw_all := lw_g (lw_at lw_m4 126 rfl) rfl
theorem q966 : (Jvm.Cond.selects "DutyBeats$State" ({ cls := "DutyBeats$State", name := "sound", desc := "(I)I" } : Jvm.MethodName) ({ cls := "DutyBeats$State", name := "sound", desc := "(I)I" } : Jvm.MethodName)) ∈ lw_all := lw_g (lw_at lw_m4 127 rfl) rfl
theorem q967 : (Jvm.Cond.code ({ cls := "DutyBeats$State", name := "sound", desc := "(I)I" } : Jvm.MethodName) prog_14_method_4_code (5 : Nat) (Option.some Jvm.ClassFile.FieldType.int)) ∈ lw_all := lw_g (lw_at lw_m4 128 rfl) rfl
theorem q968 : (Jvm.Cond.methodLinkNest "DutyBeats$State" (65 : Nat) ({ cls := "DutyBeats", name := "has", desc := "(II)Z" } : Jvm.MethodName) "DutyBeats") ∈ lw_tbl := lw_at lw_m4 129 rfl
theorem q969 : (Jvm.Cond.fieldLinkNest "DutyBeats$State" (69 : Nat) "DutyBeats" "SOUNDS" "[I" "DutyBeats") ∈ lw_tbl := lw_at lw_m4 130 rfl
theorem q971 : (Jvm.Cond.methodLink "DutyBeats$State" (72 : Nat) ({ cls := "java/lang/Math", name := "abs", desc := "(I)I" } : Jvm.MethodName)) ∈ lw_all := lw_g (lw_at lw_m4 132 rfl) rfl
theorem q975 : (Jvm.Cond.static ({ cls := "DutyBeats$State", name := "sumOf", desc := "([I)I" } : Jvm.MethodName)) ∈ lw_all := lw_g (lw_at lw_m4 136 rfl) rfl
theorem q976 : (Jvm.Cond.code ({ cls := "DutyBeats$State", name := "sumOf", desc := "([I)I" } : Jvm.MethodName) prog_14_method_9_code (3 : Nat) (Option.some Jvm.ClassFile.FieldType.int)) ∈ lw_all := lw_g (lw_at lw_m4 137 rfl) rfl
theorem q1019 : (Jvm.Cond.instanceMethod ({ cls := "DutyBeats$State", name := "goes", desc := "(II)I" } : Jvm.MethodName)) ∈ lw_all := lw_g (lw_at lw_m4 180 rfl) rfl
theorem q1020 : (Jvm.Cond.selects "DutyBeats$State" ({ cls := "DutyBeats$State", name := "goes", desc := "(II)I" } : Jvm.MethodName) ({ cls := "DutyBeats$State", name := "goes", desc := "(II)I" } : Jvm.MethodName)) ∈ lw_all := lw_g (lw_at lw_m4 181 rfl) rfl
theorem q1021 : (Jvm.Cond.code ({ cls := "DutyBeats$State", name := "goes", desc := "(II)I" } : Jvm.MethodName) prog_14_method_7_code (4 : Nat) (Option.some Jvm.ClassFile.FieldType.int)) ∈ lw_all := lw_g (lw_at lw_m4 182 rfl) rfl
theorem q1024 : (Jvm.Cond.instanceMethod ({ cls := "DutyBeats$State", name := "waits", desc := "(LDutyBeats$Junction;)V" } : Jvm.MethodName)) ∈ lw_all := lw_g (lw_at lw_m4 185 rfl) rfl
theorem q1025 : (Jvm.Cond.selects "DutyBeats$State" ({ cls := "DutyBeats$State", name := "waits", desc := "(LDutyBeats$Junction;)V" } : Jvm.MethodName) ({ cls := "DutyBeats$State", name := "waits", desc := "(LDutyBeats$Junction;)V" } : Jvm.MethodName)) ∈ lw_all := lw_g (lw_at lw_m4 186 rfl) rfl
theorem q1026 : (Jvm.Cond.code ({ cls := "DutyBeats$State", name := "waits", desc := "(LDutyBeats$Junction;)V" } : Jvm.MethodName) prog_14_method_8_code (3 : Nat) (Option.none : Option Jvm.ClassFile.FieldType)) ∈ lw_all := lw_g (lw_at lw_m4 187 rfl) rfl
theorem q1027 : (Jvm.Cond.constant "DutyBeats$State" (82 : Nat) (99999 : Int32)) ∈ lw_all := lw_g (lw_at lw_m4 188 rfl) rfl
theorem q1873 : (Jvm.Cond.castable "DutyBeats$State" "java/lang/Object") ∈ lw_tbl := lw_at lw_m8 74 rfl
theorem in_X2 : ∀ w ∈ wsX20, w ∈ lw_all := lw_in wsX20 [245, 247, 249, 251, 253, 255, 257, 259, 261] (by decide +kernel) (by decide +kernel)
def RJ3 : String := "java/lang/Throwable"
def TJ3 : u_T := fun k => match k with
  | 0 => ("java/lang/Throwable", "cause", "Ljava/lang/Throwable;", false)
  | 1 => ("java/lang/Throwable", "stackTrace", "[Ljava/lang/StackTraceElement;", false)
  | 2 => ("java/lang/Throwable", "suppressedExceptions", "Ljava/util/List;", false)
  | 3 => ("java/lang/Throwable", "detailMessage", "Ljava/lang/String;", false)
  | _ => ("java/lang/Throwable", "backtrace", "Ljava/lang/Object;", false)
def tyJ3 : Nat → FieldType := fun k => match k with
  | 0 => .object "java/lang/Throwable"
  | 1 => .array (.object "java/lang/StackTraceElement")
  | 2 => .object "java/util/List"
  | 3 => .object "java/lang/String"
  | _ => .object "java/lang/Object"
abbrev wsJ30 : List Cond := u_ws RJ3 TJ3 5
theorem nmJ3 : ∀ a, a < 5 → ∀ b, b < 5 → a ≠ b → (TJ3 a).2.1 ≠ (TJ3 b).2.1 := by decide +kernel
theorem tyJ3_ok : ∀ k, k < 5 → parseFieldDescriptor (TJ3 k).2.2.1 = some (tyJ3 k) := by decide +kernel
theorem q126 : (Jvm.Cond.initialized "java/lang/Throwable") ∈ lw_all := lw_g (lw_at lw_m1 7 rfl) rfl
theorem q271 : (Jvm.Cond.declares ({ cls := "java/lang/Throwable", name := "<init>", desc := "()V" } : Jvm.MethodName)) ∈ lw_tbl := lw_at lw_m1 152 rfl
theorem q272 : (Jvm.Cond.declares ({ cls := "java/lang/Throwable", name := "<init>", desc := "(Ljava/lang/String;)V" } : Jvm.MethodName)) ∈ lw_tbl := lw_at lw_m1 153 rfl
theorem q276 : (Jvm.Cond.lays "java/lang/Throwable" "java/lang/Throwable" "cause" "Ljava/lang/Throwable;") ∈ lw_all := lw_g (lw_at lw_m1 157 rfl) rfl
theorem q278 : (Jvm.Cond.lays "java/lang/Throwable" "java/lang/Throwable" "stackTrace" "[Ljava/lang/StackTraceElement;") ∈ lw_all := lw_g (lw_at lw_m1 159 rfl) rfl
theorem q280 : (Jvm.Cond.lays "java/lang/Throwable" "java/lang/Throwable" "suppressedExceptions" "Ljava/util/List;") ∈ lw_all := lw_g (lw_at lw_m1 161 rfl) rfl
theorem q282 : (Jvm.Cond.lays "java/lang/Throwable" "java/lang/Throwable" "detailMessage" "Ljava/lang/String;") ∈ lw_all := lw_g (lw_at lw_m1 163 rfl) rfl
theorem q284 : (Jvm.Cond.lays "java/lang/Throwable" "java/lang/Throwable" "backtrace" "Ljava/lang/Object;") ∈ lw_all := lw_g (lw_at lw_m1 165 rfl) rfl
theorem q285 : (Jvm.Cond.fieldLink "java/lang/Throwable" (198 : Nat) "java/lang/Throwable" "backtrace" "Ljava/lang/Object;") ∈ lw_all := lw_g (lw_at lw_m1 166 rfl) rfl
theorem q286 : (Jvm.Cond.superclass "java/lang/Throwable" "java/lang/Object") ∈ lw_all := lw_g (lw_at lw_m1 167 rfl) rfl
theorem q287 : (Jvm.Cond.instanceMethod ({ cls := "java/lang/Throwable", name := "<init>", desc := "()V" } : Jvm.MethodName)) ∈ lw_all := lw_g (lw_at lw_m1 168 rfl) rfl
theorem q288 : (Jvm.Cond.code ({ cls := "java/lang/Throwable", name := "<init>", desc := "()V" } : Jvm.MethodName) prog_33_method_1_code (1 : Nat) (Option.none : Option Jvm.ClassFile.FieldType)) ∈ lw_all := lw_g (lw_at lw_m1 169 rfl) rfl
theorem q289 : (Jvm.Cond.methodLink "java/lang/Throwable" (1 : Nat) ({ cls := "java/lang/Object", name := "<init>", desc := "()V" } : Jvm.MethodName)) ∈ lw_all := lw_g (lw_at lw_m1 170 rfl) rfl
theorem q290 : (Jvm.Cond.fieldLink "java/lang/Throwable" (13 : Nat) "java/lang/Throwable" "UNASSIGNED_STACK" "[Ljava/lang/StackTraceElement;") ∈ lw_all := lw_g (lw_at lw_m1 171 rfl) rfl
theorem q291 : (Jvm.Cond.laysStatic "java/lang/Throwable" "UNASSIGNED_STACK" "[Ljava/lang/StackTraceElement;") ∈ lw_tbl := lw_at lw_m1 172 rfl
theorem q292 : (Jvm.Cond.fieldLink "java/lang/Throwable" (20 : Nat) "java/lang/Throwable" "SUPPRESSED_SENTINEL" "Ljava/util/List;") ∈ lw_all := lw_g (lw_at lw_m1 173 rfl) rfl
theorem q293 : (Jvm.Cond.laysStatic "java/lang/Throwable" "SUPPRESSED_SENTINEL" "Ljava/util/List;") ∈ lw_tbl := lw_at lw_m1 174 rfl
theorem q294 : (Jvm.Cond.methodLink "java/lang/Throwable" (27 : Nat) ({ cls := "java/lang/Throwable", name := "fillInStackTrace", desc := "()Ljava/lang/Throwable;" } : Jvm.MethodName)) ∈ lw_all := lw_g (lw_at lw_m1 175 rfl) rfl
theorem q295 : (Jvm.Cond.instanceMethod ({ cls := "java/lang/Throwable", name := "fillInStackTrace", desc := "()Ljava/lang/Throwable;" } : Jvm.MethodName)) ∈ lw_all := lw_g (lw_at lw_m1 176 rfl) rfl
theorem q296 : (Jvm.Cond.sameMethod "java/lang/Throwable" "java/lang/Throwable" "fillInStackTrace" "()Ljava/lang/Throwable;") ∈ lw_all := lw_g (lw_at lw_m1 177 rfl) rfl
theorem q297 : (Jvm.Cond.codeSync ({ cls := "java/lang/Throwable", name := "fillInStackTrace", desc := "()Ljava/lang/Throwable;" } : Jvm.MethodName) prog_33_method_18_code (1 : Nat) (Option.some (Jvm.ClassFile.FieldType.object "java/lang/Throwable"))) ∈ lw_all := lw_g (lw_at lw_m1 178 rfl) rfl
theorem q298 : (Jvm.Cond.methodLink "java/lang/Throwable" (202 : Nat) ({ cls := "java/lang/Throwable", name := "fillInStackTrace", desc := "(I)Ljava/lang/Throwable;" } : Jvm.MethodName)) ∈ lw_all := lw_g (lw_at lw_m1 179 rfl) rfl
theorem q299 : (Jvm.Cond.privateMethod ({ cls := "java/lang/Throwable", name := "fillInStackTrace", desc := "(I)Ljava/lang/Throwable;" } : Jvm.MethodName)) ∈ lw_tbl := lw_at lw_m1 180 rfl
theorem q300 : (Jvm.Cond.instanceMethod ({ cls := "java/lang/Throwable", name := "fillInStackTrace", desc := "(I)Ljava/lang/Throwable;" } : Jvm.MethodName)) ∈ lw_all := lw_g (lw_at lw_m1 181 rfl) rfl
theorem q301 : (Jvm.Cond.instantiable "java/lang/Throwable" (6 : Nat)) ∈ lw_all := lw_g (lw_at lw_m1 182 rfl) rfl
theorem q302 : (Jvm.Cond.native ({ cls := "java/lang/Throwable", name := "fillInStackTrace", desc := "(I)Ljava/lang/Throwable;" } : Jvm.MethodName)) ∈ lw_all := lw_g (lw_at lw_m1 183 rfl) rfl
theorem q311 : (Jvm.Cond.fieldLink "java/lang/Throwable" (198 : Nat) "java/lang/Throwable" "backtrace" "Ljava/lang/Object;") ∈ lw_all := lw_g (lw_at lw_m1 192 rfl) rfl
theorem q312 : (Jvm.Cond.fieldLink "java/lang/Throwable" (7 : Nat) "java/lang/Throwable" "cause" "Ljava/lang/Throwable;") ∈ lw_all := lw_g (lw_at lw_m1 193 rfl) rfl
theorem q313 : (Jvm.Cond.fieldLink "java/lang/Throwable" (17 : Nat) "java/lang/Throwable" "stackTrace" "[Ljava/lang/StackTraceElement;") ∈ lw_all := lw_g (lw_at lw_m1 194 rfl) rfl
theorem q314 : (Jvm.Cond.fieldLink "java/lang/Throwable" (24 : Nat) "java/lang/Throwable" "suppressedExceptions" "Ljava/util/List;") ∈ lw_all := lw_g (lw_at lw_m1 195 rfl) rfl
theorem q317 : (Jvm.Cond.soleField "java/lang/Throwable" "backtrace") ∈ lw_all := lw_g (lw_at lw_m1 198 rfl) rfl
theorem q318 : (Jvm.Cond.soleField "java/lang/Throwable" "detailMessage") ∈ lw_all := lw_g (lw_at lw_m1 199 rfl) rfl
theorem q319 : (Jvm.Cond.soleField "java/lang/Throwable" "cause") ∈ lw_all := lw_g (lw_at lw_m1 200 rfl) rfl
theorem q320 : (Jvm.Cond.soleField "java/lang/Throwable" "stackTrace") ∈ lw_all := lw_g (lw_at lw_m1 201 rfl) rfl
theorem q322 : (Jvm.Cond.soleField "java/lang/Throwable" "depth") ∈ lw_all := lw_g (lw_at lw_m1 203 rfl) rfl
theorem q323 : (Jvm.Cond.soleField "java/lang/Throwable" "suppressedExceptions") ∈ lw_all := lw_g (lw_at lw_m1 204 rfl) rfl
theorem q1871 : (Jvm.Cond.sameMethod "java/lang/Throwable" "java/lang/Throwable" "fillInStackTrace" "(I)Ljava/lang/Throwable;") ∈ lw_all := lw_g (lw_at lw_m8 72 rfl) rfl
theorem q1891 : (Jvm.Cond.castable "java/lang/Throwable" "java/lang/Object") ∈ lw_tbl := lw_at lw_m8 92 rfl
theorem in_J3 : ∀ w ∈ wsJ30, w ∈ lw_all := lw_in wsJ30 [276, 278, 280, 282, 284] (by decide +kernel) (by decide +kernel)
def RJ4 : String := "java/lang/Exception"
theorem q127 : (Jvm.Cond.initialized "java/lang/Exception") ∈ lw_all := lw_g (lw_at lw_m1 8 rfl) rfl
theorem q269 : (Jvm.Cond.declares ({ cls := "java/lang/Exception", name := "<init>", desc := "()V" } : Jvm.MethodName)) ∈ lw_tbl := lw_at lw_m1 150 rfl
theorem q270 : (Jvm.Cond.declares ({ cls := "java/lang/Exception", name := "<init>", desc := "(Ljava/lang/String;)V" } : Jvm.MethodName)) ∈ lw_tbl := lw_at lw_m1 151 rfl
theorem q307 : (Jvm.Cond.instanceMethod ({ cls := "java/lang/Exception", name := "<init>", desc := "()V" } : Jvm.MethodName)) ∈ lw_all := lw_g (lw_at lw_m1 188 rfl) rfl
theorem q308 : (Jvm.Cond.code ({ cls := "java/lang/Exception", name := "<init>", desc := "()V" } : Jvm.MethodName) prog_24_method_1_code (1 : Nat) (Option.none : Option Jvm.ClassFile.FieldType)) ∈ lw_all := lw_g (lw_at lw_m1 189 rfl) rfl
theorem q309 : (Jvm.Cond.methodLink "java/lang/Exception" (1 : Nat) ({ cls := "java/lang/Throwable", name := "<init>", desc := "()V" } : Jvm.MethodName)) ∈ lw_all := lw_g (lw_at lw_m1 190 rfl) rfl
def RX3 : String := "DutyBeats$Wrong"
def TX3 : u_T := fun k => match k with
  | 0 => ("java/lang/Throwable", "cause", "Ljava/lang/Throwable;", false)
  | 1 => ("java/lang/Throwable", "stackTrace", "[Ljava/lang/StackTraceElement;", false)
  | 2 => ("java/lang/Throwable", "suppressedExceptions", "Ljava/util/List;", false)
  | 3 => ("java/lang/Throwable", "detailMessage", "Ljava/lang/String;", false)
  | 4 => ("java/lang/Throwable", "backtrace", "Ljava/lang/Object;", false)
  | 5 => ("java/lang/Throwable", "depth", "I", false)
  | _ => ("DutyBeats$Wrong", "number", "I", false)
def tyX3 : Nat → FieldType := fun k => match k with
  | 0 => .object "java/lang/Throwable"
  | 1 => .array (.object "java/lang/StackTraceElement")
  | 2 => .object "java/util/List"
  | 3 => .object "java/lang/String"
  | 4 => .object "java/lang/Object"
  | 5 => .int
  | _ => .int
abbrev wsX30 : List Cond := u_ws RX3 TX3 7
theorem nmX3 : ∀ a, a < 7 → ∀ b, b < 7 → a ≠ b → (TX3 a).2.1 ≠ (TX3 b).2.1 := by decide +kernel
theorem tyX3_ok : ∀ k, k < 7 → parseFieldDescriptor (TX3 k).2.2.1 = some (tyX3 k) := by decide +kernel
theorem q128 : (Jvm.Cond.initialized "DutyBeats$Wrong") ∈ lw_all := lw_g (lw_at lw_m1 9 rfl) rfl
theorem q267 : (Jvm.Cond.instantiable "DutyBeats$Wrong" (7 : Nat)) ∈ lw_all := lw_g (lw_at lw_m1 148 rfl) rfl
theorem q268 : (Jvm.Cond.castable "DutyBeats$Wrong" "DutyBeats$Wrong") ∈ lw_tbl := lw_at lw_m1 149 rfl
theorem q273 : (Jvm.Cond.selects "DutyBeats$Wrong" ({ cls := "java/lang/Throwable", name := "fillInStackTrace", desc := "(I)Ljava/lang/Throwable;" } : Jvm.MethodName) ({ cls := "java/lang/Throwable", name := "fillInStackTrace", desc := "(I)Ljava/lang/Throwable;" } : Jvm.MethodName)) ∈ lw_all := lw_g (lw_at lw_m1 154 rfl) rfl
theorem q274 : (Jvm.Cond.selects "DutyBeats$Wrong" ({ cls := "java/lang/Throwable", name := "fillInStackTrace", desc := "()Ljava/lang/Throwable;" } : Jvm.MethodName) ({ cls := "java/lang/Throwable", name := "fillInStackTrace", desc := "()Ljava/lang/Throwable;" } : Jvm.MethodName)) ∈ lw_all := lw_g (lw_at lw_m1 155 rfl) rfl
theorem q275 : (Jvm.Cond.lays "DutyBeats$Wrong" "java/lang/Throwable" "cause" "Ljava/lang/Throwable;") ∈ lw_all := lw_g (lw_at lw_m1 156 rfl) rfl
theorem q277 : (Jvm.Cond.lays "DutyBeats$Wrong" "java/lang/Throwable" "stackTrace" "[Ljava/lang/StackTraceElement;") ∈ lw_all := lw_g (lw_at lw_m1 158 rfl) rfl
theorem q279 : (Jvm.Cond.lays "DutyBeats$Wrong" "java/lang/Throwable" "suppressedExceptions" "Ljava/util/List;") ∈ lw_all := lw_g (lw_at lw_m1 160 rfl) rfl
theorem q281 : (Jvm.Cond.lays "DutyBeats$Wrong" "java/lang/Throwable" "detailMessage" "Ljava/lang/String;") ∈ lw_all := lw_g (lw_at lw_m1 162 rfl) rfl
theorem q283 : (Jvm.Cond.lays "DutyBeats$Wrong" "java/lang/Throwable" "backtrace" "Ljava/lang/Object;") ∈ lw_all := lw_g (lw_at lw_m1 164 rfl) rfl
theorem q304 : (Jvm.Cond.instanceMethod ({ cls := "DutyBeats$Wrong", name := "<init>", desc := "()V" } : Jvm.MethodName)) ∈ lw_all := lw_g (lw_at lw_m1 185 rfl) rfl
theorem q305 : (Jvm.Cond.code ({ cls := "DutyBeats$Wrong", name := "<init>", desc := "()V" } : Jvm.MethodName) prog_17_method_1_code (1 : Nat) (Option.none : Option Jvm.ClassFile.FieldType)) ∈ lw_all := lw_g (lw_at lw_m1 186 rfl) rfl
theorem q306 : (Jvm.Cond.methodLink "DutyBeats$Wrong" (1 : Nat) ({ cls := "java/lang/Exception", name := "<init>", desc := "()V" } : Jvm.MethodName)) ∈ lw_all := lw_g (lw_at lw_m1 187 rfl) rfl
theorem q315 : (Jvm.Cond.lays "DutyBeats$Wrong" "DutyBeats$Wrong" "number" "I") ∈ lw_all := lw_g (lw_at lw_m1 196 rfl) rfl
theorem q316 : (Jvm.Cond.soleField "DutyBeats$Wrong" "number") ∈ lw_all := lw_g (lw_at lw_m1 197 rfl) rfl
theorem q321 : (Jvm.Cond.lays "DutyBeats$Wrong" "java/lang/Throwable" "depth" "I") ∈ lw_all := lw_g (lw_at lw_m1 202 rfl) rfl
theorem q324 : (Jvm.Cond.superclass "DutyBeats$Wrong" "java/lang/Exception") ∈ lw_all := lw_g (lw_at lw_m1 205 rfl) rfl
theorem q665 : (Jvm.Cond.selects "DutyBeats$Wrong" ({ cls := "java/lang/Object", name := "getClass", desc := "()Ljava/lang/Class;" } : Jvm.MethodName) ({ cls := "java/lang/Object", name := "getClass", desc := "()Ljava/lang/Class;" } : Jvm.MethodName)) ∈ lw_all := lw_g (lw_at lw_m3 66 rfl) rfl
theorem q1879 : (Jvm.Cond.castable "DutyBeats$Wrong" "java/lang/Object") ∈ lw_tbl := lw_at lw_m8 80 rfl
theorem in_X3 : ∀ w ∈ wsX30, w ∈ lw_all := lw_in wsX30 [275, 277, 279, 281, 283, 321, 315] (by decide +kernel) (by decide +kernel)
def RX4 : String := "DutyBeatsModel"
def TX4 : u_T := fun k => match k with
  | 0 => ("DutyBeatsModel", "tape", "[B", true)
  | 1 => ("DutyBeatsModel", "taped", "I", false)
  | 2 => ("DutyBeatsModel", "rules", "I", false)
  | 3 => ("DutyBeatsModel", "sign", "[I", true)
  | 4 => ("DutyBeatsModel", "length", "[I", true)
  | 5 => ("DutyBeatsModel", "clause", "[I", true)
  | 6 => ("DutyBeatsModel", "clauses", "[I", true)
  | 7 => ("DutyBeatsModel", "read", "[I", true)
  | 8 => ("DutyBeatsModel", "next", "I", false)
  | 9 => ("DutyBeatsModel", "wrong", "I", false)
  | 10 => ("DutyBeatsModel", "number", "I", false)
  | 11 => ("DutyBeatsModel", "text", "I", false)
  | 12 => ("DutyBeatsModel", "made", "I", false)
  | 13 => ("DutyBeatsModel", "deep", "I", false)
  | 14 => ("DutyBeatsModel", "lines", "I", false)
  | 15 => ("DutyBeatsModel", "open", "[I", true)
  | 16 => ("DutyBeatsModel", "opened", "I", false)
  | 17 => ("DutyBeatsModel", "stack", "[J", true)
  | 18 => ("DutyBeatsModel", "top", "I", false)
  | 19 => ("DutyBeatsModel", "word", "[J", true)
  | 20 => ("DutyBeatsModel", "said", "[I", true)
  | 21 => ("DutyBeatsModel", "force", "I", false)
  | 22 => ("DutyBeatsModel", "x", "I", false)
  | 23 => ("DutyBeatsModel", "shutRoad", "I", false)
  | 24 => ("DutyBeatsModel", "planned", "I", false)
  | 25 => ("DutyBeatsModel", "wentThen", "[I", true)
  | 26 => ("DutyBeatsModel", "wasSaid", "[I", true)
  | 27 => ("DutyBeatsModel", "undone", "I", false)
  | 28 => ("DutyBeatsModel", "kept", "[I", true)
  | 29 => ("DutyBeatsModel", "beatOf", "[I", true)
  | 30 => ("DutyBeatsModel", "rowSet", "[I", true)
  | 31 => ("DutyBeatsModel", "rowWaited", "I", false)
  | 32 => ("DutyBeatsModel", "rowHeard", "I", false)
  | 33 => ("DutyBeatsModel", "hasBy", "[I", true)
  | 34 => ("DutyBeatsModel", "waitThen", "[I", true)
  | 35 => ("DutyBeatsModel", "isFit", "[Z", true)
  | 36 => ("DutyBeatsModel", "manyThen", "[I", true)
  | 37 => ("DutyBeatsModel", "drawX", "J", false)
  | 38 => ("DutyBeatsModel", "images", "[I", true)
  | 39 => ("DutyBeatsModel", "imageForce", "[I", true)
  | 40 => ("DutyBeatsModel", "imageX", "[I", true)
  | _ => ("DutyBeatsModel", "isMade", "[Z", true)
def tyX4 : Nat → FieldType := fun k => match k with
  | 0 => .array .byte
  | 1 => .int
  | 2 => .int
  | 3 => .array .int
  | 4 => .array .int
  | 5 => .array .int
  | 6 => .array .int
  | 7 => .array .int
  | 8 => .int
  | 9 => .int
  | 10 => .int
  | 11 => .int
  | 12 => .int
  | 13 => .int
  | 14 => .int
  | 15 => .array .int
  | 16 => .int
  | 17 => .array .long
  | 18 => .int
  | 19 => .array .long
  | 20 => .array .int
  | 21 => .int
  | 22 => .int
  | 23 => .int
  | 24 => .int
  | 25 => .array .int
  | 26 => .array .int
  | 27 => .int
  | 28 => .array .int
  | 29 => .array .int
  | 30 => .array .int
  | 31 => .int
  | 32 => .int
  | 33 => .array .int
  | 34 => .array .int
  | 35 => .array .boolean
  | 36 => .array .int
  | 37 => .long
  | 38 => .array .int
  | 39 => .array .int
  | 40 => .array .int
  | _ => .array .boolean
abbrev wsX40 : List Cond := u_ws RX4 TX4 42
theorem nmX4 : ∀ a, a < 42 → ∀ b, b < 42 → a ≠ b → (TX4 a).2.1 ≠ (TX4 b).2.1 := by decide +kernel
theorem tyX4_ok : ∀ k, k < 42 → parseFieldDescriptor (TX4 k).2.2.1 = some (tyX4 k) := by decide +kernel
theorem q129 : (Jvm.Cond.initialized "DutyBeatsModel") ∈ lw_all := lw_g (lw_at lw_m1 10 rfl) rfl
theorem q666 : (Jvm.Cond.selects "DutyBeatsModel" ({ cls := "java/lang/Object", name := "getClass", desc := "()Ljava/lang/Class;" } : Jvm.MethodName) ({ cls := "java/lang/Object", name := "getClass", desc := "()Ljava/lang/Class;" } : Jvm.MethodName)) ∈ lw_all := lw_g (lw_at lw_m3 67 rfl) rfl
theorem q1242 : (Jvm.Cond.instantiable "DutyBeatsModel" (42 : Nat)) ∈ lw_all := lw_g (lw_at lw_m5 163 rfl) rfl
theorem q1244 : (Jvm.Cond.instanceMethod ({ cls := "DutyBeatsModel", name := "<init>", desc := "()V" } : Jvm.MethodName)) ∈ lw_all := lw_g (lw_at lw_m5 165 rfl) rfl
theorem q1245 : (Jvm.Cond.code ({ cls := "DutyBeatsModel", name := "<init>", desc := "()V" } : Jvm.MethodName) prog_19_method_1_code (1 : Nat) (Option.none : Option Jvm.ClassFile.FieldType)) ∈ lw_all := lw_g (lw_at lw_m5 166 rfl) rfl
theorem q1246 : (Jvm.Cond.methodLink "DutyBeatsModel" (1 : Nat) ({ cls := "java/lang/Object", name := "<init>", desc := "()V" } : Jvm.MethodName)) ∈ lw_all := lw_g (lw_at lw_m5 167 rfl) rfl
theorem q1247 : (Jvm.Cond.fieldLink "DutyBeatsModel" (7 : Nat) "DutyBeatsModel" "tape" "[B") ∈ lw_all := lw_g (lw_at lw_m5 168 rfl) rfl
theorem q1248 : (Jvm.Cond.fieldLink "DutyBeatsModel" (92 : Nat) "DutyBeatsModel" "taped" "I") ∈ lw_all := lw_g (lw_at lw_m5 169 rfl) rfl
theorem q1249 : (Jvm.Cond.fieldLink "DutyBeatsModel" (267 : Nat) "DutyBeatsModel" "rules" "I") ∈ lw_all := lw_g (lw_at lw_m5 170 rfl) rfl
theorem q1250 : (Jvm.Cond.fieldLink "DutyBeatsModel" (13 : Nat) "DutyBeatsModel" "sign" "[I") ∈ lw_all := lw_g (lw_at lw_m5 171 rfl) rfl
theorem q1251 : (Jvm.Cond.fieldLink "DutyBeatsModel" (17 : Nat) "DutyBeatsModel" "length" "[I") ∈ lw_all := lw_g (lw_at lw_m5 172 rfl) rfl
theorem q1252 : (Jvm.Cond.fieldLink "DutyBeatsModel" (20 : Nat) "DutyBeatsModel" "clause" "[I") ∈ lw_all := lw_g (lw_at lw_m5 173 rfl) rfl
theorem q1253 : (Jvm.Cond.fieldLink "DutyBeatsModel" (23 : Nat) "DutyBeatsModel" "clauses" "[I") ∈ lw_all := lw_g (lw_at lw_m5 174 rfl) rfl
theorem q1254 : (Jvm.Cond.fieldLink "DutyBeatsModel" (26 : Nat) "DutyBeatsModel" "read" "[I") ∈ lw_all := lw_g (lw_at lw_m5 175 rfl) rfl
theorem q1255 : (Jvm.Cond.fieldLink "DutyBeatsModel" (102 : Nat) "DutyBeatsModel" "next" "I") ∈ lw_all := lw_g (lw_at lw_m5 176 rfl) rfl
theorem q1256 : (Jvm.Cond.fieldLink "DutyBeatsModel" (99 : Nat) "DutyBeatsModel" "wrong" "I") ∈ lw_all := lw_g (lw_at lw_m5 177 rfl) rfl
theorem q1257 : (Jvm.Cond.fieldLink "DutyBeatsModel" (127 : Nat) "DutyBeatsModel" "number" "I") ∈ lw_all := lw_g (lw_at lw_m5 178 rfl) rfl
theorem q1258 : (Jvm.Cond.fieldLink "DutyBeatsModel" (158 : Nat) "DutyBeatsModel" "text" "I") ∈ lw_all := lw_g (lw_at lw_m5 179 rfl) rfl
theorem q1259 : (Jvm.Cond.fieldLink "DutyBeatsModel" (161 : Nat) "DutyBeatsModel" "made" "I") ∈ lw_all := lw_g (lw_at lw_m5 180 rfl) rfl
theorem q1260 : (Jvm.Cond.fieldLink "DutyBeatsModel" (164 : Nat) "DutyBeatsModel" "deep" "I") ∈ lw_all := lw_g (lw_at lw_m5 181 rfl) rfl
theorem q1261 : (Jvm.Cond.fieldLink "DutyBeatsModel" (255 : Nat) "DutyBeatsModel" "lines" "I") ∈ lw_all := lw_g (lw_at lw_m5 182 rfl) rfl
theorem q1262 : (Jvm.Cond.fieldLink "DutyBeatsModel" (29 : Nat) "DutyBeatsModel" "open" "[I") ∈ lw_all := lw_g (lw_at lw_m5 183 rfl) rfl
theorem q1263 : (Jvm.Cond.fieldLink "DutyBeatsModel" (167 : Nat) "DutyBeatsModel" "opened" "I") ∈ lw_all := lw_g (lw_at lw_m5 184 rfl) rfl
theorem q1264 : (Jvm.Cond.fieldLink "DutyBeatsModel" (32 : Nat) "DutyBeatsModel" "stack" "[J") ∈ lw_all := lw_g (lw_at lw_m5 185 rfl) rfl
theorem q1265 : (Jvm.Cond.fieldLink "DutyBeatsModel" (279 : Nat) "DutyBeatsModel" "top" "I") ∈ lw_all := lw_g (lw_at lw_m5 186 rfl) rfl
theorem q1266 : (Jvm.Cond.fieldLink "DutyBeatsModel" (36 : Nat) "DutyBeatsModel" "word" "[J") ∈ lw_all := lw_g (lw_at lw_m5 187 rfl) rfl
theorem q1267 : (Jvm.Cond.fieldLink "DutyBeatsModel" (39 : Nat) "DutyBeatsModel" "said" "[I") ∈ lw_all := lw_g (lw_at lw_m5 188 rfl) rfl
theorem q1268 : (Jvm.Cond.fieldLink "DutyBeatsModel" (42 : Nat) "DutyBeatsModel" "force" "I") ∈ lw_all := lw_g (lw_at lw_m5 189 rfl) rfl
theorem q1269 : (Jvm.Cond.fieldLink "DutyBeatsModel" (454 : Nat) "DutyBeatsModel" "x" "I") ∈ lw_all := lw_g (lw_at lw_m5 190 rfl) rfl
theorem q1270 : (Jvm.Cond.fieldLink "DutyBeatsModel" (46 : Nat) "DutyBeatsModel" "shutRoad" "I") ∈ lw_all := lw_g (lw_at lw_m5 191 rfl) rfl
theorem q1271 : (Jvm.Cond.fieldLink "DutyBeatsModel" (49 : Nat) "DutyBeatsModel" "planned" "I") ∈ lw_all := lw_g (lw_at lw_m5 192 rfl) rfl
theorem q1272 : (Jvm.Cond.fieldLink "DutyBeatsModel" (52 : Nat) "DutyBeatsModel" "wentThen" "[I") ∈ lw_all := lw_g (lw_at lw_m5 193 rfl) rfl
theorem q1273 : (Jvm.Cond.fieldLink "DutyBeatsModel" (55 : Nat) "DutyBeatsModel" "wasSaid" "[I") ∈ lw_all := lw_g (lw_at lw_m5 194 rfl) rfl
theorem q1274 : (Jvm.Cond.fieldLink "DutyBeatsModel" (276 : Nat) "DutyBeatsModel" "undone" "I") ∈ lw_all := lw_g (lw_at lw_m5 195 rfl) rfl
theorem q1275 : (Jvm.Cond.fieldLink "DutyBeatsModel" (58 : Nat) "DutyBeatsModel" "kept" "[I") ∈ lw_all := lw_g (lw_at lw_m5 196 rfl) rfl
theorem q1276 : (Jvm.Cond.fieldLink "DutyBeatsModel" (61 : Nat) "DutyBeatsModel" "beatOf" "[I") ∈ lw_all := lw_g (lw_at lw_m5 197 rfl) rfl
theorem q1277 : (Jvm.Cond.fieldLink "DutyBeatsModel" (64 : Nat) "DutyBeatsModel" "rowSet" "[I") ∈ lw_all := lw_g (lw_at lw_m5 198 rfl) rfl
theorem q1278 : (Jvm.Cond.fieldLink "DutyBeatsModel" (403 : Nat) "DutyBeatsModel" "rowWaited" "I") ∈ lw_all := lw_g (lw_at lw_m5 199 rfl) rfl
theorem q1279 : (Jvm.Cond.fieldLink "DutyBeatsModel" (406 : Nat) "DutyBeatsModel" "rowHeard" "I") ∈ lw_all := lw_g (lw_at lw_m5 200 rfl) rfl
theorem q1280 : (Jvm.Cond.fieldLink "DutyBeatsModel" (67 : Nat) "DutyBeatsModel" "hasBy" "[I") ∈ lw_all := lw_g (lw_at lw_m5 201 rfl) rfl
theorem q1281 : (Jvm.Cond.fieldLink "DutyBeatsModel" (70 : Nat) "DutyBeatsModel" "waitThen" "[I") ∈ lw_all := lw_g (lw_at lw_m5 202 rfl) rfl
theorem q1282 : (Jvm.Cond.fieldLink "DutyBeatsModel" (73 : Nat) "DutyBeatsModel" "isFit" "[Z") ∈ lw_all := lw_g (lw_at lw_m5 203 rfl) rfl
theorem q1283 : (Jvm.Cond.fieldLink "DutyBeatsModel" (77 : Nat) "DutyBeatsModel" "manyThen" "[I") ∈ lw_all := lw_g (lw_at lw_m5 204 rfl) rfl
theorem q1284 : (Jvm.Cond.fieldLink "DutyBeatsModel" (457 : Nat) "DutyBeatsModel" "drawX" "J") ∈ lw_all := lw_g (lw_at lw_m5 205 rfl) rfl
theorem q1285 : (Jvm.Cond.fieldLink "DutyBeatsModel" (80 : Nat) "DutyBeatsModel" "images" "[I") ∈ lw_all := lw_g (lw_at lw_m5 206 rfl) rfl
theorem q1286 : (Jvm.Cond.fieldLink "DutyBeatsModel" (83 : Nat) "DutyBeatsModel" "imageForce" "[I") ∈ lw_all := lw_g (lw_at lw_m5 207 rfl) rfl
theorem q1287 : (Jvm.Cond.fieldLink "DutyBeatsModel" (86 : Nat) "DutyBeatsModel" "imageX" "[I") ∈ lw_all := lw_g (lw_at lw_m5 208 rfl) rfl
theorem q1288 : (Jvm.Cond.fieldLink "DutyBeatsModel" (89 : Nat) "DutyBeatsModel" "isMade" "[Z") ∈ lw_all := lw_g (lw_at lw_m5 209 rfl) rfl
theorem q1289 : (Jvm.Cond.laysFinal "DutyBeatsModel" "DutyBeatsModel" "tape" "[B") ∈ lw_all := lw_g (lw_at lw_m5 210 rfl) rfl
theorem q1290 : (Jvm.Cond.soleField "DutyBeatsModel" "tape") ∈ lw_all := lw_g (lw_at lw_m5 211 rfl) rfl
theorem q1291 : (Jvm.Cond.lays "DutyBeatsModel" "DutyBeatsModel" "taped" "I") ∈ lw_all := lw_g (lw_at lw_m5 212 rfl) rfl
theorem q1292 : (Jvm.Cond.soleField "DutyBeatsModel" "taped") ∈ lw_all := lw_g (lw_at lw_m5 213 rfl) rfl
theorem q1293 : (Jvm.Cond.lays "DutyBeatsModel" "DutyBeatsModel" "rules" "I") ∈ lw_all := lw_g (lw_at lw_m5 214 rfl) rfl
theorem q1294 : (Jvm.Cond.soleField "DutyBeatsModel" "rules") ∈ lw_all := lw_g (lw_at lw_m5 215 rfl) rfl
theorem q1295 : (Jvm.Cond.laysFinal "DutyBeatsModel" "DutyBeatsModel" "sign" "[I") ∈ lw_all := lw_g (lw_at lw_m5 216 rfl) rfl
theorem q1296 : (Jvm.Cond.soleField "DutyBeatsModel" "sign") ∈ lw_all := lw_g (lw_at lw_m5 217 rfl) rfl
theorem q1297 : (Jvm.Cond.laysFinal "DutyBeatsModel" "DutyBeatsModel" "length" "[I") ∈ lw_all := lw_g (lw_at lw_m5 218 rfl) rfl
theorem q1298 : (Jvm.Cond.soleField "DutyBeatsModel" "length") ∈ lw_all := lw_g (lw_at lw_m5 219 rfl) rfl
theorem q1299 : (Jvm.Cond.laysFinal "DutyBeatsModel" "DutyBeatsModel" "clause" "[I") ∈ lw_all := lw_g (lw_at lw_m5 220 rfl) rfl
theorem q1300 : (Jvm.Cond.soleField "DutyBeatsModel" "clause") ∈ lw_all := lw_g (lw_at lw_m5 221 rfl) rfl
theorem q1301 : (Jvm.Cond.laysFinal "DutyBeatsModel" "DutyBeatsModel" "clauses" "[I") ∈ lw_all := lw_g (lw_at lw_m5 222 rfl) rfl
theorem q1302 : (Jvm.Cond.soleField "DutyBeatsModel" "clauses") ∈ lw_all := lw_g (lw_at lw_m5 223 rfl) rfl
theorem q1303 : (Jvm.Cond.laysFinal "DutyBeatsModel" "DutyBeatsModel" "read" "[I") ∈ lw_all := lw_g (lw_at lw_m5 224 rfl) rfl
theorem q1304 : (Jvm.Cond.soleField "DutyBeatsModel" "read") ∈ lw_all := lw_g (lw_at lw_m5 225 rfl) rfl
theorem q1305 : (Jvm.Cond.lays "DutyBeatsModel" "DutyBeatsModel" "next" "I") ∈ lw_all := lw_g (lw_at lw_m5 226 rfl) rfl
theorem q1306 : (Jvm.Cond.soleField "DutyBeatsModel" "next") ∈ lw_all := lw_g (lw_at lw_m5 227 rfl) rfl
theorem q1307 : (Jvm.Cond.lays "DutyBeatsModel" "DutyBeatsModel" "wrong" "I") ∈ lw_all := lw_g (lw_at lw_m5 228 rfl) rfl
theorem q1308 : (Jvm.Cond.soleField "DutyBeatsModel" "wrong") ∈ lw_all := lw_g (lw_at lw_m5 229 rfl) rfl
theorem q1309 : (Jvm.Cond.lays "DutyBeatsModel" "DutyBeatsModel" "number" "I") ∈ lw_all := lw_g (lw_at lw_m5 230 rfl) rfl
theorem q1310 : (Jvm.Cond.soleField "DutyBeatsModel" "number") ∈ lw_all := lw_g (lw_at lw_m5 231 rfl) rfl
theorem q1311 : (Jvm.Cond.lays "DutyBeatsModel" "DutyBeatsModel" "text" "I") ∈ lw_all := lw_g (lw_at lw_m5 232 rfl) rfl
theorem q1312 : (Jvm.Cond.soleField "DutyBeatsModel" "text") ∈ lw_all := lw_g (lw_at lw_m5 233 rfl) rfl
theorem q1313 : (Jvm.Cond.lays "DutyBeatsModel" "DutyBeatsModel" "made" "I") ∈ lw_all := lw_g (lw_at lw_m5 234 rfl) rfl
theorem q1314 : (Jvm.Cond.soleField "DutyBeatsModel" "made") ∈ lw_all := lw_g (lw_at lw_m5 235 rfl) rfl
theorem q1315 : (Jvm.Cond.lays "DutyBeatsModel" "DutyBeatsModel" "deep" "I") ∈ lw_all := lw_g (lw_at lw_m5 236 rfl) rfl
theorem q1316 : (Jvm.Cond.soleField "DutyBeatsModel" "deep") ∈ lw_all := lw_g (lw_at lw_m5 237 rfl) rfl
theorem q1317 : (Jvm.Cond.lays "DutyBeatsModel" "DutyBeatsModel" "lines" "I") ∈ lw_all := lw_g (lw_at lw_m5 238 rfl) rfl
theorem q1318 : (Jvm.Cond.soleField "DutyBeatsModel" "lines") ∈ lw_all := lw_g (lw_at lw_m5 239 rfl) rfl
theorem q1319 : (Jvm.Cond.laysFinal "DutyBeatsModel" "DutyBeatsModel" "open" "[I") ∈ lw_all := lw_g (lw_at lw_m6 0 rfl) rfl
theorem q1320 : (Jvm.Cond.soleField "DutyBeatsModel" "open") ∈ lw_all := lw_g (lw_at lw_m6 1 rfl) rfl
theorem q1321 : (Jvm.Cond.lays "DutyBeatsModel" "DutyBeatsModel" "opened" "I") ∈ lw_all := lw_g (lw_at lw_m6 2 rfl) rfl
theorem q1322 : (Jvm.Cond.soleField "DutyBeatsModel" "opened") ∈ lw_all := lw_g (lw_at lw_m6 3 rfl) rfl
theorem q1323 : (Jvm.Cond.laysFinal "DutyBeatsModel" "DutyBeatsModel" "stack" "[J") ∈ lw_all := lw_g (lw_at lw_m6 4 rfl) rfl
theorem q1324 : (Jvm.Cond.soleField "DutyBeatsModel" "stack") ∈ lw_all := lw_g (lw_at lw_m6 5 rfl) rfl
theorem q1325 : (Jvm.Cond.lays "DutyBeatsModel" "DutyBeatsModel" "top" "I") ∈ lw_all := lw_g (lw_at lw_m6 6 rfl) rfl
theorem q1326 : (Jvm.Cond.soleField "DutyBeatsModel" "top") ∈ lw_all := lw_g (lw_at lw_m6 7 rfl) rfl
theorem q1327 : (Jvm.Cond.laysFinal "DutyBeatsModel" "DutyBeatsModel" "word" "[J") ∈ lw_all := lw_g (lw_at lw_m6 8 rfl) rfl
theorem q1328 : (Jvm.Cond.soleField "DutyBeatsModel" "word") ∈ lw_all := lw_g (lw_at lw_m6 9 rfl) rfl
theorem q1329 : (Jvm.Cond.laysFinal "DutyBeatsModel" "DutyBeatsModel" "said" "[I") ∈ lw_all := lw_g (lw_at lw_m6 10 rfl) rfl
theorem q1330 : (Jvm.Cond.soleField "DutyBeatsModel" "said") ∈ lw_all := lw_g (lw_at lw_m6 11 rfl) rfl
theorem q1331 : (Jvm.Cond.lays "DutyBeatsModel" "DutyBeatsModel" "force" "I") ∈ lw_all := lw_g (lw_at lw_m6 12 rfl) rfl
theorem q1332 : (Jvm.Cond.soleField "DutyBeatsModel" "force") ∈ lw_all := lw_g (lw_at lw_m6 13 rfl) rfl
theorem q1333 : (Jvm.Cond.lays "DutyBeatsModel" "DutyBeatsModel" "x" "I") ∈ lw_all := lw_g (lw_at lw_m6 14 rfl) rfl
theorem q1334 : (Jvm.Cond.soleField "DutyBeatsModel" "x") ∈ lw_all := lw_g (lw_at lw_m6 15 rfl) rfl
theorem q1335 : (Jvm.Cond.lays "DutyBeatsModel" "DutyBeatsModel" "shutRoad" "I") ∈ lw_all := lw_g (lw_at lw_m6 16 rfl) rfl
theorem q1336 : (Jvm.Cond.soleField "DutyBeatsModel" "shutRoad") ∈ lw_all := lw_g (lw_at lw_m6 17 rfl) rfl
theorem q1337 : (Jvm.Cond.lays "DutyBeatsModel" "DutyBeatsModel" "planned" "I") ∈ lw_all := lw_g (lw_at lw_m6 18 rfl) rfl
theorem q1338 : (Jvm.Cond.soleField "DutyBeatsModel" "planned") ∈ lw_all := lw_g (lw_at lw_m6 19 rfl) rfl
theorem q1339 : (Jvm.Cond.laysFinal "DutyBeatsModel" "DutyBeatsModel" "wentThen" "[I") ∈ lw_all := lw_g (lw_at lw_m6 20 rfl) rfl
theorem q1340 : (Jvm.Cond.soleField "DutyBeatsModel" "wentThen") ∈ lw_all := lw_g (lw_at lw_m6 21 rfl) rfl
theorem q1341 : (Jvm.Cond.laysFinal "DutyBeatsModel" "DutyBeatsModel" "wasSaid" "[I") ∈ lw_all := lw_g (lw_at lw_m6 22 rfl) rfl
theorem q1342 : (Jvm.Cond.soleField "DutyBeatsModel" "wasSaid") ∈ lw_all := lw_g (lw_at lw_m6 23 rfl) rfl
theorem q1343 : (Jvm.Cond.lays "DutyBeatsModel" "DutyBeatsModel" "undone" "I") ∈ lw_all := lw_g (lw_at lw_m6 24 rfl) rfl
theorem q1344 : (Jvm.Cond.soleField "DutyBeatsModel" "undone") ∈ lw_all := lw_g (lw_at lw_m6 25 rfl) rfl
theorem q1345 : (Jvm.Cond.laysFinal "DutyBeatsModel" "DutyBeatsModel" "kept" "[I") ∈ lw_all := lw_g (lw_at lw_m6 26 rfl) rfl
theorem q1346 : (Jvm.Cond.soleField "DutyBeatsModel" "kept") ∈ lw_all := lw_g (lw_at lw_m6 27 rfl) rfl
theorem q1347 : (Jvm.Cond.laysFinal "DutyBeatsModel" "DutyBeatsModel" "beatOf" "[I") ∈ lw_all := lw_g (lw_at lw_m6 28 rfl) rfl
theorem q1348 : (Jvm.Cond.soleField "DutyBeatsModel" "beatOf") ∈ lw_all := lw_g (lw_at lw_m6 29 rfl) rfl
theorem q1349 : (Jvm.Cond.laysFinal "DutyBeatsModel" "DutyBeatsModel" "rowSet" "[I") ∈ lw_all := lw_g (lw_at lw_m6 30 rfl) rfl
theorem q1350 : (Jvm.Cond.soleField "DutyBeatsModel" "rowSet") ∈ lw_all := lw_g (lw_at lw_m6 31 rfl) rfl
theorem q1351 : (Jvm.Cond.lays "DutyBeatsModel" "DutyBeatsModel" "rowWaited" "I") ∈ lw_all := lw_g (lw_at lw_m6 32 rfl) rfl
theorem q1352 : (Jvm.Cond.soleField "DutyBeatsModel" "rowWaited") ∈ lw_all := lw_g (lw_at lw_m6 33 rfl) rfl
theorem q1353 : (Jvm.Cond.lays "DutyBeatsModel" "DutyBeatsModel" "rowHeard" "I") ∈ lw_all := lw_g (lw_at lw_m6 34 rfl) rfl
theorem q1354 : (Jvm.Cond.soleField "DutyBeatsModel" "rowHeard") ∈ lw_all := lw_g (lw_at lw_m6 35 rfl) rfl
theorem q1355 : (Jvm.Cond.laysFinal "DutyBeatsModel" "DutyBeatsModel" "hasBy" "[I") ∈ lw_all := lw_g (lw_at lw_m6 36 rfl) rfl
theorem q1356 : (Jvm.Cond.soleField "DutyBeatsModel" "hasBy") ∈ lw_all := lw_g (lw_at lw_m6 37 rfl) rfl
theorem q1357 : (Jvm.Cond.laysFinal "DutyBeatsModel" "DutyBeatsModel" "waitThen" "[I") ∈ lw_all := lw_g (lw_at lw_m6 38 rfl) rfl
theorem q1358 : (Jvm.Cond.soleField "DutyBeatsModel" "waitThen") ∈ lw_all := lw_g (lw_at lw_m6 39 rfl) rfl
theorem q1359 : (Jvm.Cond.laysFinal "DutyBeatsModel" "DutyBeatsModel" "isFit" "[Z") ∈ lw_all := lw_g (lw_at lw_m6 40 rfl) rfl
theorem q1360 : (Jvm.Cond.soleField "DutyBeatsModel" "isFit") ∈ lw_all := lw_g (lw_at lw_m6 41 rfl) rfl
theorem q1361 : (Jvm.Cond.laysFinal "DutyBeatsModel" "DutyBeatsModel" "manyThen" "[I") ∈ lw_all := lw_g (lw_at lw_m6 42 rfl) rfl
theorem q1362 : (Jvm.Cond.soleField "DutyBeatsModel" "manyThen") ∈ lw_all := lw_g (lw_at lw_m6 43 rfl) rfl
theorem q1363 : (Jvm.Cond.lays "DutyBeatsModel" "DutyBeatsModel" "drawX" "J") ∈ lw_all := lw_g (lw_at lw_m6 44 rfl) rfl
theorem q1364 : (Jvm.Cond.soleField "DutyBeatsModel" "drawX") ∈ lw_all := lw_g (lw_at lw_m6 45 rfl) rfl
theorem q1365 : (Jvm.Cond.laysFinal "DutyBeatsModel" "DutyBeatsModel" "images" "[I") ∈ lw_all := lw_g (lw_at lw_m6 46 rfl) rfl
theorem q1366 : (Jvm.Cond.soleField "DutyBeatsModel" "images") ∈ lw_all := lw_g (lw_at lw_m6 47 rfl) rfl
theorem q1367 : (Jvm.Cond.laysFinal "DutyBeatsModel" "DutyBeatsModel" "imageForce" "[I") ∈ lw_all := lw_g (lw_at lw_m6 48 rfl) rfl
theorem q1368 : (Jvm.Cond.soleField "DutyBeatsModel" "imageForce") ∈ lw_all := lw_g (lw_at lw_m6 49 rfl) rfl
theorem q1369 : (Jvm.Cond.laysFinal "DutyBeatsModel" "DutyBeatsModel" "imageX" "[I") ∈ lw_all := lw_g (lw_at lw_m6 50 rfl) rfl
theorem q1370 : (Jvm.Cond.soleField "DutyBeatsModel" "imageX") ∈ lw_all := lw_g (lw_at lw_m6 51 rfl) rfl
theorem q1371 : (Jvm.Cond.laysFinal "DutyBeatsModel" "DutyBeatsModel" "isMade" "[Z") ∈ lw_all := lw_g (lw_at lw_m6 52 rfl) rfl
theorem q1372 : (Jvm.Cond.soleField "DutyBeatsModel" "isMade") ∈ lw_all := lw_g (lw_at lw_m6 53 rfl) rfl
theorem q1373 : (Jvm.Cond.superclass "DutyBeatsModel" "java/lang/Object") ∈ lw_all := lw_g (lw_at lw_m6 54 rfl) rfl
theorem q1376 : (Jvm.Cond.instanceMethod ({ cls := "DutyBeatsModel", name := "feed", desc := "(IIIII)I" } : Jvm.MethodName)) ∈ lw_all := lw_g (lw_at lw_m6 57 rfl) rfl
theorem q1377 : (Jvm.Cond.selects "DutyBeatsModel" ({ cls := "DutyBeatsModel", name := "feed", desc := "(IIIII)I" } : Jvm.MethodName) ({ cls := "DutyBeatsModel", name := "feed", desc := "(IIIII)I" } : Jvm.MethodName)) ∈ lw_all := lw_g (lw_at lw_m6 58 rfl) rfl
theorem q1378 : (Jvm.Cond.code ({ cls := "DutyBeatsModel", name := "feed", desc := "(IIIII)I" } : Jvm.MethodName) prog_19_method_6_code (6 : Nat) (Option.some Jvm.ClassFile.FieldType.int)) ∈ lw_all := lw_g (lw_at lw_m6 59 rfl) rfl
theorem q1379 : (Jvm.Cond.methodLink "DutyBeatsModel" (95 : Nat) ({ cls := "DutyBeatsModel", name := "four", desc := "(I)V" } : Jvm.MethodName)) ∈ lw_all := lw_g (lw_at lw_m6 60 rfl) rfl
theorem q1380 : (Jvm.Cond.privateMethod ({ cls := "DutyBeatsModel", name := "four", desc := "(I)V" } : Jvm.MethodName)) ∈ lw_tbl := lw_at lw_m6 61 rfl
theorem q1381 : (Jvm.Cond.instanceMethod ({ cls := "DutyBeatsModel", name := "four", desc := "(I)V" } : Jvm.MethodName)) ∈ lw_all := lw_g (lw_at lw_m6 62 rfl) rfl
theorem q1382 : (Jvm.Cond.code ({ cls := "DutyBeatsModel", name := "four", desc := "(I)V" } : Jvm.MethodName) prog_19_method_5_code (3 : Nat) (Option.none : Option Jvm.ClassFile.FieldType)) ∈ lw_all := lw_g (lw_at lw_m6 63 rfl) rfl
theorem q1384 : (Jvm.Cond.instanceMethod ({ cls := "DutyBeatsModel", name := "end", desc := "(I)I" } : Jvm.MethodName)) ∈ lw_all := lw_g (lw_at lw_m6 65 rfl) rfl
theorem q1385 : (Jvm.Cond.selects "DutyBeatsModel" ({ cls := "DutyBeatsModel", name := "end", desc := "(I)I" } : Jvm.MethodName) ({ cls := "DutyBeatsModel", name := "end", desc := "(I)I" } : Jvm.MethodName)) ∈ lw_all := lw_g (lw_at lw_m6 66 rfl) rfl
theorem q1386 : (Jvm.Cond.code ({ cls := "DutyBeatsModel", name := "end", desc := "(I)I" } : Jvm.MethodName) prog_19_method_7_code (2 : Nat) (Option.some Jvm.ClassFile.FieldType.int)) ∈ lw_all := lw_g (lw_at lw_m6 67 rfl) rfl
theorem q1388 : (Jvm.Cond.instanceMethod ({ cls := "DutyBeatsModel", name := "rule", desc := "()I" } : Jvm.MethodName)) ∈ lw_all := lw_g (lw_at lw_m6 69 rfl) rfl
theorem q1389 : (Jvm.Cond.selects "DutyBeatsModel" ({ cls := "DutyBeatsModel", name := "rule", desc := "()I" } : Jvm.MethodName) ({ cls := "DutyBeatsModel", name := "rule", desc := "()I" } : Jvm.MethodName)) ∈ lw_all := lw_g (lw_at lw_m6 70 rfl) rfl
theorem q1390 : (Jvm.Cond.code ({ cls := "DutyBeatsModel", name := "rule", desc := "()I" } : Jvm.MethodName) prog_19_method_40_code (1 : Nat) (Option.some Jvm.ClassFile.FieldType.int)) ∈ lw_all := lw_g (lw_at lw_m6 71 rfl) rfl
theorem q1391 : (Jvm.Cond.methodLink "DutyBeatsModel" (270 : Nat) ({ cls := "DutyBeatsModel", name := "readsAll", desc := "()Z" } : Jvm.MethodName)) ∈ lw_all := lw_g (lw_at lw_m6 72 rfl) rfl
theorem q1392 : (Jvm.Cond.privateMethod ({ cls := "DutyBeatsModel", name := "readsAll", desc := "()Z" } : Jvm.MethodName)) ∈ lw_tbl := lw_at lw_m6 73 rfl
theorem q1393 : (Jvm.Cond.instanceMethod ({ cls := "DutyBeatsModel", name := "readsAll", desc := "()Z" } : Jvm.MethodName)) ∈ lw_all := lw_g (lw_at lw_m6 74 rfl) rfl
theorem q1394 : (Jvm.Cond.code ({ cls := "DutyBeatsModel", name := "readsAll", desc := "()Z" } : Jvm.MethodName) prog_19_method_39_code (2 : Nat) (Option.some Jvm.ClassFile.FieldType.boolean)) ∈ lw_all := lw_g (lw_at lw_m6 75 rfl) rfl
theorem q1395 : (Jvm.Cond.methodLink "DutyBeatsModel" (264 : Nat) ({ cls := "DutyBeatsModel", name := "clauseHere", desc := "()Z" } : Jvm.MethodName)) ∈ lw_all := lw_g (lw_at lw_m6 76 rfl) rfl
theorem q1396 : (Jvm.Cond.privateMethod ({ cls := "DutyBeatsModel", name := "clauseHere", desc := "()Z" } : Jvm.MethodName)) ∈ lw_tbl := lw_at lw_m6 77 rfl
theorem q1397 : (Jvm.Cond.instanceMethod ({ cls := "DutyBeatsModel", name := "clauseHere", desc := "()Z" } : Jvm.MethodName)) ∈ lw_all := lw_g (lw_at lw_m6 78 rfl) rfl
theorem q1398 : (Jvm.Cond.code ({ cls := "DutyBeatsModel", name := "clauseHere", desc := "()Z" } : Jvm.MethodName) prog_19_method_38_code (3 : Nat) (Option.some Jvm.ClassFile.FieldType.boolean)) ∈ lw_all := lw_g (lw_at lw_m6 79 rfl) rfl
theorem q1399 : (Jvm.Cond.methodLink "DutyBeatsModel" (105 : Nat) ({ cls := "DutyBeatsModel", name := "see", desc := "()I" } : Jvm.MethodName)) ∈ lw_all := lw_g (lw_at lw_m6 80 rfl) rfl
theorem q1400 : (Jvm.Cond.privateMethod ({ cls := "DutyBeatsModel", name := "see", desc := "()I" } : Jvm.MethodName)) ∈ lw_tbl := lw_at lw_m6 81 rfl
theorem q1401 : (Jvm.Cond.instanceMethod ({ cls := "DutyBeatsModel", name := "see", desc := "()I" } : Jvm.MethodName)) ∈ lw_all := lw_g (lw_at lw_m6 82 rfl) rfl
theorem q1402 : (Jvm.Cond.code ({ cls := "DutyBeatsModel", name := "see", desc := "()I" } : Jvm.MethodName) prog_19_method_9_code (1 : Nat) (Option.some Jvm.ClassFile.FieldType.int)) ∈ lw_all := lw_g (lw_at lw_m6 83 rfl) rfl
theorem q1403 : (Jvm.Cond.methodLink "DutyBeatsModel" (252 : Nat) ({ cls := "DutyBeatsModel", name := "isJunctionWord", desc := "()Z" } : Jvm.MethodName)) ∈ lw_all := lw_g (lw_at lw_m6 84 rfl) rfl
theorem q1404 : (Jvm.Cond.privateMethod ({ cls := "DutyBeatsModel", name := "isJunctionWord", desc := "()Z" } : Jvm.MethodName)) ∈ lw_tbl := lw_at lw_m6 85 rfl
theorem q1405 : (Jvm.Cond.instanceMethod ({ cls := "DutyBeatsModel", name := "isJunctionWord", desc := "()Z" } : Jvm.MethodName)) ∈ lw_all := lw_g (lw_at lw_m6 86 rfl) rfl
theorem q1406 : (Jvm.Cond.code ({ cls := "DutyBeatsModel", name := "isJunctionWord", desc := "()Z" } : Jvm.MethodName) prog_19_method_37_code (1 : Nat) (Option.some Jvm.ClassFile.FieldType.boolean)) ∈ lw_all := lw_g (lw_at lw_m6 87 rfl) rfl
theorem q1407 : (Jvm.Cond.constantLong "DutyBeatsModel" (234 : Nat) (366619534830 : Int64)) ∈ lw_all := lw_g (lw_at lw_m6 88 rfl) rfl
theorem q1408 : (Jvm.Cond.methodLink "DutyBeatsModel" (113 : Nat) ({ cls := "DutyBeatsModel", name := "isWord", desc := "(J)Z" } : Jvm.MethodName)) ∈ lw_all := lw_g (lw_at lw_m6 89 rfl) rfl
theorem q1409 : (Jvm.Cond.privateMethod ({ cls := "DutyBeatsModel", name := "isWord", desc := "(J)Z" } : Jvm.MethodName)) ∈ lw_tbl := lw_at lw_m6 90 rfl
theorem q1410 : (Jvm.Cond.instanceMethod ({ cls := "DutyBeatsModel", name := "isWord", desc := "(J)Z" } : Jvm.MethodName)) ∈ lw_all := lw_g (lw_at lw_m6 91 rfl) rfl
theorem q1411 : (Jvm.Cond.code ({ cls := "DutyBeatsModel", name := "isWord", desc := "(J)Z" } : Jvm.MethodName) prog_19_method_12_code (6 : Nat) (Option.some Jvm.ClassFile.FieldType.boolean)) ∈ lw_all := lw_g (lw_at lw_m6 92 rfl) rfl
theorem q1412 : (Jvm.Cond.methodLink "DutyBeatsModel" (109 : Nat) ({ cls := "DutyBeatsModel", name := "isLetter", desc := "(I)Z" } : Jvm.MethodName)) ∈ lw_all := lw_g (lw_at lw_m6 93 rfl) rfl
theorem q1413 : (Jvm.Cond.privateMethod ({ cls := "DutyBeatsModel", name := "isLetter", desc := "(I)Z" } : Jvm.MethodName)) ∈ lw_tbl := lw_at lw_m6 94 rfl
theorem q1414 : (Jvm.Cond.instanceMethod ({ cls := "DutyBeatsModel", name := "isLetter", desc := "(I)Z" } : Jvm.MethodName)) ∈ lw_all := lw_g (lw_at lw_m6 95 rfl) rfl
theorem q1415 : (Jvm.Cond.code ({ cls := "DutyBeatsModel", name := "isLetter", desc := "(I)Z" } : Jvm.MethodName) prog_19_method_11_code (2 : Nat) (Option.some Jvm.ClassFile.FieldType.boolean)) ∈ lw_all := lw_g (lw_at lw_m6 96 rfl) rfl
theorem q1416 : (Jvm.Cond.constantLong "DutyBeatsModel" (134 : Nat) (605220 : Int64)) ∈ lw_all := lw_g (lw_at lw_m6 97 rfl) rfl
theorem q1417 : (Jvm.Cond.constantLong "DutyBeatsModel" (242 : Nat) (3540584 : Int64)) ∈ lw_all := lw_g (lw_at lw_m6 98 rfl) rfl
theorem q1418 : (Jvm.Cond.constantLong "DutyBeatsModel" (250 : Nat) (20037189 : Int64)) ∈ lw_all := lw_g (lw_at lw_m6 99 rfl) rfl
theorem q1419 : (Jvm.Cond.constantLong "DutyBeatsModel" (144 : Nat) (12468 : Int64)) ∈ lw_all := lw_g (lw_at lw_m6 100 rfl) rfl
theorem q1420 : (Jvm.Cond.methodLink "DutyBeatsModel" (123 : Nat) ({ cls := "DutyBeatsModel", name := "fails", desc := "(II)Z" } : Jvm.MethodName)) ∈ lw_all := lw_g (lw_at lw_m6 101 rfl) rfl
theorem q1421 : (Jvm.Cond.privateMethod ({ cls := "DutyBeatsModel", name := "fails", desc := "(II)Z" } : Jvm.MethodName)) ∈ lw_tbl := lw_at lw_m6 102 rfl
theorem q1422 : (Jvm.Cond.instanceMethod ({ cls := "DutyBeatsModel", name := "fails", desc := "(II)Z" } : Jvm.MethodName)) ∈ lw_all := lw_g (lw_at lw_m6 103 rfl) rfl
theorem q1423 : (Jvm.Cond.code ({ cls := "DutyBeatsModel", name := "fails", desc := "(II)Z" } : Jvm.MethodName) prog_19_method_8_code (3 : Nat) (Option.some Jvm.ClassFile.FieldType.boolean)) ∈ lw_all := lw_g (lw_at lw_m6 104 rfl) rfl
theorem q1424 : (Jvm.Cond.methodLink "DutyBeatsModel" (258 : Nat) ({ cls := "DutyBeatsModel", name := "junctionLineHere", desc := "(I)Z" } : Jvm.MethodName)) ∈ lw_all := lw_g (lw_at lw_m6 105 rfl) rfl
theorem q1425 : (Jvm.Cond.privateMethod ({ cls := "DutyBeatsModel", name := "junctionLineHere", desc := "(I)Z" } : Jvm.MethodName)) ∈ lw_tbl := lw_at lw_m6 106 rfl
theorem q1426 : (Jvm.Cond.instanceMethod ({ cls := "DutyBeatsModel", name := "junctionLineHere", desc := "(I)Z" } : Jvm.MethodName)) ∈ lw_all := lw_g (lw_at lw_m6 107 rfl) rfl
theorem q1427 : (Jvm.Cond.code ({ cls := "DutyBeatsModel", name := "junctionLineHere", desc := "(I)Z" } : Jvm.MethodName) prog_19_method_36_code (2 : Nat) (Option.some Jvm.ClassFile.FieldType.boolean)) ∈ lw_all := lw_g (lw_at lw_m6 108 rfl) rfl
theorem q1428 : (Jvm.Cond.methodLink "DutyBeatsModel" (236 : Nat) ({ cls := "DutyBeatsModel", name := "isJunctionHere", desc := "(I)Z" } : Jvm.MethodName)) ∈ lw_all := lw_g (lw_at lw_m6 109 rfl) rfl
theorem q1429 : (Jvm.Cond.privateMethod ({ cls := "DutyBeatsModel", name := "isJunctionHere", desc := "(I)Z" } : Jvm.MethodName)) ∈ lw_tbl := lw_at lw_m6 110 rfl
theorem q1430 : (Jvm.Cond.instanceMethod ({ cls := "DutyBeatsModel", name := "isJunctionHere", desc := "(I)Z" } : Jvm.MethodName)) ∈ lw_all := lw_g (lw_at lw_m6 111 rfl) rfl
theorem q1431 : (Jvm.Cond.code ({ cls := "DutyBeatsModel", name := "isJunctionHere", desc := "(I)Z" } : Jvm.MethodName) prog_19_method_32_code (2 : Nat) (Option.some Jvm.ClassFile.FieldType.boolean)) ∈ lw_all := lw_g (lw_at lw_m6 112 rfl) rfl
theorem q1432 : (Jvm.Cond.methodLink "DutyBeatsModel" (117 : Nat) ({ cls := "DutyBeatsModel", name := "passWord", desc := "()V" } : Jvm.MethodName)) ∈ lw_all := lw_g (lw_at lw_m6 113 rfl) rfl
theorem q1433 : (Jvm.Cond.privateMethod ({ cls := "DutyBeatsModel", name := "passWord", desc := "()V" } : Jvm.MethodName)) ∈ lw_tbl := lw_at lw_m6 114 rfl
theorem q1434 : (Jvm.Cond.instanceMethod ({ cls := "DutyBeatsModel", name := "passWord", desc := "()V" } : Jvm.MethodName)) ∈ lw_all := lw_g (lw_at lw_m6 115 rfl) rfl
theorem q1435 : (Jvm.Cond.code ({ cls := "DutyBeatsModel", name := "passWord", desc := "()V" } : Jvm.MethodName) prog_19_method_13_code (1 : Nat) (Option.none : Option Jvm.ClassFile.FieldType)) ∈ lw_all := lw_g (lw_at lw_m6 116 rfl) rfl
theorem q1436 : (Jvm.Cond.methodLink "DutyBeatsModel" (230 : Nat) ({ cls := "DutyBeatsModel", name := "cellHere", desc := "(III)Z" } : Jvm.MethodName)) ∈ lw_all := lw_g (lw_at lw_m6 117 rfl) rfl
theorem q1437 : (Jvm.Cond.privateMethod ({ cls := "DutyBeatsModel", name := "cellHere", desc := "(III)Z" } : Jvm.MethodName)) ∈ lw_tbl := lw_at lw_m6 118 rfl
theorem q1438 : (Jvm.Cond.instanceMethod ({ cls := "DutyBeatsModel", name := "cellHere", desc := "(III)Z" } : Jvm.MethodName)) ∈ lw_all := lw_g (lw_at lw_m6 119 rfl) rfl
theorem q1439 : (Jvm.Cond.code ({ cls := "DutyBeatsModel", name := "cellHere", desc := "(III)Z" } : Jvm.MethodName) prog_19_method_31_code (4 : Nat) (Option.some Jvm.ClassFile.FieldType.boolean)) ∈ lw_all := lw_g (lw_at lw_m6 120 rfl) rfl
theorem q1440 : (Jvm.Cond.methodLink "DutyBeatsModel" (179 : Nat) ({ cls := "DutyBeatsModel", name := "numberHere", desc := "(II)Z" } : Jvm.MethodName)) ∈ lw_all := lw_g (lw_at lw_m6 121 rfl) rfl
theorem q1441 : (Jvm.Cond.privateMethod ({ cls := "DutyBeatsModel", name := "numberHere", desc := "(II)Z" } : Jvm.MethodName)) ∈ lw_tbl := lw_at lw_m6 122 rfl
theorem q1442 : (Jvm.Cond.instanceMethod ({ cls := "DutyBeatsModel", name := "numberHere", desc := "(II)Z" } : Jvm.MethodName)) ∈ lw_all := lw_g (lw_at lw_m6 123 rfl) rfl
theorem q1443 : (Jvm.Cond.code ({ cls := "DutyBeatsModel", name := "numberHere", desc := "(II)Z" } : Jvm.MethodName) prog_19_method_15_code (5 : Nat) (Option.some Jvm.ClassFile.FieldType.boolean)) ∈ lw_all := lw_g (lw_at lw_m6 124 rfl) rfl
theorem q1444 : (Jvm.Cond.methodLink "DutyBeatsModel" (120 : Nat) ({ cls := "DutyBeatsModel", name := "isDigit", desc := "(I)Z" } : Jvm.MethodName)) ∈ lw_all := lw_g (lw_at lw_m6 125 rfl) rfl
theorem q1445 : (Jvm.Cond.privateMethod ({ cls := "DutyBeatsModel", name := "isDigit", desc := "(I)Z" } : Jvm.MethodName)) ∈ lw_tbl := lw_at lw_m6 126 rfl
theorem q1446 : (Jvm.Cond.instanceMethod ({ cls := "DutyBeatsModel", name := "isDigit", desc := "(I)Z" } : Jvm.MethodName)) ∈ lw_all := lw_g (lw_at lw_m6 127 rfl) rfl
theorem q1447 : (Jvm.Cond.code ({ cls := "DutyBeatsModel", name := "isDigit", desc := "(I)Z" } : Jvm.MethodName) prog_19_method_10_code (2 : Nat) (Option.some Jvm.ClassFile.FieldType.boolean)) ∈ lw_all := lw_g (lw_at lw_m6 128 rfl) rfl
theorem q1448 : (Jvm.Cond.methodLink "DutyBeatsModel" (130 : Nat) ({ cls := "DutyBeatsModel", name := "in", desc := "(JJJ)Z" } : Jvm.MethodName)) ∈ lw_all := lw_g (lw_at lw_m6 129 rfl) rfl
theorem q1449 : (Jvm.Cond.static ({ cls := "DutyBeatsModel", name := "in", desc := "(JJJ)Z" } : Jvm.MethodName)) ∈ lw_all := lw_g (lw_at lw_m6 130 rfl) rfl
theorem q1450 : (Jvm.Cond.code ({ cls := "DutyBeatsModel", name := "in", desc := "(JJJ)Z" } : Jvm.MethodName) prog_19_method_2_code (6 : Nat) (Option.some Jvm.ClassFile.FieldType.boolean)) ∈ lw_all := lw_g (lw_at lw_m6 131 rfl) rfl
theorem q1451 : (Jvm.Cond.methodLink "DutyBeatsModel" (239 : Nat) ({ cls := "DutyBeatsModel", name := "isRoadHere", desc := "(I)Z" } : Jvm.MethodName)) ∈ lw_all := lw_g (lw_at lw_m6 132 rfl) rfl
theorem q1452 : (Jvm.Cond.privateMethod ({ cls := "DutyBeatsModel", name := "isRoadHere", desc := "(I)Z" } : Jvm.MethodName)) ∈ lw_tbl := lw_at lw_m6 133 rfl
theorem q1453 : (Jvm.Cond.instanceMethod ({ cls := "DutyBeatsModel", name := "isRoadHere", desc := "(I)Z" } : Jvm.MethodName)) ∈ lw_all := lw_g (lw_at lw_m6 134 rfl) rfl
theorem q1454 : (Jvm.Cond.code ({ cls := "DutyBeatsModel", name := "isRoadHere", desc := "(I)Z" } : Jvm.MethodName) prog_19_method_33_code (3 : Nat) (Option.some Jvm.ClassFile.FieldType.boolean)) ∈ lw_all := lw_g (lw_at lw_m6 135 rfl) rfl
theorem q1455 : (Jvm.Cond.methodLink "DutyBeatsModel" (244 : Nat) ({ cls := "DutyBeatsModel", name := "isClashHere", desc := "()Z" } : Jvm.MethodName)) ∈ lw_all := lw_g (lw_at lw_m6 136 rfl) rfl
theorem q1456 : (Jvm.Cond.privateMethod ({ cls := "DutyBeatsModel", name := "isClashHere", desc := "()Z" } : Jvm.MethodName)) ∈ lw_tbl := lw_at lw_m6 137 rfl
theorem q1457 : (Jvm.Cond.instanceMethod ({ cls := "DutyBeatsModel", name := "isClashHere", desc := "()Z" } : Jvm.MethodName)) ∈ lw_all := lw_g (lw_at lw_m6 138 rfl) rfl
theorem q1458 : (Jvm.Cond.code ({ cls := "DutyBeatsModel", name := "isClashHere", desc := "()Z" } : Jvm.MethodName) prog_19_method_34_code (3 : Nat) (Option.some Jvm.ClassFile.FieldType.boolean)) ∈ lw_all := lw_g (lw_at lw_m6 139 rfl) rfl
theorem q1459 : (Jvm.Cond.methodLink "DutyBeatsModel" (247 : Nat) ({ cls := "DutyBeatsModel", name := "isScoreHere", desc := "()Z" } : Jvm.MethodName)) ∈ lw_all := lw_g (lw_at lw_m6 140 rfl) rfl
theorem q1460 : (Jvm.Cond.privateMethod ({ cls := "DutyBeatsModel", name := "isScoreHere", desc := "()Z" } : Jvm.MethodName)) ∈ lw_tbl := lw_at lw_m6 141 rfl
theorem q1461 : (Jvm.Cond.instanceMethod ({ cls := "DutyBeatsModel", name := "isScoreHere", desc := "()Z" } : Jvm.MethodName)) ∈ lw_all := lw_g (lw_at lw_m6 142 rfl) rfl
theorem q1462 : (Jvm.Cond.code ({ cls := "DutyBeatsModel", name := "isScoreHere", desc := "()Z" } : Jvm.MethodName) prog_19_method_35_code (2 : Nat) (Option.some Jvm.ClassFile.FieldType.boolean)) ∈ lw_all := lw_g (lw_at lw_m6 143 rfl) rfl
theorem q1463 : (Jvm.Cond.methodLink "DutyBeatsModel" (261 : Nat) ({ cls := "DutyBeatsModel", name := "isLetHere", desc := "()Z" } : Jvm.MethodName)) ∈ lw_all := lw_g (lw_at lw_m6 144 rfl) rfl
theorem q1464 : (Jvm.Cond.privateMethod ({ cls := "DutyBeatsModel", name := "isLetHere", desc := "()Z" } : Jvm.MethodName)) ∈ lw_tbl := lw_at lw_m6 145 rfl
theorem q1465 : (Jvm.Cond.instanceMethod ({ cls := "DutyBeatsModel", name := "isLetHere", desc := "()Z" } : Jvm.MethodName)) ∈ lw_all := lw_g (lw_at lw_m6 146 rfl) rfl
theorem q1466 : (Jvm.Cond.code ({ cls := "DutyBeatsModel", name := "isLetHere", desc := "()Z" } : Jvm.MethodName) prog_19_method_30_code (2 : Nat) (Option.some Jvm.ClassFile.FieldType.boolean)) ∈ lw_all := lw_g (lw_at lw_m6 147 rfl) rfl
theorem q1467 : (Jvm.Cond.methodLink "DutyBeatsModel" (195 : Nat) ({ cls := "DutyBeatsModel", name := "sum", desc := "()Z" } : Jvm.MethodName)) ∈ lw_all := lw_g (lw_at lw_m6 148 rfl) rfl
theorem q1468 : (Jvm.Cond.privateMethod ({ cls := "DutyBeatsModel", name := "sum", desc := "()Z" } : Jvm.MethodName)) ∈ lw_tbl := lw_at lw_m6 149 rfl
theorem q1469 : (Jvm.Cond.instanceMethod ({ cls := "DutyBeatsModel", name := "sum", desc := "()Z" } : Jvm.MethodName)) ∈ lw_all := lw_g (lw_at lw_m6 150 rfl) rfl
theorem q1470 : (Jvm.Cond.code ({ cls := "DutyBeatsModel", name := "sum", desc := "()Z" } : Jvm.MethodName) prog_19_method_24_code (2 : Nat) (Option.some Jvm.ClassFile.FieldType.boolean)) ∈ lw_all := lw_g (lw_at lw_m6 151 rfl) rfl
theorem q1471 : (Jvm.Cond.methodLink "DutyBeatsModel" (192 : Nat) ({ cls := "DutyBeatsModel", name := "term", desc := "()Z" } : Jvm.MethodName)) ∈ lw_all := lw_g (lw_at lw_m6 152 rfl) rfl
theorem q1472 : (Jvm.Cond.privateMethod ({ cls := "DutyBeatsModel", name := "term", desc := "()Z" } : Jvm.MethodName)) ∈ lw_tbl := lw_at lw_m6 153 rfl
theorem q1473 : (Jvm.Cond.instanceMethod ({ cls := "DutyBeatsModel", name := "term", desc := "()Z" } : Jvm.MethodName)) ∈ lw_all := lw_g (lw_at lw_m6 154 rfl) rfl
theorem q1474 : (Jvm.Cond.code ({ cls := "DutyBeatsModel", name := "term", desc := "()Z" } : Jvm.MethodName) prog_19_method_23_code (2 : Nat) (Option.some Jvm.ClassFile.FieldType.boolean)) ∈ lw_all := lw_g (lw_at lw_m6 155 rfl) rfl
theorem q1475 : (Jvm.Cond.methodLink "DutyBeatsModel" (188 : Nat) ({ cls := "DutyBeatsModel", name := "value", desc := "()Z" } : Jvm.MethodName)) ∈ lw_all := lw_g (lw_at lw_m6 156 rfl) rfl
theorem q1476 : (Jvm.Cond.privateMethod ({ cls := "DutyBeatsModel", name := "value", desc := "()Z" } : Jvm.MethodName)) ∈ lw_tbl := lw_at lw_m6 157 rfl
theorem q1477 : (Jvm.Cond.instanceMethod ({ cls := "DutyBeatsModel", name := "value", desc := "()Z" } : Jvm.MethodName)) ∈ lw_all := lw_g (lw_at lw_m6 158 rfl) rfl
theorem q1478 : (Jvm.Cond.code ({ cls := "DutyBeatsModel", name := "value", desc := "()Z" } : Jvm.MethodName) prog_19_method_22_code (3 : Nat) (Option.some Jvm.ClassFile.FieldType.boolean)) ∈ lw_all := lw_g (lw_at lw_m6 159 rfl) rfl
theorem q1479 : (Jvm.Cond.constant "DutyBeatsModel" (178 : Nat) (99999 : Int32)) ∈ lw_all := lw_g (lw_at lw_m6 160 rfl) rfl
theorem q1480 : (Jvm.Cond.methodLink "DutyBeatsModel" (182 : Nat) ({ cls := "DutyBeatsModel", name := "makes", desc := "(I)Z" } : Jvm.MethodName)) ∈ lw_all := lw_g (lw_at lw_m6 161 rfl) rfl
theorem q1481 : (Jvm.Cond.privateMethod ({ cls := "DutyBeatsModel", name := "makes", desc := "(I)Z" } : Jvm.MethodName)) ∈ lw_tbl := lw_at lw_m6 162 rfl
theorem q1482 : (Jvm.Cond.instanceMethod ({ cls := "DutyBeatsModel", name := "makes", desc := "(I)Z" } : Jvm.MethodName)) ∈ lw_all := lw_g (lw_at lw_m6 163 rfl) rfl
theorem q1483 : (Jvm.Cond.code ({ cls := "DutyBeatsModel", name := "makes", desc := "(I)Z" } : Jvm.MethodName) prog_19_method_18_code (2 : Nat) (Option.some Jvm.ClassFile.FieldType.boolean)) ∈ lw_all := lw_g (lw_at lw_m6 164 rfl) rfl
theorem q1484 : (Jvm.Cond.methodLink "DutyBeatsModel" (174 : Nat) ({ cls := "DutyBeatsModel", name := "puts", desc := "(II)V" } : Jvm.MethodName)) ∈ lw_all := lw_g (lw_at lw_m6 165 rfl) rfl
theorem q1485 : (Jvm.Cond.privateMethod ({ cls := "DutyBeatsModel", name := "puts", desc := "(II)V" } : Jvm.MethodName)) ∈ lw_tbl := lw_at lw_m6 166 rfl
theorem q1486 : (Jvm.Cond.instanceMethod ({ cls := "DutyBeatsModel", name := "puts", desc := "(II)V" } : Jvm.MethodName)) ∈ lw_all := lw_g (lw_at lw_m6 167 rfl) rfl
theorem q1487 : (Jvm.Cond.code ({ cls := "DutyBeatsModel", name := "puts", desc := "(II)V" } : Jvm.MethodName) prog_19_method_17_code (3 : Nat) (Option.none : Option Jvm.ClassFile.FieldType)) ∈ lw_all := lw_g (lw_at lw_m6 168 rfl) rfl
theorem q1488 : (Jvm.Cond.methodLink "DutyBeatsModel" (185 : Nat) ({ cls := "DutyBeatsModel", name := "wordHere", desc := "()I" } : Jvm.MethodName)) ∈ lw_all := lw_g (lw_at lw_m6 169 rfl) rfl
theorem q1489 : (Jvm.Cond.privateMethod ({ cls := "DutyBeatsModel", name := "wordHere", desc := "()I" } : Jvm.MethodName)) ∈ lw_tbl := lw_at lw_m6 170 rfl
theorem q1490 : (Jvm.Cond.instanceMethod ({ cls := "DutyBeatsModel", name := "wordHere", desc := "()I" } : Jvm.MethodName)) ∈ lw_all := lw_g (lw_at lw_m6 171 rfl) rfl
theorem q1491 : (Jvm.Cond.code ({ cls := "DutyBeatsModel", name := "wordHere", desc := "()I" } : Jvm.MethodName) prog_19_method_16_code (1 : Nat) (Option.some Jvm.ClassFile.FieldType.int)) ∈ lw_all := lw_g (lw_at lw_m6 172 rfl) rfl
theorem q1492 : (Jvm.Cond.constantLong "DutyBeatsModel" (136 : Nat) (754996 : Int64)) ∈ lw_all := lw_g (lw_at lw_m6 173 rfl) rfl
theorem q1493 : (Jvm.Cond.constantLong "DutyBeatsModel" (138 : Nat) (5969497 : Int64)) ∈ lw_all := lw_g (lw_at lw_m6 174 rfl) rfl
theorem q1494 : (Jvm.Cond.constantLong "DutyBeatsModel" (140 : Nat) (525908 : Int64)) ∈ lw_all := lw_g (lw_at lw_m6 175 rfl) rfl
theorem q1495 : (Jvm.Cond.constantLong "DutyBeatsModel" (142 : Nat) (641190052 : Int64)) ∈ lw_all := lw_g (lw_at lw_m6 176 rfl) rfl
theorem q1496 : (Jvm.Cond.constantLong "DutyBeatsModel" (146 : Nat) (20436420 : Int64)) ∈ lw_all := lw_g (lw_at lw_m6 177 rfl) rfl
theorem q1497 : (Jvm.Cond.constantLong "DutyBeatsModel" (148 : Nat) (20232293 : Int64)) ∈ lw_all := lw_g (lw_at lw_m6 178 rfl) rfl
theorem q1498 : (Jvm.Cond.constantLong "DutyBeatsModel" (150 : Nat) (759252 : Int64)) ∈ lw_all := lw_g (lw_at lw_m6 179 rfl) rfl
theorem q1499 : (Jvm.Cond.constantLong "DutyBeatsModel" (152 : Nat) (1420 : Int64)) ∈ lw_all := lw_g (lw_at lw_m6 180 rfl) rfl
theorem q1500 : (Jvm.Cond.constantLong "DutyBeatsModel" (154 : Nat) (70708 : Int64)) ∈ lw_all := lw_g (lw_at lw_m6 181 rfl) rfl
theorem q1501 : (Jvm.Cond.constantLong "DutyBeatsModel" (156 : Nat) (278194 : Int64)) ∈ lw_all := lw_g (lw_at lw_m6 182 rfl) rfl
theorem q1502 : (Jvm.Cond.constantLong "DutyBeatsModel" (222 : Nat) (294 : Int64)) ∈ lw_all := lw_g (lw_at lw_m6 183 rfl) rfl
theorem q1503 : (Jvm.Cond.methodLink "DutyBeatsModel" (224 : Nat) ({ cls := "DutyBeatsModel", name := "takesWord", desc := "(J)Z" } : Jvm.MethodName)) ∈ lw_all := lw_g (lw_at lw_m6 184 rfl) rfl
theorem q1504 : (Jvm.Cond.privateMethod ({ cls := "DutyBeatsModel", name := "takesWord", desc := "(J)Z" } : Jvm.MethodName)) ∈ lw_tbl := lw_at lw_m6 185 rfl
theorem q1505 : (Jvm.Cond.instanceMethod ({ cls := "DutyBeatsModel", name := "takesWord", desc := "(J)Z" } : Jvm.MethodName)) ∈ lw_all := lw_g (lw_at lw_m6 186 rfl) rfl
theorem q1506 : (Jvm.Cond.code ({ cls := "DutyBeatsModel", name := "takesWord", desc := "(J)Z" } : Jvm.MethodName) prog_19_method_14_code (3 : Nat) (Option.some Jvm.ClassFile.FieldType.boolean)) ∈ lw_all := lw_g (lw_at lw_m6 187 rfl) rfl
theorem q1507 : (Jvm.Cond.methodLink "DutyBeatsModel" (227 : Nat) ({ cls := "DutyBeatsModel", name := "tested", desc := "()Z" } : Jvm.MethodName)) ∈ lw_all := lw_g (lw_at lw_m6 188 rfl) rfl
theorem q1508 : (Jvm.Cond.privateMethod ({ cls := "DutyBeatsModel", name := "tested", desc := "()Z" } : Jvm.MethodName)) ∈ lw_tbl := lw_at lw_m6 189 rfl
theorem q1509 : (Jvm.Cond.instanceMethod ({ cls := "DutyBeatsModel", name := "tested", desc := "()Z" } : Jvm.MethodName)) ∈ lw_all := lw_g (lw_at lw_m6 190 rfl) rfl
theorem q1510 : (Jvm.Cond.code ({ cls := "DutyBeatsModel", name := "tested", desc := "()Z" } : Jvm.MethodName) prog_19_method_29_code (3 : Nat) (Option.some Jvm.ClassFile.FieldType.boolean)) ∈ lw_all := lw_g (lw_at lw_m6 191 rfl) rfl
theorem q1511 : (Jvm.Cond.methodLink "DutyBeatsModel" (212 : Nat) ({ cls := "DutyBeatsModel", name := "fact", desc := "()Z" } : Jvm.MethodName)) ∈ lw_all := lw_g (lw_at lw_m6 192 rfl) rfl
theorem q1512 : (Jvm.Cond.privateMethod ({ cls := "DutyBeatsModel", name := "fact", desc := "()Z" } : Jvm.MethodName)) ∈ lw_tbl := lw_at lw_m6 193 rfl
theorem q1513 : (Jvm.Cond.instanceMethod ({ cls := "DutyBeatsModel", name := "fact", desc := "()Z" } : Jvm.MethodName)) ∈ lw_all := lw_g (lw_at lw_m6 194 rfl) rfl
theorem q1514 : (Jvm.Cond.code ({ cls := "DutyBeatsModel", name := "fact", desc := "()Z" } : Jvm.MethodName) prog_19_method_26_code (3 : Nat) (Option.some Jvm.ClassFile.FieldType.boolean)) ∈ lw_all := lw_g (lw_at lw_m6 195 rfl) rfl
theorem q1515 : (Jvm.Cond.constantLong "DutyBeatsModel" (198 : Nat) (14836 : Int64)) ∈ lw_all := lw_g (lw_at lw_m6 196 rfl) rfl
theorem q1516 : (Jvm.Cond.methodLink "DutyBeatsModel" (200 : Nat) ({ cls := "DutyBeatsModel", name := "opens", desc := "(I)Z" } : Jvm.MethodName)) ∈ lw_all := lw_g (lw_at lw_m6 197 rfl) rfl
theorem q1517 : (Jvm.Cond.privateMethod ({ cls := "DutyBeatsModel", name := "opens", desc := "(I)Z" } : Jvm.MethodName)) ∈ lw_tbl := lw_at lw_m6 198 rfl
theorem q1518 : (Jvm.Cond.instanceMethod ({ cls := "DutyBeatsModel", name := "opens", desc := "(I)Z" } : Jvm.MethodName)) ∈ lw_all := lw_g (lw_at lw_m6 199 rfl) rfl
theorem q1519 : (Jvm.Cond.code ({ cls := "DutyBeatsModel", name := "opens", desc := "(I)Z" } : Jvm.MethodName) prog_19_method_19_code (2 : Nat) (Option.some Jvm.ClassFile.FieldType.boolean)) ∈ lw_all := lw_g (lw_at lw_m6 200 rfl) rfl
theorem q1520 : (Jvm.Cond.methodLink "DutyBeatsModel" (203 : Nat) ({ cls := "DutyBeatsModel", name := "compare", desc := "()Z" } : Jvm.MethodName)) ∈ lw_all := lw_g (lw_at lw_m6 201 rfl) rfl
theorem q1521 : (Jvm.Cond.privateMethod ({ cls := "DutyBeatsModel", name := "compare", desc := "()Z" } : Jvm.MethodName)) ∈ lw_tbl := lw_at lw_m6 202 rfl
theorem q1522 : (Jvm.Cond.instanceMethod ({ cls := "DutyBeatsModel", name := "compare", desc := "()Z" } : Jvm.MethodName)) ∈ lw_all := lw_g (lw_at lw_m6 203 rfl) rfl
theorem q1523 : (Jvm.Cond.code ({ cls := "DutyBeatsModel", name := "compare", desc := "()Z" } : Jvm.MethodName) prog_19_method_25_code (5 : Nat) (Option.some Jvm.ClassFile.FieldType.boolean)) ∈ lw_all := lw_g (lw_at lw_m6 204 rfl) rfl
theorem q1524 : (Jvm.Cond.methodLink "DutyBeatsModel" (215 : Nat) ({ cls := "DutyBeatsModel", name := "closes", desc := "()V" } : Jvm.MethodName)) ∈ lw_all := lw_g (lw_at lw_m6 205 rfl) rfl
theorem q1525 : (Jvm.Cond.privateMethod ({ cls := "DutyBeatsModel", name := "closes", desc := "()V" } : Jvm.MethodName)) ∈ lw_tbl := lw_at lw_m6 206 rfl
theorem q1526 : (Jvm.Cond.instanceMethod ({ cls := "DutyBeatsModel", name := "closes", desc := "()V" } : Jvm.MethodName)) ∈ lw_all := lw_g (lw_at lw_m6 207 rfl) rfl
theorem q1527 : (Jvm.Cond.code ({ cls := "DutyBeatsModel", name := "closes", desc := "()V" } : Jvm.MethodName) prog_19_method_28_code (1 : Nat) (Option.none : Option Jvm.ClassFile.FieldType)) ∈ lw_all := lw_g (lw_at lw_m6 208 rfl) rfl
theorem q1528 : (Jvm.Cond.methodLink "DutyBeatsModel" (206 : Nat) ({ cls := "DutyBeatsModel", name := "layDown", desc := "(I)V" } : Jvm.MethodName)) ∈ lw_all := lw_g (lw_at lw_m6 209 rfl) rfl
theorem q1529 : (Jvm.Cond.privateMethod ({ cls := "DutyBeatsModel", name := "layDown", desc := "(I)V" } : Jvm.MethodName)) ∈ lw_tbl := lw_at lw_m6 210 rfl
theorem q1530 : (Jvm.Cond.instanceMethod ({ cls := "DutyBeatsModel", name := "layDown", desc := "(I)V" } : Jvm.MethodName)) ∈ lw_all := lw_g (lw_at lw_m6 211 rfl) rfl
theorem q1531 : (Jvm.Cond.code ({ cls := "DutyBeatsModel", name := "layDown", desc := "(I)V" } : Jvm.MethodName) prog_19_method_21_code (2 : Nat) (Option.none : Option Jvm.ClassFile.FieldType)) ∈ lw_all := lw_g (lw_at lw_m6 212 rfl) rfl
theorem q1532 : (Jvm.Cond.methodLink "DutyBeatsModel" (170 : Nat) ({ cls := "DutyBeatsModel", name := "strength", desc := "(I)I" } : Jvm.MethodName)) ∈ lw_all := lw_g (lw_at lw_m6 213 rfl) rfl
theorem q1533 : (Jvm.Cond.static ({ cls := "DutyBeatsModel", name := "strength", desc := "(I)I" } : Jvm.MethodName)) ∈ lw_all := lw_g (lw_at lw_m6 214 rfl) rfl
theorem q1534 : (Jvm.Cond.code ({ cls := "DutyBeatsModel", name := "strength", desc := "(I)I" } : Jvm.MethodName) prog_19_method_20_code (1 : Nat) (Option.some Jvm.ClassFile.FieldType.int)) ∈ lw_all := lw_g (lw_at lw_m6 215 rfl) rfl
theorem q1535 : (Jvm.Cond.methodLink "DutyBeatsModel" (209 : Nat) ({ cls := "DutyBeatsModel", name := "isInside", desc := "()Z" } : Jvm.MethodName)) ∈ lw_all := lw_g (lw_at lw_m6 216 rfl) rfl
theorem q1536 : (Jvm.Cond.privateMethod ({ cls := "DutyBeatsModel", name := "isInside", desc := "()Z" } : Jvm.MethodName)) ∈ lw_tbl := lw_at lw_m6 217 rfl
theorem q1537 : (Jvm.Cond.instanceMethod ({ cls := "DutyBeatsModel", name := "isInside", desc := "()Z" } : Jvm.MethodName)) ∈ lw_all := lw_g (lw_at lw_m6 218 rfl) rfl
theorem q1538 : (Jvm.Cond.code ({ cls := "DutyBeatsModel", name := "isInside", desc := "()Z" } : Jvm.MethodName) prog_19_method_27_code (2 : Nat) (Option.some Jvm.ClassFile.FieldType.boolean)) ∈ lw_all := lw_g (lw_at lw_m6 219 rfl) rfl
theorem q1539 : (Jvm.Cond.constantLong "DutyBeatsModel" (218 : Nat) (1476 : Int64)) ∈ lw_all := lw_g (lw_at lw_m6 220 rfl) rfl
theorem q1540 : (Jvm.Cond.constantLong "DutyBeatsModel" (220 : Nat) (498 : Int64)) ∈ lw_all := lw_g (lw_at lw_m6 221 rfl) rfl
theorem q1542 : (Jvm.Cond.instanceMethod ({ cls := "DutyBeatsModel", name := "junction", desc := "()I" } : Jvm.MethodName)) ∈ lw_all := lw_g (lw_at lw_m6 223 rfl) rfl
theorem q1543 : (Jvm.Cond.selects "DutyBeatsModel" ({ cls := "DutyBeatsModel", name := "junction", desc := "()I" } : Jvm.MethodName) ({ cls := "DutyBeatsModel", name := "junction", desc := "()I" } : Jvm.MethodName)) ∈ lw_all := lw_g (lw_at lw_m6 224 rfl) rfl
theorem q1544 : (Jvm.Cond.code ({ cls := "DutyBeatsModel", name := "junction", desc := "()I" } : Jvm.MethodName) prog_19_method_41_code (2 : Nat) (Option.some Jvm.ClassFile.FieldType.int)) ∈ lw_all := lw_g (lw_at lw_m6 225 rfl) rfl
theorem q1545 : (Jvm.Cond.methodLink "DutyBeatsModel" (273 : Nat) ({ cls := "DutyBeatsModel", name := "begins", desc := "()V" } : Jvm.MethodName)) ∈ lw_all := lw_g (lw_at lw_m6 226 rfl) rfl
theorem q1546 : (Jvm.Cond.privateMethod ({ cls := "DutyBeatsModel", name := "begins", desc := "()V" } : Jvm.MethodName)) ∈ lw_tbl := lw_at lw_m6 227 rfl
theorem q1547 : (Jvm.Cond.instanceMethod ({ cls := "DutyBeatsModel", name := "begins", desc := "()V" } : Jvm.MethodName)) ∈ lw_all := lw_g (lw_at lw_m6 228 rfl) rfl
theorem q1548 : (Jvm.Cond.code ({ cls := "DutyBeatsModel", name := "begins", desc := "()V" } : Jvm.MethodName) prog_19_method_59_code (3 : Nat) (Option.none : Option Jvm.ClassFile.FieldType)) ∈ lw_all := lw_g (lw_at lw_m6 229 rfl) rfl
theorem q1550 : (Jvm.Cond.instanceMethod ({ cls := "DutyBeatsModel", name := "force", desc := "(I)I" } : Jvm.MethodName)) ∈ lw_all := lw_g (lw_at lw_m6 231 rfl) rfl
theorem q1551 : (Jvm.Cond.selects "DutyBeatsModel" ({ cls := "DutyBeatsModel", name := "force", desc := "(I)I" } : Jvm.MethodName) ({ cls := "DutyBeatsModel", name := "force", desc := "(I)I" } : Jvm.MethodName)) ∈ lw_all := lw_g (lw_at lw_m6 232 rfl) rfl
theorem q1552 : (Jvm.Cond.code ({ cls := "DutyBeatsModel", name := "force", desc := "(I)I" } : Jvm.MethodName) prog_19_method_60_code (3 : Nat) (Option.some Jvm.ClassFile.FieldType.int)) ∈ lw_all := lw_g (lw_at lw_m6 233 rfl) rfl
theorem q1553 : (Jvm.Cond.methodLink "DutyBeatsModel" (306 : Nat) ({ cls := "DutyBeatsModel", name := "isRule", desc := "(I)Z" } : Jvm.MethodName)) ∈ lw_all := lw_g (lw_at lw_m6 234 rfl) rfl
theorem q1554 : (Jvm.Cond.privateMethod ({ cls := "DutyBeatsModel", name := "isRule", desc := "(I)Z" } : Jvm.MethodName)) ∈ lw_tbl := lw_at lw_m6 235 rfl
theorem q1555 : (Jvm.Cond.instanceMethod ({ cls := "DutyBeatsModel", name := "isRule", desc := "(I)Z" } : Jvm.MethodName)) ∈ lw_all := lw_g (lw_at lw_m6 236 rfl) rfl
theorem q1556 : (Jvm.Cond.code ({ cls := "DutyBeatsModel", name := "isRule", desc := "(I)Z" } : Jvm.MethodName) prog_19_method_42_code (2 : Nat) (Option.some Jvm.ClassFile.FieldType.boolean)) ∈ lw_all := lw_g (lw_at lw_m6 237 rfl) rfl
theorem q1558 : (Jvm.Cond.instanceMethod ({ cls := "DutyBeatsModel", name := "road", desc := "(II)I" } : Jvm.MethodName)) ∈ lw_all := lw_g (lw_at lw_m6 239 rfl) rfl
theorem q1559 : (Jvm.Cond.selects "DutyBeatsModel" ({ cls := "DutyBeatsModel", name := "road", desc := "(II)I" } : Jvm.MethodName) ({ cls := "DutyBeatsModel", name := "road", desc := "(II)I" } : Jvm.MethodName)) ∈ lw_all := lw_g (lw_at lw_m7 0 rfl) rfl
theorem q1560 : (Jvm.Cond.code ({ cls := "DutyBeatsModel", name := "road", desc := "(II)I" } : Jvm.MethodName) prog_19_method_61_code (3 : Nat) (Option.some Jvm.ClassFile.FieldType.int)) ∈ lw_all := lw_g (lw_at lw_m7 1 rfl) rfl
theorem q1561 : (Jvm.Cond.methodLink "DutyBeatsModel" (309 : Nat) ({ cls := "DutyBeatsModel", name := "isRoad", desc := "(I)Z" } : Jvm.MethodName)) ∈ lw_all := lw_g (lw_at lw_m7 2 rfl) rfl
theorem q1562 : (Jvm.Cond.privateMethod ({ cls := "DutyBeatsModel", name := "isRoad", desc := "(I)Z" } : Jvm.MethodName)) ∈ lw_tbl := lw_at lw_m7 3 rfl
theorem q1563 : (Jvm.Cond.instanceMethod ({ cls := "DutyBeatsModel", name := "isRoad", desc := "(I)Z" } : Jvm.MethodName)) ∈ lw_all := lw_g (lw_at lw_m7 4 rfl) rfl
theorem q1564 : (Jvm.Cond.code ({ cls := "DutyBeatsModel", name := "isRoad", desc := "(I)Z" } : Jvm.MethodName) prog_19_method_48_code (2 : Nat) (Option.some Jvm.ClassFile.FieldType.boolean)) ∈ lw_all := lw_g (lw_at lw_m7 5 rfl) rfl
theorem q1565 : (Jvm.Cond.methodLink "DutyBeatsModel" (312 : Nat) ({ cls := "DutyBeatsModel", name := "waitOn", desc := "(I)I" } : Jvm.MethodName)) ∈ lw_all := lw_g (lw_at lw_m7 6 rfl) rfl
theorem q1566 : (Jvm.Cond.privateMethod ({ cls := "DutyBeatsModel", name := "waitOn", desc := "(I)I" } : Jvm.MethodName)) ∈ lw_tbl := lw_at lw_m7 7 rfl
theorem q1567 : (Jvm.Cond.instanceMethod ({ cls := "DutyBeatsModel", name := "waitOn", desc := "(I)I" } : Jvm.MethodName)) ∈ lw_all := lw_g (lw_at lw_m7 8 rfl) rfl
theorem q1568 : (Jvm.Cond.code ({ cls := "DutyBeatsModel", name := "waitOn", desc := "(I)I" } : Jvm.MethodName) prog_19_method_49_code (2 : Nat) (Option.some Jvm.ClassFile.FieldType.int)) ∈ lw_all := lw_g (lw_at lw_m7 9 rfl) rfl
theorem q1569 : (Jvm.Cond.methodLink "DutyBeatsModel" (300 : Nat) ({ cls := "DutyBeatsModel", name := "partOf", desc := "(I)I" } : Jvm.MethodName)) ∈ lw_all := lw_g (lw_at lw_m7 10 rfl) rfl
theorem q1570 : (Jvm.Cond.privateMethod ({ cls := "DutyBeatsModel", name := "partOf", desc := "(I)I" } : Jvm.MethodName)) ∈ lw_tbl := lw_at lw_m7 11 rfl
theorem q1571 : (Jvm.Cond.instanceMethod ({ cls := "DutyBeatsModel", name := "partOf", desc := "(I)I" } : Jvm.MethodName)) ∈ lw_all := lw_g (lw_at lw_m7 12 rfl) rfl
theorem q1572 : (Jvm.Cond.code ({ cls := "DutyBeatsModel", name := "partOf", desc := "(I)I" } : Jvm.MethodName) prog_19_method_50_code (2 : Nat) (Option.some Jvm.ClassFile.FieldType.int)) ∈ lw_all := lw_g (lw_at lw_m7 13 rfl) rfl
theorem q1573 : (Jvm.Cond.methodLink "DutyBeatsModel" (315 : Nat) ({ cls := "DutyBeatsModel", name := "wentFrom", desc := "(I)I" } : Jvm.MethodName)) ∈ lw_all := lw_g (lw_at lw_m7 14 rfl) rfl
theorem q1574 : (Jvm.Cond.privateMethod ({ cls := "DutyBeatsModel", name := "wentFrom", desc := "(I)I" } : Jvm.MethodName)) ∈ lw_tbl := lw_at lw_m7 15 rfl
theorem q1575 : (Jvm.Cond.instanceMethod ({ cls := "DutyBeatsModel", name := "wentFrom", desc := "(I)I" } : Jvm.MethodName)) ∈ lw_all := lw_g (lw_at lw_m7 16 rfl) rfl
theorem q1576 : (Jvm.Cond.code ({ cls := "DutyBeatsModel", name := "wentFrom", desc := "(I)I" } : Jvm.MethodName) prog_19_method_51_code (2 : Nat) (Option.some Jvm.ClassFile.FieldType.int)) ∈ lw_all := lw_g (lw_at lw_m7 17 rfl) rfl
theorem q1577 : (Jvm.Cond.methodLink "DutyBeatsModel" (318 : Nat) ({ cls := "DutyBeatsModel", name := "waitedOn", desc := "(I)I" } : Jvm.MethodName)) ∈ lw_all := lw_g (lw_at lw_m7 18 rfl) rfl
theorem q1578 : (Jvm.Cond.privateMethod ({ cls := "DutyBeatsModel", name := "waitedOn", desc := "(I)I" } : Jvm.MethodName)) ∈ lw_tbl := lw_at lw_m7 19 rfl
theorem q1579 : (Jvm.Cond.instanceMethod ({ cls := "DutyBeatsModel", name := "waitedOn", desc := "(I)I" } : Jvm.MethodName)) ∈ lw_all := lw_g (lw_at lw_m7 20 rfl) rfl
theorem q1580 : (Jvm.Cond.code ({ cls := "DutyBeatsModel", name := "waitedOn", desc := "(I)I" } : Jvm.MethodName) prog_19_method_52_code (2 : Nat) (Option.some Jvm.ClassFile.FieldType.int)) ∈ lw_all := lw_g (lw_at lw_m7 21 rfl) rfl
theorem q1581 : (Jvm.Cond.methodLink "DutyBeatsModel" (321 : Nat) ({ cls := "DutyBeatsModel", name := "sinceOf", desc := "(I)I" } : Jvm.MethodName)) ∈ lw_all := lw_g (lw_at lw_m7 22 rfl) rfl
theorem q1582 : (Jvm.Cond.privateMethod ({ cls := "DutyBeatsModel", name := "sinceOf", desc := "(I)I" } : Jvm.MethodName)) ∈ lw_tbl := lw_at lw_m7 23 rfl
theorem q1583 : (Jvm.Cond.instanceMethod ({ cls := "DutyBeatsModel", name := "sinceOf", desc := "(I)I" } : Jvm.MethodName)) ∈ lw_all := lw_g (lw_at lw_m7 24 rfl) rfl
theorem q1584 : (Jvm.Cond.code ({ cls := "DutyBeatsModel", name := "sinceOf", desc := "(I)I" } : Jvm.MethodName) prog_19_method_53_code (4 : Nat) (Option.some Jvm.ClassFile.FieldType.int)) ∈ lw_all := lw_g (lw_at lw_m7 25 rfl) rfl
theorem q1586 : (Jvm.Cond.instanceMethod ({ cls := "DutyBeatsModel", name := "scored", desc := "(I)I" } : Jvm.MethodName)) ∈ lw_all := lw_g (lw_at lw_m7 27 rfl) rfl
theorem q1587 : (Jvm.Cond.selects "DutyBeatsModel" ({ cls := "DutyBeatsModel", name := "scored", desc := "(I)I" } : Jvm.MethodName) ({ cls := "DutyBeatsModel", name := "scored", desc := "(I)I" } : Jvm.MethodName)) ∈ lw_all := lw_g (lw_at lw_m7 28 rfl) rfl
theorem q1588 : (Jvm.Cond.code ({ cls := "DutyBeatsModel", name := "scored", desc := "(I)I" } : Jvm.MethodName) prog_19_method_63_code (2 : Nat) (Option.some Jvm.ClassFile.FieldType.int)) ∈ lw_all := lw_g (lw_at lw_m7 29 rfl) rfl
theorem q1589 : (Jvm.Cond.methodLink "DutyBeatsModel" (324 : Nat) ({ cls := "DutyBeatsModel", name := "isBeat", desc := "(I)Z" } : Jvm.MethodName)) ∈ lw_all := lw_g (lw_at lw_m7 30 rfl) rfl
theorem q1590 : (Jvm.Cond.privateMethod ({ cls := "DutyBeatsModel", name := "isBeat", desc := "(I)Z" } : Jvm.MethodName)) ∈ lw_tbl := lw_at lw_m7 31 rfl
theorem q1591 : (Jvm.Cond.instanceMethod ({ cls := "DutyBeatsModel", name := "isBeat", desc := "(I)Z" } : Jvm.MethodName)) ∈ lw_all := lw_g (lw_at lw_m7 32 rfl) rfl
theorem q1592 : (Jvm.Cond.code ({ cls := "DutyBeatsModel", name := "isBeat", desc := "(I)Z" } : Jvm.MethodName) prog_19_method_62_code (2 : Nat) (Option.some Jvm.ClassFile.FieldType.boolean)) ∈ lw_all := lw_g (lw_at lw_m7 33 rfl) rfl
theorem q1593 : (Jvm.Cond.methodLink "DutyBeatsModel" (294 : Nat) ({ cls := "DutyBeatsModel", name := "isJunction", desc := "()Z" } : Jvm.MethodName)) ∈ lw_all := lw_g (lw_at lw_m7 34 rfl) rfl
theorem q1594 : (Jvm.Cond.privateMethod ({ cls := "DutyBeatsModel", name := "isJunction", desc := "()Z" } : Jvm.MethodName)) ∈ lw_tbl := lw_at lw_m7 35 rfl
theorem q1595 : (Jvm.Cond.instanceMethod ({ cls := "DutyBeatsModel", name := "isJunction", desc := "()Z" } : Jvm.MethodName)) ∈ lw_all := lw_g (lw_at lw_m7 36 rfl) rfl
theorem q1596 : (Jvm.Cond.code ({ cls := "DutyBeatsModel", name := "isJunction", desc := "()Z" } : Jvm.MethodName) prog_19_method_47_code (1 : Nat) (Option.some Jvm.ClassFile.FieldType.boolean)) ∈ lw_all := lw_g (lw_at lw_m7 37 rfl) rfl
theorem q1598 : (Jvm.Cond.instanceMethod ({ cls := "DutyBeatsModel", name := "undo", desc := "()I" } : Jvm.MethodName)) ∈ lw_all := lw_g (lw_at lw_m7 39 rfl) rfl
theorem q1599 : (Jvm.Cond.selects "DutyBeatsModel" ({ cls := "DutyBeatsModel", name := "undo", desc := "()I" } : Jvm.MethodName) ({ cls := "DutyBeatsModel", name := "undo", desc := "()I" } : Jvm.MethodName)) ∈ lw_all := lw_g (lw_at lw_m7 40 rfl) rfl
theorem q1600 : (Jvm.Cond.code ({ cls := "DutyBeatsModel", name := "undo", desc := "()I" } : Jvm.MethodName) prog_19_method_73_code (2 : Nat) (Option.some Jvm.ClassFile.FieldType.int)) ∈ lw_all := lw_g (lw_at lw_m7 41 rfl) rfl
theorem q1602 : (Jvm.Cond.instanceMethod ({ cls := "DutyBeatsModel", name := "beat", desc := "()I" } : Jvm.MethodName)) ∈ lw_all := lw_g (lw_at lw_m7 43 rfl) rfl
theorem q1603 : (Jvm.Cond.selects "DutyBeatsModel" ({ cls := "DutyBeatsModel", name := "beat", desc := "()I" } : Jvm.MethodName) ({ cls := "DutyBeatsModel", name := "beat", desc := "()I" } : Jvm.MethodName)) ∈ lw_all := lw_g (lw_at lw_m7 44 rfl) rfl
theorem q1604 : (Jvm.Cond.code ({ cls := "DutyBeatsModel", name := "beat", desc := "()I" } : Jvm.MethodName) prog_19_method_74_code (1 : Nat) (Option.some Jvm.ClassFile.FieldType.int)) ∈ lw_all := lw_g (lw_at lw_m7 45 rfl) rfl
theorem q1605 : (Jvm.Cond.methodLink "DutyBeatsModel" (365 : Nat) ({ cls := "DutyBeatsModel", name := "keepsAct", desc := "()V" } : Jvm.MethodName)) ∈ lw_all := lw_g (lw_at lw_m7 46 rfl) rfl
theorem q1606 : (Jvm.Cond.privateMethod ({ cls := "DutyBeatsModel", name := "keepsAct", desc := "()V" } : Jvm.MethodName)) ∈ lw_tbl := lw_at lw_m7 47 rfl
theorem q1607 : (Jvm.Cond.instanceMethod ({ cls := "DutyBeatsModel", name := "keepsAct", desc := "()V" } : Jvm.MethodName)) ∈ lw_all := lw_g (lw_at lw_m7 48 rfl) rfl
theorem q1608 : (Jvm.Cond.code ({ cls := "DutyBeatsModel", name := "keepsAct", desc := "()V" } : Jvm.MethodName) prog_19_method_72_code (2 : Nat) (Option.none : Option Jvm.ClassFile.FieldType)) ∈ lw_all := lw_g (lw_at lw_m7 49 rfl) rfl
theorem q1609 : (Jvm.Cond.methodLink "DutyBeatsModel" (362 : Nat) ({ cls := "DutyBeatsModel", name := "passes", desc := "()I" } : Jvm.MethodName)) ∈ lw_all := lw_g (lw_at lw_m7 50 rfl) rfl
theorem q1610 : (Jvm.Cond.privateMethod ({ cls := "DutyBeatsModel", name := "passes", desc := "()I" } : Jvm.MethodName)) ∈ lw_tbl := lw_at lw_m7 51 rfl
theorem q1611 : (Jvm.Cond.instanceMethod ({ cls := "DutyBeatsModel", name := "passes", desc := "()I" } : Jvm.MethodName)) ∈ lw_all := lw_g (lw_at lw_m7 52 rfl) rfl
theorem q1612 : (Jvm.Cond.code ({ cls := "DutyBeatsModel", name := "passes", desc := "()I" } : Jvm.MethodName) prog_19_method_70_code (4 : Nat) (Option.some Jvm.ClassFile.FieldType.int)) ∈ lw_all := lw_g (lw_at lw_m7 53 rfl) rfl
theorem q1613 : (Jvm.Cond.methodLink "DutyBeatsModel" (350 : Nat) ({ cls := "DutyBeatsModel", name := "comes", desc := "(II)V" } : Jvm.MethodName)) ∈ lw_all := lw_g (lw_at lw_m7 54 rfl) rfl
theorem q1614 : (Jvm.Cond.privateMethod ({ cls := "DutyBeatsModel", name := "comes", desc := "(II)V" } : Jvm.MethodName)) ∈ lw_tbl := lw_at lw_m7 55 rfl
theorem q1615 : (Jvm.Cond.instanceMethod ({ cls := "DutyBeatsModel", name := "comes", desc := "(II)V" } : Jvm.MethodName)) ∈ lw_all := lw_g (lw_at lw_m7 56 rfl) rfl
theorem q1616 : (Jvm.Cond.code ({ cls := "DutyBeatsModel", name := "comes", desc := "(II)V" } : Jvm.MethodName) prog_19_method_67_code (4 : Nat) (Option.none : Option Jvm.ClassFile.FieldType)) ∈ lw_all := lw_g (lw_at lw_m7 57 rfl) rfl
theorem q1617 : (Jvm.Cond.methodLink "DutyBeatsModel" (353 : Nat) ({ cls := "DutyBeatsModel", name := "letIn", desc := "()I" } : Jvm.MethodName)) ∈ lw_all := lw_g (lw_at lw_m7 58 rfl) rfl
theorem q1618 : (Jvm.Cond.privateMethod ({ cls := "DutyBeatsModel", name := "letIn", desc := "()I" } : Jvm.MethodName)) ∈ lw_tbl := lw_at lw_m7 59 rfl
theorem q1619 : (Jvm.Cond.instanceMethod ({ cls := "DutyBeatsModel", name := "letIn", desc := "()I" } : Jvm.MethodName)) ∈ lw_all := lw_g (lw_at lw_m7 60 rfl) rfl
theorem q1620 : (Jvm.Cond.code ({ cls := "DutyBeatsModel", name := "letIn", desc := "()I" } : Jvm.MethodName) prog_19_method_66_code (3 : Nat) (Option.some Jvm.ClassFile.FieldType.int)) ∈ lw_all := lw_g (lw_at lw_m7 61 rfl) rfl
theorem q1621 : (Jvm.Cond.methodLink "DutyBeatsModel" (347 : Nat) ({ cls := "DutyBeatsModel", name := "isLetBy", desc := "(II)Z" } : Jvm.MethodName)) ∈ lw_all := lw_g (lw_at lw_m7 62 rfl) rfl
theorem q1622 : (Jvm.Cond.privateMethod ({ cls := "DutyBeatsModel", name := "isLetBy", desc := "(II)Z" } : Jvm.MethodName)) ∈ lw_tbl := lw_at lw_m7 63 rfl
theorem q1623 : (Jvm.Cond.instanceMethod ({ cls := "DutyBeatsModel", name := "isLetBy", desc := "(II)Z" } : Jvm.MethodName)) ∈ lw_all := lw_g (lw_at lw_m7 64 rfl) rfl
theorem q1624 : (Jvm.Cond.code ({ cls := "DutyBeatsModel", name := "isLetBy", desc := "(II)Z" } : Jvm.MethodName) prog_19_method_65_code (4 : Nat) (Option.some Jvm.ClassFile.FieldType.boolean)) ∈ lw_all := lw_g (lw_at lw_m7 65 rfl) rfl
theorem q1625 : (Jvm.Cond.methodLink "DutyBeatsModel" (331 : Nat) ({ cls := "DutyBeatsModel", name := "beatOfBar", desc := "()I" } : Jvm.MethodName)) ∈ lw_all := lw_g (lw_at lw_m7 66 rfl) rfl
theorem q1626 : (Jvm.Cond.privateMethod ({ cls := "DutyBeatsModel", name := "beatOfBar", desc := "()I" } : Jvm.MethodName)) ∈ lw_tbl := lw_at lw_m7 67 rfl
theorem q1627 : (Jvm.Cond.instanceMethod ({ cls := "DutyBeatsModel", name := "beatOfBar", desc := "()I" } : Jvm.MethodName)) ∈ lw_all := lw_g (lw_at lw_m7 68 rfl) rfl
theorem q1628 : (Jvm.Cond.code ({ cls := "DutyBeatsModel", name := "beatOfBar", desc := "()I" } : Jvm.MethodName) prog_19_method_54_code (1 : Nat) (Option.some Jvm.ClassFile.FieldType.int)) ∈ lw_all := lw_g (lw_at lw_m7 69 rfl) rfl
theorem q1629 : (Jvm.Cond.methodLink "DutyBeatsModel" (297 : Nat) ({ cls := "DutyBeatsModel", name := "isOf", desc := "(II)Z" } : Jvm.MethodName)) ∈ lw_all := lw_g (lw_at lw_m7 70 rfl) rfl
theorem q1630 : (Jvm.Cond.static ({ cls := "DutyBeatsModel", name := "isOf", desc := "(II)Z" } : Jvm.MethodName)) ∈ lw_all := lw_g (lw_at lw_m7 71 rfl) rfl
theorem q1631 : (Jvm.Cond.code ({ cls := "DutyBeatsModel", name := "isOf", desc := "(II)Z" } : Jvm.MethodName) prog_19_method_3_code (2 : Nat) (Option.some Jvm.ClassFile.FieldType.boolean)) ∈ lw_all := lw_g (lw_at lw_m7 72 rfl) rfl
theorem q1632 : (Jvm.Cond.methodLink "DutyBeatsModel" (334 : Nat) ({ cls := "DutyBeatsModel", name := "bits", desc := "(I)I" } : Jvm.MethodName)) ∈ lw_all := lw_g (lw_at lw_m7 73 rfl) rfl
theorem q1633 : (Jvm.Cond.static ({ cls := "DutyBeatsModel", name := "bits", desc := "(I)I" } : Jvm.MethodName)) ∈ lw_all := lw_g (lw_at lw_m7 74 rfl) rfl
theorem q1634 : (Jvm.Cond.code ({ cls := "DutyBeatsModel", name := "bits", desc := "(I)I" } : Jvm.MethodName) prog_19_method_4_code (3 : Nat) (Option.some Jvm.ClassFile.FieldType.int)) ∈ lw_all := lw_g (lw_at lw_m7 75 rfl) rfl
theorem q1635 : (Jvm.Cond.methodLink "DutyBeatsModel" (337 : Nat) ({ cls := "DutyBeatsModel", name := "soundOf", desc := "(I)I" } : Jvm.MethodName)) ∈ lw_all := lw_g (lw_at lw_m7 76 rfl) rfl
theorem q1636 : (Jvm.Cond.privateMethod ({ cls := "DutyBeatsModel", name := "soundOf", desc := "(I)I" } : Jvm.MethodName)) ∈ lw_tbl := lw_at lw_m7 77 rfl
theorem q1637 : (Jvm.Cond.instanceMethod ({ cls := "DutyBeatsModel", name := "soundOf", desc := "(I)I" } : Jvm.MethodName)) ∈ lw_all := lw_g (lw_at lw_m7 78 rfl) rfl
theorem q1638 : (Jvm.Cond.code ({ cls := "DutyBeatsModel", name := "soundOf", desc := "(I)I" } : Jvm.MethodName) prog_19_method_57_code (6 : Nat) (Option.some Jvm.ClassFile.FieldType.int)) ∈ lw_all := lw_g (lw_at lw_m7 79 rfl) rfl
theorem q1639 : (Jvm.Cond.methodLink "DutyBeatsModel" (303 : Nat) ({ cls := "DutyBeatsModel", name := "soundOfTwo", desc := "(I)I" } : Jvm.MethodName)) ∈ lw_all := lw_g (lw_at lw_m7 80 rfl) rfl
theorem q1640 : (Jvm.Cond.static ({ cls := "DutyBeatsModel", name := "soundOfTwo", desc := "(I)I" } : Jvm.MethodName)) ∈ lw_all := lw_g (lw_at lw_m7 81 rfl) rfl
theorem q1641 : (Jvm.Cond.code ({ cls := "DutyBeatsModel", name := "soundOfTwo", desc := "(I)I" } : Jvm.MethodName) prog_19_method_56_code (1 : Nat) (Option.some Jvm.ClassFile.FieldType.int)) ∈ lw_all := lw_g (lw_at lw_m7 82 rfl) rfl
theorem q1642 : (Jvm.Cond.methodLink "DutyBeatsModel" (340 : Nat) ({ cls := "DutyBeatsModel", name := "sumOver", desc := "(I)I" } : Jvm.MethodName)) ∈ lw_all := lw_g (lw_at lw_m7 83 rfl) rfl
theorem q1643 : (Jvm.Cond.privateMethod ({ cls := "DutyBeatsModel", name := "sumOver", desc := "(I)I" } : Jvm.MethodName)) ∈ lw_tbl := lw_at lw_m7 84 rfl
theorem q1644 : (Jvm.Cond.instanceMethod ({ cls := "DutyBeatsModel", name := "sumOver", desc := "(I)I" } : Jvm.MethodName)) ∈ lw_all := lw_g (lw_at lw_m7 85 rfl) rfl
theorem q1645 : (Jvm.Cond.code ({ cls := "DutyBeatsModel", name := "sumOver", desc := "(I)I" } : Jvm.MethodName) prog_19_method_55_code (4 : Nat) (Option.some Jvm.ClassFile.FieldType.int)) ∈ lw_all := lw_g (lw_at lw_m7 86 rfl) rfl
theorem q1646 : (Jvm.Cond.methodLink "DutyBeatsModel" (343 : Nat) ({ cls := "DutyBeatsModel", name := "summedBy", desc := "(I)J" } : Jvm.MethodName)) ∈ lw_all := lw_g (lw_at lw_m7 87 rfl) rfl
theorem q1647 : (Jvm.Cond.privateMethod ({ cls := "DutyBeatsModel", name := "summedBy", desc := "(I)J" } : Jvm.MethodName)) ∈ lw_tbl := lw_at lw_m7 88 rfl
theorem q1648 : (Jvm.Cond.instanceMethod ({ cls := "DutyBeatsModel", name := "summedBy", desc := "(I)J" } : Jvm.MethodName)) ∈ lw_all := lw_g (lw_at lw_m7 89 rfl) rfl
theorem q1649 : (Jvm.Cond.code ({ cls := "DutyBeatsModel", name := "summedBy", desc := "(I)J" } : Jvm.MethodName) prog_19_method_64_code (4 : Nat) (Option.some Jvm.ClassFile.FieldType.long)) ∈ lw_all := lw_g (lw_at lw_m7 90 rfl) rfl
theorem q1650 : (Jvm.Cond.methodLink "DutyBeatsModel" (327 : Nat) ({ cls := "DutyBeatsModel", name := "reckons", desc := "(III)J" } : Jvm.MethodName)) ∈ lw_all := lw_g (lw_at lw_m7 91 rfl) rfl
theorem q1651 : (Jvm.Cond.privateMethod ({ cls := "DutyBeatsModel", name := "reckons", desc := "(III)J" } : Jvm.MethodName)) ∈ lw_tbl := lw_at lw_m7 92 rfl
theorem q1652 : (Jvm.Cond.instanceMethod ({ cls := "DutyBeatsModel", name := "reckons", desc := "(III)J" } : Jvm.MethodName)) ∈ lw_all := lw_g (lw_at lw_m7 93 rfl) rfl
theorem q1653 : (Jvm.Cond.code ({ cls := "DutyBeatsModel", name := "reckons", desc := "(III)J" } : Jvm.MethodName) prog_19_method_46_code (11 : Nat) (Option.some Jvm.ClassFile.FieldType.long)) ∈ lw_all := lw_g (lw_at lw_m7 94 rfl) rfl
theorem q1654 : (Jvm.Cond.methodLink "DutyBeatsModel" (282 : Nat) ({ cls := "DutyBeatsModel", name := "push", desc := "(J)V" } : Jvm.MethodName)) ∈ lw_all := lw_g (lw_at lw_m7 95 rfl) rfl
theorem q1655 : (Jvm.Cond.privateMethod ({ cls := "DutyBeatsModel", name := "push", desc := "(J)V" } : Jvm.MethodName)) ∈ lw_tbl := lw_at lw_m7 96 rfl
theorem q1656 : (Jvm.Cond.instanceMethod ({ cls := "DutyBeatsModel", name := "push", desc := "(J)V" } : Jvm.MethodName)) ∈ lw_all := lw_g (lw_at lw_m7 97 rfl) rfl
theorem q1657 : (Jvm.Cond.code ({ cls := "DutyBeatsModel", name := "push", desc := "(J)V" } : Jvm.MethodName) prog_19_method_43_code (3 : Nat) (Option.none : Option Jvm.ClassFile.FieldType)) ∈ lw_all := lw_g (lw_at lw_m7 98 rfl) rfl
theorem q1658 : (Jvm.Cond.methodLink "DutyBeatsModel" (286 : Nat) ({ cls := "DutyBeatsModel", name := "pop", desc := "()J" } : Jvm.MethodName)) ∈ lw_all := lw_g (lw_at lw_m7 99 rfl) rfl
theorem q1659 : (Jvm.Cond.privateMethod ({ cls := "DutyBeatsModel", name := "pop", desc := "()J" } : Jvm.MethodName)) ∈ lw_tbl := lw_at lw_m7 100 rfl
theorem q1660 : (Jvm.Cond.instanceMethod ({ cls := "DutyBeatsModel", name := "pop", desc := "()J" } : Jvm.MethodName)) ∈ lw_all := lw_g (lw_at lw_m7 101 rfl) rfl
theorem q1661 : (Jvm.Cond.code ({ cls := "DutyBeatsModel", name := "pop", desc := "()J" } : Jvm.MethodName) prog_19_method_44_code (1 : Nat) (Option.some Jvm.ClassFile.FieldType.long)) ∈ lw_all := lw_g (lw_at lw_m7 102 rfl) rfl
theorem q1662 : (Jvm.Cond.methodLink "DutyBeatsModel" (290 : Nat) ({ cls := "DutyBeatsModel", name := "one", desc := "(IJJ)J" } : Jvm.MethodName)) ∈ lw_all := lw_g (lw_at lw_m7 103 rfl) rfl
theorem q1663 : (Jvm.Cond.static ({ cls := "DutyBeatsModel", name := "one", desc := "(IJJ)J" } : Jvm.MethodName)) ∈ lw_all := lw_g (lw_at lw_m7 104 rfl) rfl
theorem q1664 : (Jvm.Cond.code ({ cls := "DutyBeatsModel", name := "one", desc := "(IJJ)J" } : Jvm.MethodName) prog_19_method_45_code (5 : Nat) (Option.some Jvm.ClassFile.FieldType.long)) ∈ lw_all := lw_g (lw_at lw_m7 105 rfl) rfl
theorem q1665 : (Jvm.Cond.methodLink "DutyBeatsModel" (356 : Nat) ({ cls := "DutyBeatsModel", name := "goes", desc := "(I)I" } : Jvm.MethodName)) ∈ lw_all := lw_g (lw_at lw_m7 106 rfl) rfl
theorem q1666 : (Jvm.Cond.privateMethod ({ cls := "DutyBeatsModel", name := "goes", desc := "(I)I" } : Jvm.MethodName)) ∈ lw_tbl := lw_at lw_m7 107 rfl
theorem q1667 : (Jvm.Cond.instanceMethod ({ cls := "DutyBeatsModel", name := "goes", desc := "(I)I" } : Jvm.MethodName)) ∈ lw_all := lw_g (lw_at lw_m7 108 rfl) rfl
theorem q1668 : (Jvm.Cond.code ({ cls := "DutyBeatsModel", name := "goes", desc := "(I)I" } : Jvm.MethodName) prog_19_method_68_code (3 : Nat) (Option.some Jvm.ClassFile.FieldType.int)) ∈ lw_all := lw_g (lw_at lw_m7 109 rfl) rfl
theorem q1669 : (Jvm.Cond.methodLink "DutyBeatsModel" (359 : Nat) ({ cls := "DutyBeatsModel", name := "sounds", desc := "()V" } : Jvm.MethodName)) ∈ lw_all := lw_g (lw_at lw_m7 110 rfl) rfl
theorem q1670 : (Jvm.Cond.privateMethod ({ cls := "DutyBeatsModel", name := "sounds", desc := "()V" } : Jvm.MethodName)) ∈ lw_tbl := lw_at lw_m7 111 rfl
theorem q1671 : (Jvm.Cond.instanceMethod ({ cls := "DutyBeatsModel", name := "sounds", desc := "()V" } : Jvm.MethodName)) ∈ lw_all := lw_g (lw_at lw_m7 112 rfl) rfl
theorem q1672 : (Jvm.Cond.code ({ cls := "DutyBeatsModel", name := "sounds", desc := "()V" } : Jvm.MethodName) prog_19_method_69_code (3 : Nat) (Option.none : Option Jvm.ClassFile.FieldType)) ∈ lw_all := lw_g (lw_at lw_m7 113 rfl) rfl
theorem q1674 : (Jvm.Cond.instanceMethod ({ cls := "DutyBeatsModel", name := "come", desc := "(II)I" } : Jvm.MethodName)) ∈ lw_all := lw_g (lw_at lw_m7 115 rfl) rfl
theorem q1675 : (Jvm.Cond.selects "DutyBeatsModel" ({ cls := "DutyBeatsModel", name := "come", desc := "(II)I" } : Jvm.MethodName) ({ cls := "DutyBeatsModel", name := "come", desc := "(II)I" } : Jvm.MethodName)) ∈ lw_all := lw_g (lw_at lw_m7 116 rfl) rfl
theorem q1676 : (Jvm.Cond.code ({ cls := "DutyBeatsModel", name := "come", desc := "(II)I" } : Jvm.MethodName) prog_19_method_75_code (3 : Nat) (Option.some Jvm.ClassFile.FieldType.int)) ∈ lw_all := lw_g (lw_at lw_m7 117 rfl) rfl
theorem q1677 : (Jvm.Cond.constantLong "DutyBeatsModel" (368 : Nat) (20 : Int64)) ∈ lw_all := lw_g (lw_at lw_m7 118 rfl) rfl
theorem q1679 : (Jvm.Cond.instanceMethod ({ cls := "DutyBeatsModel", name := "wave", desc := "(I)I" } : Jvm.MethodName)) ∈ lw_all := lw_g (lw_at lw_m7 120 rfl) rfl
theorem q1680 : (Jvm.Cond.selects "DutyBeatsModel" ({ cls := "DutyBeatsModel", name := "wave", desc := "(I)I" } : Jvm.MethodName) ({ cls := "DutyBeatsModel", name := "wave", desc := "(I)I" } : Jvm.MethodName)) ∈ lw_all := lw_g (lw_at lw_m7 121 rfl) rfl
theorem q1681 : (Jvm.Cond.code ({ cls := "DutyBeatsModel", name := "wave", desc := "(I)I" } : Jvm.MethodName) prog_19_method_76_code (2 : Nat) (Option.some Jvm.ClassFile.FieldType.int)) ∈ lw_all := lw_g (lw_at lw_m7 122 rfl) rfl
theorem q1683 : (Jvm.Cond.instanceMethod ({ cls := "DutyBeatsModel", name := "score", desc := "(II)I" } : Jvm.MethodName)) ∈ lw_all := lw_g (lw_at lw_m7 124 rfl) rfl
theorem q1684 : (Jvm.Cond.selects "DutyBeatsModel" ({ cls := "DutyBeatsModel", name := "score", desc := "(II)I" } : Jvm.MethodName) ({ cls := "DutyBeatsModel", name := "score", desc := "(II)I" } : Jvm.MethodName)) ∈ lw_all := lw_g (lw_at lw_m7 125 rfl) rfl
theorem q1685 : (Jvm.Cond.code ({ cls := "DutyBeatsModel", name := "score", desc := "(II)I" } : Jvm.MethodName) prog_19_method_77_code (3 : Nat) (Option.some Jvm.ClassFile.FieldType.int)) ∈ lw_all := lw_g (lw_at lw_m7 126 rfl) rfl
theorem q1687 : (Jvm.Cond.instanceMethod ({ cls := "DutyBeatsModel", name := "tune", desc := "(II)I" } : Jvm.MethodName)) ∈ lw_all := lw_g (lw_at lw_m7 128 rfl) rfl
theorem q1688 : (Jvm.Cond.selects "DutyBeatsModel" ({ cls := "DutyBeatsModel", name := "tune", desc := "(II)I" } : Jvm.MethodName) ({ cls := "DutyBeatsModel", name := "tune", desc := "(II)I" } : Jvm.MethodName)) ∈ lw_all := lw_g (lw_at lw_m7 129 rfl) rfl
theorem q1689 : (Jvm.Cond.code ({ cls := "DutyBeatsModel", name := "tune", desc := "(II)I" } : Jvm.MethodName) prog_19_method_78_code (4 : Nat) (Option.some Jvm.ClassFile.FieldType.int)) ∈ lw_all := lw_g (lw_at lw_m7 130 rfl) rfl
theorem q1690 : (Jvm.Cond.constantLong "DutyBeatsModel" (370 : Nat) (11 : Int64)) ∈ lw_all := lw_g (lw_at lw_m7 131 rfl) rfl
theorem q1692 : (Jvm.Cond.instanceMethod ({ cls := "DutyBeatsModel", name := "heard", desc := "()I" } : Jvm.MethodName)) ∈ lw_all := lw_g (lw_at lw_m7 133 rfl) rfl
theorem q1693 : (Jvm.Cond.selects "DutyBeatsModel" ({ cls := "DutyBeatsModel", name := "heard", desc := "()I" } : Jvm.MethodName) ({ cls := "DutyBeatsModel", name := "heard", desc := "()I" } : Jvm.MethodName)) ∈ lw_all := lw_g (lw_at lw_m7 134 rfl) rfl
theorem q1694 : (Jvm.Cond.code ({ cls := "DutyBeatsModel", name := "heard", desc := "()I" } : Jvm.MethodName) prog_19_method_79_code (1 : Nat) (Option.some Jvm.ClassFile.FieldType.int)) ∈ lw_all := lw_g (lw_at lw_m7 135 rfl) rfl
theorem q1696 : (Jvm.Cond.instanceMethod ({ cls := "DutyBeatsModel", name := "ahead", desc := "(III)I" } : Jvm.MethodName)) ∈ lw_all := lw_g (lw_at lw_m7 137 rfl) rfl
theorem q1697 : (Jvm.Cond.selects "DutyBeatsModel" ({ cls := "DutyBeatsModel", name := "ahead", desc := "(III)I" } : Jvm.MethodName) ({ cls := "DutyBeatsModel", name := "ahead", desc := "(III)I" } : Jvm.MethodName)) ∈ lw_all := lw_g (lw_at lw_m7 138 rfl) rfl
theorem q1698 : (Jvm.Cond.code ({ cls := "DutyBeatsModel", name := "ahead", desc := "(III)I" } : Jvm.MethodName) prog_19_method_82_code (5 : Nat) (Option.some Jvm.ClassFile.FieldType.int)) ∈ lw_all := lw_g (lw_at lw_m7 139 rfl) rfl
theorem q1699 : (Jvm.Cond.constantLong "DutyBeatsModel" (372 : Nat) (100 : Int64)) ∈ lw_all := lw_g (lw_at lw_m7 140 rfl) rfl
theorem q1700 : (Jvm.Cond.constantLong "DutyBeatsModel" (374 : Nat) (2 : Int64)) ∈ lw_all := lw_g (lw_at lw_m7 141 rfl) rfl
theorem q1701 : (Jvm.Cond.methodLink "DutyBeatsModel" (376 : Nat) ({ cls := "DutyBeatsModel", name := "keeps", desc := "()V" } : Jvm.MethodName)) ∈ lw_all := lw_g (lw_at lw_m7 142 rfl) rfl
theorem q1702 : (Jvm.Cond.privateMethod ({ cls := "DutyBeatsModel", name := "keeps", desc := "()V" } : Jvm.MethodName)) ∈ lw_tbl := lw_at lw_m7 143 rfl
theorem q1703 : (Jvm.Cond.instanceMethod ({ cls := "DutyBeatsModel", name := "keeps", desc := "()V" } : Jvm.MethodName)) ∈ lw_all := lw_g (lw_at lw_m7 144 rfl) rfl
theorem q1704 : (Jvm.Cond.code ({ cls := "DutyBeatsModel", name := "keeps", desc := "()V" } : Jvm.MethodName) prog_19_method_80_code (2 : Nat) (Option.none : Option Jvm.ClassFile.FieldType)) ∈ lw_all := lw_g (lw_at lw_m7 145 rfl) rfl
theorem q1705 : (Jvm.Cond.methodLink "DutyBeatsModel" (379 : Nat) ({ cls := "DutyBeatsModel", name := "passesAll", desc := "(I)V" } : Jvm.MethodName)) ∈ lw_all := lw_g (lw_at lw_m7 146 rfl) rfl
theorem q1706 : (Jvm.Cond.privateMethod ({ cls := "DutyBeatsModel", name := "passesAll", desc := "(I)V" } : Jvm.MethodName)) ∈ lw_tbl := lw_at lw_m7 147 rfl
theorem q1707 : (Jvm.Cond.instanceMethod ({ cls := "DutyBeatsModel", name := "passesAll", desc := "(I)V" } : Jvm.MethodName)) ∈ lw_all := lw_g (lw_at lw_m7 148 rfl) rfl
theorem q1708 : (Jvm.Cond.code ({ cls := "DutyBeatsModel", name := "passesAll", desc := "(I)V" } : Jvm.MethodName) prog_19_method_71_code (3 : Nat) (Option.none : Option Jvm.ClassFile.FieldType)) ∈ lw_all := lw_g (lw_at lw_m7 149 rfl) rfl
theorem q1709 : (Jvm.Cond.methodLink "DutyBeatsModel" (382 : Nat) ({ cls := "DutyBeatsModel", name := "laysBack", desc := "()V" } : Jvm.MethodName)) ∈ lw_all := lw_g (lw_at lw_m7 150 rfl) rfl
theorem q1710 : (Jvm.Cond.privateMethod ({ cls := "DutyBeatsModel", name := "laysBack", desc := "()V" } : Jvm.MethodName)) ∈ lw_tbl := lw_at lw_m7 151 rfl
theorem q1711 : (Jvm.Cond.instanceMethod ({ cls := "DutyBeatsModel", name := "laysBack", desc := "()V" } : Jvm.MethodName)) ∈ lw_all := lw_g (lw_at lw_m7 152 rfl) rfl
theorem q1712 : (Jvm.Cond.code ({ cls := "DutyBeatsModel", name := "laysBack", desc := "()V" } : Jvm.MethodName) prog_19_method_81_code (2 : Nat) (Option.none : Option Jvm.ClassFile.FieldType)) ∈ lw_all := lw_g (lw_at lw_m7 153 rfl) rfl
theorem q1714 : (Jvm.Cond.instanceMethod ({ cls := "DutyBeatsModel", name := "clear", desc := "(I)I" } : Jvm.MethodName)) ∈ lw_all := lw_g (lw_at lw_m7 155 rfl) rfl
theorem q1715 : (Jvm.Cond.selects "DutyBeatsModel" ({ cls := "DutyBeatsModel", name := "clear", desc := "(I)I" } : Jvm.MethodName) ({ cls := "DutyBeatsModel", name := "clear", desc := "(I)I" } : Jvm.MethodName)) ∈ lw_all := lw_g (lw_at lw_m7 156 rfl) rfl
theorem q1716 : (Jvm.Cond.code ({ cls := "DutyBeatsModel", name := "clear", desc := "(I)I" } : Jvm.MethodName) prog_19_method_83_code (4 : Nat) (Option.some Jvm.ClassFile.FieldType.int)) ∈ lw_all := lw_g (lw_at lw_m7 157 rfl) rfl
theorem q1718 : (Jvm.Cond.instanceMethod ({ cls := "DutyBeatsModel", name := "chord", desc := "(I)I" } : Jvm.MethodName)) ∈ lw_all := lw_g (lw_at lw_m7 159 rfl) rfl
theorem q1719 : (Jvm.Cond.selects "DutyBeatsModel" ({ cls := "DutyBeatsModel", name := "chord", desc := "(I)I" } : Jvm.MethodName) ({ cls := "DutyBeatsModel", name := "chord", desc := "(I)I" } : Jvm.MethodName)) ∈ lw_all := lw_g (lw_at lw_m7 160 rfl) rfl
theorem q1720 : (Jvm.Cond.code ({ cls := "DutyBeatsModel", name := "chord", desc := "(I)I" } : Jvm.MethodName) prog_19_method_84_code (5 : Nat) (Option.some Jvm.ClassFile.FieldType.int)) ∈ lw_all := lw_g (lw_at lw_m7 161 rfl) rfl
theorem q1721 : (Jvm.Cond.methodLink "DutyBeatsModel" (385 : Nat) ({ cls := "DutyBeatsModel", name := "isPeace", desc := "(I)Z" } : Jvm.MethodName)) ∈ lw_all := lw_g (lw_at lw_m7 162 rfl) rfl
theorem q1722 : (Jvm.Cond.privateMethod ({ cls := "DutyBeatsModel", name := "isPeace", desc := "(I)Z" } : Jvm.MethodName)) ∈ lw_tbl := lw_at lw_m7 163 rfl
theorem q1723 : (Jvm.Cond.instanceMethod ({ cls := "DutyBeatsModel", name := "isPeace", desc := "(I)Z" } : Jvm.MethodName)) ∈ lw_all := lw_g (lw_at lw_m7 164 rfl) rfl
theorem q1724 : (Jvm.Cond.code ({ cls := "DutyBeatsModel", name := "isPeace", desc := "(I)Z" } : Jvm.MethodName) prog_19_method_58_code (3 : Nat) (Option.some Jvm.ClassFile.FieldType.boolean)) ∈ lw_all := lw_g (lw_at lw_m7 165 rfl) rfl
theorem q1726 : (Jvm.Cond.instanceMethod ({ cls := "DutyBeatsModel", name := "beats", desc := "(I)I" } : Jvm.MethodName)) ∈ lw_all := lw_g (lw_at lw_m7 167 rfl) rfl
theorem q1727 : (Jvm.Cond.selects "DutyBeatsModel" ({ cls := "DutyBeatsModel", name := "beats", desc := "(I)I" } : Jvm.MethodName) ({ cls := "DutyBeatsModel", name := "beats", desc := "(I)I" } : Jvm.MethodName)) ∈ lw_all := lw_g (lw_at lw_m7 168 rfl) rfl
theorem q1728 : (Jvm.Cond.code ({ cls := "DutyBeatsModel", name := "beats", desc := "(I)I" } : Jvm.MethodName) prog_19_method_87_code (3 : Nat) (Option.some Jvm.ClassFile.FieldType.int)) ∈ lw_all := lw_g (lw_at lw_m7 169 rfl) rfl
theorem q1729 : (Jvm.Cond.constantLong "DutyBeatsModel" (391 : Nat) (-1 : Int64)) ∈ lw_all := lw_g (lw_at lw_m7 170 rfl) rfl
theorem q1730 : (Jvm.Cond.constantLong "DutyBeatsModel" (393 : Nat) (5 : Int64)) ∈ lw_all := lw_g (lw_at lw_m7 171 rfl) rfl
theorem q1731 : (Jvm.Cond.methodLink "DutyBeatsModel" (395 : Nat) ({ cls := "DutyBeatsModel", name := "isDoneBy", desc := "(I)Z" } : Jvm.MethodName)) ∈ lw_all := lw_g (lw_at lw_m7 172 rfl) rfl
theorem q1732 : (Jvm.Cond.privateMethod ({ cls := "DutyBeatsModel", name := "isDoneBy", desc := "(I)Z" } : Jvm.MethodName)) ∈ lw_tbl := lw_at lw_m7 173 rfl
theorem q1733 : (Jvm.Cond.instanceMethod ({ cls := "DutyBeatsModel", name := "isDoneBy", desc := "(I)Z" } : Jvm.MethodName)) ∈ lw_all := lw_g (lw_at lw_m7 174 rfl) rfl
theorem q1734 : (Jvm.Cond.code ({ cls := "DutyBeatsModel", name := "isDoneBy", desc := "(I)Z" } : Jvm.MethodName) prog_19_method_86_code (3 : Nat) (Option.some Jvm.ClassFile.FieldType.boolean)) ∈ lw_all := lw_g (lw_at lw_m7 175 rfl) rfl
theorem q1735 : (Jvm.Cond.methodLink "DutyBeatsModel" (388 : Nat) ({ cls := "DutyBeatsModel", name := "isFree", desc := "(I)Z" } : Jvm.MethodName)) ∈ lw_all := lw_g (lw_at lw_m7 176 rfl) rfl
theorem q1736 : (Jvm.Cond.privateMethod ({ cls := "DutyBeatsModel", name := "isFree", desc := "(I)Z" } : Jvm.MethodName)) ∈ lw_tbl := lw_at lw_m7 177 rfl
theorem q1737 : (Jvm.Cond.instanceMethod ({ cls := "DutyBeatsModel", name := "isFree", desc := "(I)Z" } : Jvm.MethodName)) ∈ lw_all := lw_g (lw_at lw_m7 178 rfl) rfl
theorem q1738 : (Jvm.Cond.code ({ cls := "DutyBeatsModel", name := "isFree", desc := "(I)Z" } : Jvm.MethodName) prog_19_method_85_code (3 : Nat) (Option.some Jvm.ClassFile.FieldType.boolean)) ∈ lw_all := lw_g (lw_at lw_m7 179 rfl) rfl
theorem q1740 : (Jvm.Cond.instanceMethod ({ cls := "DutyBeatsModel", name := "bestScore", desc := "(II)I" } : Jvm.MethodName)) ∈ lw_all := lw_g (lw_at lw_m7 181 rfl) rfl
theorem q1741 : (Jvm.Cond.selects "DutyBeatsModel" ({ cls := "DutyBeatsModel", name := "bestScore", desc := "(II)I" } : Jvm.MethodName) ({ cls := "DutyBeatsModel", name := "bestScore", desc := "(II)I" } : Jvm.MethodName)) ∈ lw_all := lw_g (lw_at lw_m7 182 rfl) rfl
theorem q1742 : (Jvm.Cond.code ({ cls := "DutyBeatsModel", name := "bestScore", desc := "(II)I" } : Jvm.MethodName) prog_19_method_89_code (9 : Nat) (Option.some Jvm.ClassFile.FieldType.int)) ∈ lw_all := lw_g (lw_at lw_m7 183 rfl) rfl
theorem q1743 : (Jvm.Cond.constantLong "DutyBeatsModel" (398 : Nat) (30 : Int64)) ∈ lw_all := lw_g (lw_at lw_m7 184 rfl) rfl
theorem q1744 : (Jvm.Cond.methodLink "DutyBeatsModel" (400 : Nat) ({ cls := "DutyBeatsModel", name := "waitedBy", desc := "(I)I" } : Jvm.MethodName)) ∈ lw_all := lw_g (lw_at lw_m7 185 rfl) rfl
theorem q1745 : (Jvm.Cond.privateMethod ({ cls := "DutyBeatsModel", name := "waitedBy", desc := "(I)I" } : Jvm.MethodName)) ∈ lw_tbl := lw_at lw_m7 186 rfl
theorem q1746 : (Jvm.Cond.instanceMethod ({ cls := "DutyBeatsModel", name := "waitedBy", desc := "(I)I" } : Jvm.MethodName)) ∈ lw_all := lw_g (lw_at lw_m7 187 rfl) rfl
theorem q1747 : (Jvm.Cond.code ({ cls := "DutyBeatsModel", name := "waitedBy", desc := "(I)I" } : Jvm.MethodName) prog_19_method_88_code (3 : Nat) (Option.some Jvm.ClassFile.FieldType.int)) ∈ lw_all := lw_g (lw_at lw_m7 188 rfl) rfl
theorem q1749 : (Jvm.Cond.instanceMethod ({ cls := "DutyBeatsModel", name := "row", desc := "(II)I" } : Jvm.MethodName)) ∈ lw_all := lw_g (lw_at lw_m7 190 rfl) rfl
theorem q1750 : (Jvm.Cond.selects "DutyBeatsModel" ({ cls := "DutyBeatsModel", name := "row", desc := "(II)I" } : Jvm.MethodName) ({ cls := "DutyBeatsModel", name := "row", desc := "(II)I" } : Jvm.MethodName)) ∈ lw_all := lw_g (lw_at lw_m7 191 rfl) rfl
theorem q1751 : (Jvm.Cond.code ({ cls := "DutyBeatsModel", name := "row", desc := "(II)I" } : Jvm.MethodName) prog_19_method_92_code (7 : Nat) (Option.some Jvm.ClassFile.FieldType.int)) ∈ lw_all := lw_g (lw_at lw_m7 192 rfl) rfl
theorem q1752 : (Jvm.Cond.constantLong "DutyBeatsModel" (409 : Nat) (3 : Int64)) ∈ lw_all := lw_g (lw_at lw_m7 193 rfl) rfl
theorem q1753 : (Jvm.Cond.constantLong "DutyBeatsModel" (411 : Nat) (4 : Int64)) ∈ lw_all := lw_g (lw_at lw_m7 194 rfl) rfl
theorem q1754 : (Jvm.Cond.methodLink "DutyBeatsModel" (413 : Nat) ({ cls := "DutyBeatsModel", name := "fillsRow", desc := "(II)Z" } : Jvm.MethodName)) ∈ lw_all := lw_g (lw_at lw_m7 195 rfl) rfl
theorem q1755 : (Jvm.Cond.privateMethod ({ cls := "DutyBeatsModel", name := "fillsRow", desc := "(II)Z" } : Jvm.MethodName)) ∈ lw_tbl := lw_at lw_m7 196 rfl
theorem q1756 : (Jvm.Cond.instanceMethod ({ cls := "DutyBeatsModel", name := "fillsRow", desc := "(II)Z" } : Jvm.MethodName)) ∈ lw_all := lw_g (lw_at lw_m7 197 rfl) rfl
theorem q1757 : (Jvm.Cond.code ({ cls := "DutyBeatsModel", name := "fillsRow", desc := "(II)Z" } : Jvm.MethodName) prog_19_method_90_code (5 : Nat) (Option.some Jvm.ClassFile.FieldType.boolean)) ∈ lw_all := lw_g (lw_at lw_m7 198 rfl) rfl
theorem q1758 : (Jvm.Cond.methodLink "DutyBeatsModel" (416 : Nat) ({ cls := "DutyBeatsModel", name := "weighsRow", desc := "(I)V" } : Jvm.MethodName)) ∈ lw_all := lw_g (lw_at lw_m7 199 rfl) rfl
theorem q1759 : (Jvm.Cond.privateMethod ({ cls := "DutyBeatsModel", name := "weighsRow", desc := "(I)V" } : Jvm.MethodName)) ∈ lw_tbl := lw_at lw_m7 200 rfl
theorem q1760 : (Jvm.Cond.instanceMethod ({ cls := "DutyBeatsModel", name := "weighsRow", desc := "(I)V" } : Jvm.MethodName)) ∈ lw_all := lw_g (lw_at lw_m7 201 rfl) rfl
theorem q1761 : (Jvm.Cond.code ({ cls := "DutyBeatsModel", name := "weighsRow", desc := "(I)V" } : Jvm.MethodName) prog_19_method_91_code (3 : Nat) (Option.none : Option Jvm.ClassFile.FieldType)) ∈ lw_all := lw_g (lw_at lw_m7 202 rfl) rfl
theorem q1763 : (Jvm.Cond.instanceMethod ({ cls := "DutyBeatsModel", name := "leastRoom", desc := "(I)I" } : Jvm.MethodName)) ∈ lw_all := lw_g (lw_at lw_m7 204 rfl) rfl
theorem q1764 : (Jvm.Cond.selects "DutyBeatsModel" ({ cls := "DutyBeatsModel", name := "leastRoom", desc := "(I)I" } : Jvm.MethodName) ({ cls := "DutyBeatsModel", name := "leastRoom", desc := "(I)I" } : Jvm.MethodName)) ∈ lw_all := lw_g (lw_at lw_m7 205 rfl) rfl
theorem q1765 : (Jvm.Cond.code ({ cls := "DutyBeatsModel", name := "leastRoom", desc := "(I)I" } : Jvm.MethodName) prog_19_method_94_code (7 : Nat) (Option.some Jvm.ClassFile.FieldType.int)) ∈ lw_all := lw_g (lw_at lw_m7 206 rfl) rfl
theorem q1766 : (Jvm.Cond.constantLong "DutyBeatsModel" (419 : Nat) (60 : Int64)) ∈ lw_all := lw_g (lw_at lw_m7 207 rfl) rfl
theorem q1767 : (Jvm.Cond.methodLink "DutyBeatsModel" (421 : Nat) ({ cls := "DutyBeatsModel", name := "isAnyCrowd", desc := "()Z" } : Jvm.MethodName)) ∈ lw_all := lw_g (lw_at lw_m7 208 rfl) rfl
theorem q1768 : (Jvm.Cond.privateMethod ({ cls := "DutyBeatsModel", name := "isAnyCrowd", desc := "()Z" } : Jvm.MethodName)) ∈ lw_tbl := lw_at lw_m7 209 rfl
theorem q1769 : (Jvm.Cond.instanceMethod ({ cls := "DutyBeatsModel", name := "isAnyCrowd", desc := "()Z" } : Jvm.MethodName)) ∈ lw_all := lw_g (lw_at lw_m7 210 rfl) rfl
theorem q1770 : (Jvm.Cond.code ({ cls := "DutyBeatsModel", name := "isAnyCrowd", desc := "()Z" } : Jvm.MethodName) prog_19_method_93_code (2 : Nat) (Option.some Jvm.ClassFile.FieldType.boolean)) ∈ lw_all := lw_g (lw_at lw_m7 211 rfl) rfl
theorem q1772 : (Jvm.Cond.instanceMethod ({ cls := "DutyBeatsModel", name := "shut", desc := "(II)I" } : Jvm.MethodName)) ∈ lw_all := lw_g (lw_at lw_m7 213 rfl) rfl
theorem q1773 : (Jvm.Cond.selects "DutyBeatsModel" ({ cls := "DutyBeatsModel", name := "shut", desc := "(II)I" } : Jvm.MethodName) ({ cls := "DutyBeatsModel", name := "shut", desc := "(II)I" } : Jvm.MethodName)) ∈ lw_all := lw_g (lw_at lw_m7 214 rfl) rfl
theorem q1774 : (Jvm.Cond.code ({ cls := "DutyBeatsModel", name := "shut", desc := "(II)I" } : Jvm.MethodName) prog_19_method_95_code (7 : Nat) (Option.some Jvm.ClassFile.FieldType.int)) ∈ lw_all := lw_g (lw_at lw_m7 215 rfl) rfl
theorem q1776 : (Jvm.Cond.instanceMethod ({ cls := "DutyBeatsModel", name := "longest", desc := "(II)I" } : Jvm.MethodName)) ∈ lw_all := lw_g (lw_at lw_m7 217 rfl) rfl
theorem q1777 : (Jvm.Cond.selects "DutyBeatsModel" ({ cls := "DutyBeatsModel", name := "longest", desc := "(II)I" } : Jvm.MethodName) ({ cls := "DutyBeatsModel", name := "longest", desc := "(II)I" } : Jvm.MethodName)) ∈ lw_all := lw_g (lw_at lw_m7 218 rfl) rfl
theorem q1778 : (Jvm.Cond.code ({ cls := "DutyBeatsModel", name := "longest", desc := "(II)I" } : Jvm.MethodName) prog_19_method_96_code (8 : Nat) (Option.some Jvm.ClassFile.FieldType.int)) ∈ lw_all := lw_g (lw_at lw_m7 219 rfl) rfl
theorem q1780 : (Jvm.Cond.instanceMethod ({ cls := "DutyBeatsModel", name := "cadenza", desc := "(I)I" } : Jvm.MethodName)) ∈ lw_all := lw_g (lw_at lw_m7 221 rfl) rfl
theorem q1781 : (Jvm.Cond.selects "DutyBeatsModel" ({ cls := "DutyBeatsModel", name := "cadenza", desc := "(I)I" } : Jvm.MethodName) ({ cls := "DutyBeatsModel", name := "cadenza", desc := "(I)I" } : Jvm.MethodName)) ∈ lw_all := lw_g (lw_at lw_m7 222 rfl) rfl
theorem q1782 : (Jvm.Cond.code ({ cls := "DutyBeatsModel", name := "cadenza", desc := "(I)I" } : Jvm.MethodName) prog_19_method_98_code (4 : Nat) (Option.some Jvm.ClassFile.FieldType.int)) ∈ lw_all := lw_g (lw_at lw_m7 223 rfl) rfl
theorem q1783 : (Jvm.Cond.methodLink "DutyBeatsModel" (424 : Nat) ({ cls := "DutyBeatsModel", name := "isAlone", desc := "(I)Z" } : Jvm.MethodName)) ∈ lw_all := lw_g (lw_at lw_m7 224 rfl) rfl
theorem q1784 : (Jvm.Cond.privateMethod ({ cls := "DutyBeatsModel", name := "isAlone", desc := "(I)Z" } : Jvm.MethodName)) ∈ lw_tbl := lw_at lw_m7 225 rfl
theorem q1785 : (Jvm.Cond.instanceMethod ({ cls := "DutyBeatsModel", name := "isAlone", desc := "(I)Z" } : Jvm.MethodName)) ∈ lw_all := lw_g (lw_at lw_m7 226 rfl) rfl
theorem q1786 : (Jvm.Cond.code ({ cls := "DutyBeatsModel", name := "isAlone", desc := "(I)Z" } : Jvm.MethodName) prog_19_method_97_code (3 : Nat) (Option.some Jvm.ClassFile.FieldType.boolean)) ∈ lw_all := lw_g (lw_at lw_m7 227 rfl) rfl
theorem q1788 : (Jvm.Cond.instanceMethod ({ cls := "DutyBeatsModel", name := "rests", desc := "(IIII)I" } : Jvm.MethodName)) ∈ lw_all := lw_g (lw_at lw_m7 229 rfl) rfl
theorem q1789 : (Jvm.Cond.selects "DutyBeatsModel" ({ cls := "DutyBeatsModel", name := "rests", desc := "(IIII)I" } : Jvm.MethodName) ({ cls := "DutyBeatsModel", name := "rests", desc := "(IIII)I" } : Jvm.MethodName)) ∈ lw_all := lw_g (lw_at lw_m7 230 rfl) rfl
theorem q1790 : (Jvm.Cond.code ({ cls := "DutyBeatsModel", name := "rests", desc := "(IIII)I" } : Jvm.MethodName) prog_19_method_102_code (8 : Nat) (Option.some Jvm.ClassFile.FieldType.int)) ∈ lw_all := lw_g (lw_at lw_m7 231 rfl) rfl
theorem q1791 : (Jvm.Cond.methodLink "DutyBeatsModel" (431 : Nat) ({ cls := "DutyBeatsModel", name := "fillsRests", desc := "(III)V" } : Jvm.MethodName)) ∈ lw_all := lw_g (lw_at lw_m7 232 rfl) rfl
theorem q1792 : (Jvm.Cond.privateMethod ({ cls := "DutyBeatsModel", name := "fillsRests", desc := "(III)V" } : Jvm.MethodName)) ∈ lw_tbl := lw_at lw_m7 233 rfl
theorem q1793 : (Jvm.Cond.instanceMethod ({ cls := "DutyBeatsModel", name := "fillsRests", desc := "(III)V" } : Jvm.MethodName)) ∈ lw_all := lw_g (lw_at lw_m7 234 rfl) rfl
theorem q1794 : (Jvm.Cond.code ({ cls := "DutyBeatsModel", name := "fillsRests", desc := "(III)V" } : Jvm.MethodName) prog_19_method_101_code (9 : Nat) (Option.none : Option Jvm.ClassFile.FieldType)) ∈ lw_all := lw_g (lw_at lw_m7 235 rfl) rfl
theorem q1795 : (Jvm.Cond.methodLink "DutyBeatsModel" (427 : Nat) ({ cls := "DutyBeatsModel", name := "hasThen", desc := "(II)I" } : Jvm.MethodName)) ∈ lw_all := lw_g (lw_at lw_m7 236 rfl) rfl
theorem q1796 : (Jvm.Cond.privateMethod ({ cls := "DutyBeatsModel", name := "hasThen", desc := "(II)I" } : Jvm.MethodName)) ∈ lw_tbl := lw_at lw_m7 237 rfl
theorem q1797 : (Jvm.Cond.instanceMethod ({ cls := "DutyBeatsModel", name := "hasThen", desc := "(II)I" } : Jvm.MethodName)) ∈ lw_all := lw_g (lw_at lw_m7 238 rfl) rfl
theorem q1798 : (Jvm.Cond.code ({ cls := "DutyBeatsModel", name := "hasThen", desc := "(II)I" } : Jvm.MethodName) prog_19_method_100_code (3 : Nat) (Option.some Jvm.ClassFile.FieldType.int)) ∈ lw_all := lw_g (lw_at lw_m7 239 rfl) rfl
theorem q1799 : (Jvm.Cond.methodLink "DutyBeatsModel" (435 : Nat) ({ cls := "DutyBeatsModel", name := "isRest", desc := "(II)Z" } : Jvm.MethodName)) ∈ lw_all := lw_g (lw_at lw_m8 0 rfl) rfl
theorem q1800 : (Jvm.Cond.privateMethod ({ cls := "DutyBeatsModel", name := "isRest", desc := "(II)Z" } : Jvm.MethodName)) ∈ lw_tbl := lw_at lw_m8 1 rfl
theorem q1801 : (Jvm.Cond.instanceMethod ({ cls := "DutyBeatsModel", name := "isRest", desc := "(II)Z" } : Jvm.MethodName)) ∈ lw_all := lw_g (lw_at lw_m8 2 rfl) rfl
theorem q1802 : (Jvm.Cond.code ({ cls := "DutyBeatsModel", name := "isRest", desc := "(II)Z" } : Jvm.MethodName) prog_19_method_99_code (4 : Nat) (Option.some Jvm.ClassFile.FieldType.boolean)) ∈ lw_all := lw_g (lw_at lw_m8 3 rfl) rfl
theorem q1804 : (Jvm.Cond.instanceMethod ({ cls := "DutyBeatsModel", name := "ring", desc := "(I)I" } : Jvm.MethodName)) ∈ lw_all := lw_g (lw_at lw_m8 5 rfl) rfl
theorem q1805 : (Jvm.Cond.selects "DutyBeatsModel" ({ cls := "DutyBeatsModel", name := "ring", desc := "(I)I" } : Jvm.MethodName) ({ cls := "DutyBeatsModel", name := "ring", desc := "(I)I" } : Jvm.MethodName)) ∈ lw_all := lw_g (lw_at lw_m8 6 rfl) rfl
theorem q1806 : (Jvm.Cond.code ({ cls := "DutyBeatsModel", name := "ring", desc := "(I)I" } : Jvm.MethodName) prog_19_method_104_code (4 : Nat) (Option.some Jvm.ClassFile.FieldType.int)) ∈ lw_all := lw_g (lw_at lw_m8 7 rfl) rfl
theorem q1807 : (Jvm.Cond.methodLink "DutyBeatsModel" (438 : Nat) ({ cls := "DutyBeatsModel", name := "areAlike", desc := "(II)Z" } : Jvm.MethodName)) ∈ lw_all := lw_g (lw_at lw_m8 8 rfl) rfl
theorem q1808 : (Jvm.Cond.privateMethod ({ cls := "DutyBeatsModel", name := "areAlike", desc := "(II)Z" } : Jvm.MethodName)) ∈ lw_tbl := lw_at lw_m8 9 rfl
theorem q1809 : (Jvm.Cond.instanceMethod ({ cls := "DutyBeatsModel", name := "areAlike", desc := "(II)Z" } : Jvm.MethodName)) ∈ lw_all := lw_g (lw_at lw_m8 10 rfl) rfl
theorem q1810 : (Jvm.Cond.code ({ cls := "DutyBeatsModel", name := "areAlike", desc := "(II)Z" } : Jvm.MethodName) prog_19_method_103_code (4 : Nat) (Option.some Jvm.ClassFile.FieldType.boolean)) ∈ lw_all := lw_g (lw_at lw_m8 11 rfl) rfl
theorem q1812 : (Jvm.Cond.instanceMethod ({ cls := "DutyBeatsModel", name := "pence", desc := "(II)I" } : Jvm.MethodName)) ∈ lw_all := lw_g (lw_at lw_m8 13 rfl) rfl
theorem q1813 : (Jvm.Cond.selects "DutyBeatsModel" ({ cls := "DutyBeatsModel", name := "pence", desc := "(II)I" } : Jvm.MethodName) ({ cls := "DutyBeatsModel", name := "pence", desc := "(II)I" } : Jvm.MethodName)) ∈ lw_all := lw_g (lw_at lw_m8 14 rfl) rfl
theorem q1814 : (Jvm.Cond.code ({ cls := "DutyBeatsModel", name := "pence", desc := "(II)I" } : Jvm.MethodName) prog_19_method_105_code (9 : Nat) (Option.some Jvm.ClassFile.FieldType.int)) ∈ lw_all := lw_g (lw_at lw_m8 15 rfl) rfl
theorem q1815 : (Jvm.Cond.constantLong "DutyBeatsModel" (441 : Nat) (9999 : Int64)) ∈ lw_all := lw_g (lw_at lw_m8 16 rfl) rfl
theorem q1817 : (Jvm.Cond.instanceMethod ({ cls := "DutyBeatsModel", name := "note", desc := "(III)I" } : Jvm.MethodName)) ∈ lw_all := lw_g (lw_at lw_m8 18 rfl) rfl
theorem q1818 : (Jvm.Cond.selects "DutyBeatsModel" ({ cls := "DutyBeatsModel", name := "note", desc := "(III)I" } : Jvm.MethodName) ({ cls := "DutyBeatsModel", name := "note", desc := "(III)I" } : Jvm.MethodName)) ∈ lw_all := lw_g (lw_at lw_m8 19 rfl) rfl
theorem q1819 : (Jvm.Cond.code ({ cls := "DutyBeatsModel", name := "note", desc := "(III)I" } : Jvm.MethodName) prog_19_method_106_code (5 : Nat) (Option.some Jvm.ClassFile.FieldType.int)) ∈ lw_all := lw_g (lw_at lw_m8 20 rfl) rfl
theorem q1820 : (Jvm.Cond.constantLong "DutyBeatsModel" (443 : Nat) (9 : Int64)) ∈ lw_all := lw_g (lw_at lw_m8 21 rfl) rfl
theorem q1822 : (Jvm.Cond.instanceMethod ({ cls := "DutyBeatsModel", name := "ruled", desc := "(I)I" } : Jvm.MethodName)) ∈ lw_all := lw_g (lw_at lw_m8 23 rfl) rfl
theorem q1823 : (Jvm.Cond.selects "DutyBeatsModel" ({ cls := "DutyBeatsModel", name := "ruled", desc := "(I)I" } : Jvm.MethodName) ({ cls := "DutyBeatsModel", name := "ruled", desc := "(I)I" } : Jvm.MethodName)) ∈ lw_all := lw_g (lw_at lw_m8 24 rfl) rfl
theorem q1824 : (Jvm.Cond.code ({ cls := "DutyBeatsModel", name := "ruled", desc := "(I)I" } : Jvm.MethodName) prog_19_method_109_code (5 : Nat) (Option.some Jvm.ClassFile.FieldType.int)) ∈ lw_all := lw_g (lw_at lw_m8 25 rfl) rfl
theorem q1825 : (Jvm.Cond.methodLink "DutyBeatsModel" (448 : Nat) ({ cls := "DutyBeatsModel", name := "fillsFits", desc := "(I)V" } : Jvm.MethodName)) ∈ lw_all := lw_g (lw_at lw_m8 26 rfl) rfl
theorem q1826 : (Jvm.Cond.privateMethod ({ cls := "DutyBeatsModel", name := "fillsFits", desc := "(I)V" } : Jvm.MethodName)) ∈ lw_tbl := lw_at lw_m8 27 rfl
theorem q1827 : (Jvm.Cond.instanceMethod ({ cls := "DutyBeatsModel", name := "fillsFits", desc := "(I)V" } : Jvm.MethodName)) ∈ lw_all := lw_g (lw_at lw_m8 28 rfl) rfl
theorem q1828 : (Jvm.Cond.code ({ cls := "DutyBeatsModel", name := "fillsFits", desc := "(I)V" } : Jvm.MethodName) prog_19_method_108_code (7 : Nat) (Option.none : Option Jvm.ClassFile.FieldType)) ∈ lw_all := lw_g (lw_at lw_m8 29 rfl) rfl
theorem q1829 : (Jvm.Cond.methodLink "DutyBeatsModel" (445 : Nat) ({ cls := "DutyBeatsModel", name := "areNotesSo", desc := "(I)Z" } : Jvm.MethodName)) ∈ lw_all := lw_g (lw_at lw_m8 30 rfl) rfl
theorem q1830 : (Jvm.Cond.privateMethod ({ cls := "DutyBeatsModel", name := "areNotesSo", desc := "(I)Z" } : Jvm.MethodName)) ∈ lw_tbl := lw_at lw_m8 31 rfl
theorem q1831 : (Jvm.Cond.instanceMethod ({ cls := "DutyBeatsModel", name := "areNotesSo", desc := "(I)Z" } : Jvm.MethodName)) ∈ lw_all := lw_g (lw_at lw_m8 32 rfl) rfl
theorem q1832 : (Jvm.Cond.code ({ cls := "DutyBeatsModel", name := "areNotesSo", desc := "(I)Z" } : Jvm.MethodName) prog_19_method_107_code (3 : Nat) (Option.some Jvm.ClassFile.FieldType.boolean)) ∈ lw_all := lw_g (lw_at lw_m8 33 rfl) rfl
theorem q1834 : (Jvm.Cond.instanceMethod ({ cls := "DutyBeatsModel", name := "look", desc := "(II)I" } : Jvm.MethodName)) ∈ lw_all := lw_g (lw_at lw_m8 35 rfl) rfl
theorem q1835 : (Jvm.Cond.selects "DutyBeatsModel" ({ cls := "DutyBeatsModel", name := "look", desc := "(II)I" } : Jvm.MethodName) ({ cls := "DutyBeatsModel", name := "look", desc := "(II)I" } : Jvm.MethodName)) ∈ lw_all := lw_g (lw_at lw_m8 36 rfl) rfl
theorem q1836 : (Jvm.Cond.code ({ cls := "DutyBeatsModel", name := "look", desc := "(II)I" } : Jvm.MethodName) prog_19_method_111_code (7 : Nat) (Option.some Jvm.ClassFile.FieldType.int)) ∈ lw_all := lw_g (lw_at lw_m8 37 rfl) rfl
theorem q1837 : (Jvm.Cond.methodLink "DutyBeatsModel" (451 : Nat) ({ cls := "DutyBeatsModel", name := "alikeAt", desc := "(I)I" } : Jvm.MethodName)) ∈ lw_all := lw_g (lw_at lw_m8 38 rfl) rfl
theorem q1838 : (Jvm.Cond.privateMethod ({ cls := "DutyBeatsModel", name := "alikeAt", desc := "(I)I" } : Jvm.MethodName)) ∈ lw_tbl := lw_at lw_m8 39 rfl
theorem q1839 : (Jvm.Cond.instanceMethod ({ cls := "DutyBeatsModel", name := "alikeAt", desc := "(I)I" } : Jvm.MethodName)) ∈ lw_all := lw_g (lw_at lw_m8 40 rfl) rfl
theorem q1840 : (Jvm.Cond.code ({ cls := "DutyBeatsModel", name := "alikeAt", desc := "(I)I" } : Jvm.MethodName) prog_19_method_110_code (6 : Nat) (Option.some Jvm.ClassFile.FieldType.int)) ∈ lw_all := lw_g (lw_at lw_m8 41 rfl) rfl
theorem q1842 : (Jvm.Cond.instanceMethod ({ cls := "DutyBeatsModel", name := "seed", desc := "(I)I" } : Jvm.MethodName)) ∈ lw_all := lw_g (lw_at lw_m8 43 rfl) rfl
theorem q1843 : (Jvm.Cond.selects "DutyBeatsModel" ({ cls := "DutyBeatsModel", name := "seed", desc := "(I)I" } : Jvm.MethodName) ({ cls := "DutyBeatsModel", name := "seed", desc := "(I)I" } : Jvm.MethodName)) ∈ lw_all := lw_g (lw_at lw_m8 44 rfl) rfl
theorem q1844 : (Jvm.Cond.code ({ cls := "DutyBeatsModel", name := "seed", desc := "(I)I" } : Jvm.MethodName) prog_19_method_112_code (3 : Nat) (Option.some Jvm.ClassFile.FieldType.int)) ∈ lw_all := lw_g (lw_at lw_m8 45 rfl) rfl
theorem q1846 : (Jvm.Cond.instanceMethod ({ cls := "DutyBeatsModel", name := "mornings", desc := "(IIII)I" } : Jvm.MethodName)) ∈ lw_all := lw_g (lw_at lw_m8 47 rfl) rfl
theorem q1847 : (Jvm.Cond.selects "DutyBeatsModel" ({ cls := "DutyBeatsModel", name := "mornings", desc := "(IIII)I" } : Jvm.MethodName) ({ cls := "DutyBeatsModel", name := "mornings", desc := "(IIII)I" } : Jvm.MethodName)) ∈ lw_all := lw_g (lw_at lw_m8 48 rfl) rfl
theorem q1848 : (Jvm.Cond.code ({ cls := "DutyBeatsModel", name := "mornings", desc := "(IIII)I" } : Jvm.MethodName) prog_19_method_114_code (10 : Nat) (Option.some Jvm.ClassFile.FieldType.int)) ∈ lw_all := lw_g (lw_at lw_m8 49 rfl) rfl
theorem q1849 : (Jvm.Cond.constantLong "DutyBeatsModel" (469 : Nat) (10 : Int64)) ∈ lw_all := lw_g (lw_at lw_m8 50 rfl) rfl
theorem q1850 : (Jvm.Cond.constant "DutyBeatsModel" (471 : Nat) (-100000 : Int32)) ∈ lw_all := lw_g (lw_at lw_m8 51 rfl) rfl
theorem q1851 : (Jvm.Cond.methodLink "DutyBeatsModel" (472 : Nat) ({ cls := "DutyBeatsModel", name := "draw", desc := "(I)I" } : Jvm.MethodName)) ∈ lw_all := lw_g (lw_at lw_m8 52 rfl) rfl
theorem q1852 : (Jvm.Cond.privateMethod ({ cls := "DutyBeatsModel", name := "draw", desc := "(I)I" } : Jvm.MethodName)) ∈ lw_tbl := lw_at lw_m8 53 rfl
theorem q1853 : (Jvm.Cond.instanceMethod ({ cls := "DutyBeatsModel", name := "draw", desc := "(I)I" } : Jvm.MethodName)) ∈ lw_all := lw_g (lw_at lw_m8 54 rfl) rfl
theorem q1854 : (Jvm.Cond.code ({ cls := "DutyBeatsModel", name := "draw", desc := "(I)I" } : Jvm.MethodName) prog_19_method_113_code (2 : Nat) (Option.some Jvm.ClassFile.FieldType.int)) ∈ lw_all := lw_g (lw_at lw_m8 55 rfl) rfl
theorem q1855 : (Jvm.Cond.constantLong "DutyBeatsModel" (461 : Nat) (1103515245 : Int64)) ∈ lw_all := lw_g (lw_at lw_m8 56 rfl) rfl
theorem q1856 : (Jvm.Cond.constantLong "DutyBeatsModel" (463 : Nat) (12345 : Int64)) ∈ lw_all := lw_g (lw_at lw_m8 57 rfl) rfl
theorem q1857 : (Jvm.Cond.constantLong "DutyBeatsModel" (465 : Nat) (2147483648 : Int64)) ∈ lw_all := lw_g (lw_at lw_m8 58 rfl) rfl
theorem q1858 : (Jvm.Cond.constantLong "DutyBeatsModel" (467 : Nat) (65536 : Int64)) ∈ lw_all := lw_g (lw_at lw_m8 59 rfl) rfl
theorem q1860 : (Jvm.Cond.instanceMethod ({ cls := "DutyBeatsModel", name := "count", desc := "(I)I" } : Jvm.MethodName)) ∈ lw_all := lw_g (lw_at lw_m8 61 rfl) rfl
theorem q1861 : (Jvm.Cond.selects "DutyBeatsModel" ({ cls := "DutyBeatsModel", name := "count", desc := "(I)I" } : Jvm.MethodName) ({ cls := "DutyBeatsModel", name := "count", desc := "(I)I" } : Jvm.MethodName)) ∈ lw_all := lw_g (lw_at lw_m8 62 rfl) rfl
theorem q1862 : (Jvm.Cond.code ({ cls := "DutyBeatsModel", name := "count", desc := "(I)I" } : Jvm.MethodName) prog_19_method_115_code (2 : Nat) (Option.some Jvm.ClassFile.FieldType.int)) ∈ lw_all := lw_g (lw_at lw_m8 63 rfl) rfl
theorem q1864 : (Jvm.Cond.instanceMethod ({ cls := "DutyBeatsModel", name := "image", desc := "(I)I" } : Jvm.MethodName)) ∈ lw_all := lw_g (lw_at lw_m8 65 rfl) rfl
theorem q1865 : (Jvm.Cond.selects "DutyBeatsModel" ({ cls := "DutyBeatsModel", name := "image", desc := "(I)I" } : Jvm.MethodName) ({ cls := "DutyBeatsModel", name := "image", desc := "(I)I" } : Jvm.MethodName)) ∈ lw_all := lw_g (lw_at lw_m8 66 rfl) rfl
theorem q1866 : (Jvm.Cond.code ({ cls := "DutyBeatsModel", name := "image", desc := "(I)I" } : Jvm.MethodName) prog_19_method_116_code (3 : Nat) (Option.some Jvm.ClassFile.FieldType.int)) ∈ lw_all := lw_g (lw_at lw_m8 67 rfl) rfl
theorem q1868 : (Jvm.Cond.instanceMethod ({ cls := "DutyBeatsModel", name := "back", desc := "(I)I" } : Jvm.MethodName)) ∈ lw_all := lw_g (lw_at lw_m8 69 rfl) rfl
theorem q1869 : (Jvm.Cond.selects "DutyBeatsModel" ({ cls := "DutyBeatsModel", name := "back", desc := "(I)I" } : Jvm.MethodName) ({ cls := "DutyBeatsModel", name := "back", desc := "(I)I" } : Jvm.MethodName)) ∈ lw_all := lw_g (lw_at lw_m8 70 rfl) rfl
theorem q1870 : (Jvm.Cond.code ({ cls := "DutyBeatsModel", name := "back", desc := "(I)I" } : Jvm.MethodName) prog_19_method_117_code (3 : Nat) (Option.some Jvm.ClassFile.FieldType.int)) ∈ lw_all := lw_g (lw_at lw_m8 71 rfl) rfl
theorem q1880 : (Jvm.Cond.castable "DutyBeatsModel" "java/lang/Object") ∈ lw_tbl := lw_at lw_m8 81 rfl
theorem in_X4 : ∀ w ∈ wsX40, w ∈ lw_all := lw_in wsX40 [1289, 1291, 1293, 1295, 1297, 1299, 1301, 1303, 1305, 1307, 1309, 1311, 1313, 1315, 1317, 1319, 1321, 1323, 1325, 1327, 1329, 1331, 1333, 1335, 1337, 1339, 1341, 1343, 1345, 1347, 1349, 1351, 1353, 1355, 1357, 1359, 1361, 1363, 1365, 1367, 1369, 1371] (by decide +kernel) (by decide +kernel)
def RX5 : String := "DutyBeats$Parser"
def TX5 : u_T := fun k => match k with
  | 0 => ("DutyBeats$Parser", "names", "[Ljava/lang/String;", true)
  | 1 => ("DutyBeats$Parser", "at", "I", false)
  | 2 => ("DutyBeats$Parser", "deep", "I", false)
  | 3 => ("DutyBeats$Parser", "counted", "I", false)
  | 4 => ("DutyBeats$Parser", "clauses", "I", false)
  | 5 => ("DutyBeats$Parser", "most", "I", true)
  | _ => ("DutyBeats$Parser", "this$0", "LDutyBeats;", true)
def tyX5 : Nat → FieldType := fun k => match k with
  | 0 => .array (.object "java/lang/String")
  | 1 => .int
  | 2 => .int
  | 3 => .int
  | 4 => .int
  | 5 => .int
  | _ => .object "DutyBeats"
abbrev wsX50 : List Cond := u_ws RX5 TX5 7
theorem nmX5 : ∀ a, a < 7 → ∀ b, b < 7 → a ≠ b → (TX5 a).2.1 ≠ (TX5 b).2.1 := by decide +kernel
theorem tyX5_ok : ∀ k, k < 7 → parseFieldDescriptor (TX5 k).2.2.1 = some (tyX5 k) := by decide +kernel
theorem q130 : (Jvm.Cond.initialized "DutyBeats$Parser") ∈ lw_all := lw_g (lw_at lw_m1 11 rfl) rfl
theorem q198 : (Jvm.Cond.fieldLinkNest "DutyBeats$Parser" (150 : Nat) "DutyBeats$Junction" "roads" "Ljava/util/ArrayList;" "DutyBeats") ∈ lw_tbl := lw_at lw_m1 79 rfl
theorem q201 : (Jvm.Cond.fieldLinkNest "DutyBeats$Parser" (169 : Nat) "DutyBeats$Junction" "clashes" "[I" "DutyBeats") ∈ lw_tbl := lw_at lw_m1 82 rfl
theorem q204 : (Jvm.Cond.fieldLinkNest "DutyBeats$Parser" (196 : Nat) "DutyBeats$Junction" "score" "[I" "DutyBeats") ∈ lw_tbl := lw_at lw_m1 85 rfl
theorem q206 : (Jvm.Cond.fieldLinkNest "DutyBeats$Parser" (173 : Nat) "DutyBeats$Junction" "bar" "I" "DutyBeats") ∈ lw_tbl := lw_at lw_m1 87 rfl
theorem q207 : (Jvm.Cond.fieldLinkNest "DutyBeats$Parser" (182 : Nat) "DutyBeats$Junction" "room" "I" "DutyBeats") ∈ lw_tbl := lw_at lw_m1 88 rfl
theorem q339 : (Jvm.Cond.fieldLinkNest "DutyBeats$Parser" (223 : Nat) "DutyBeats" "rules" "Ljava/util/ArrayList;" "DutyBeats") ∈ lw_tbl := lw_at lw_m1 220 rfl
theorem q343 : (Jvm.Cond.fieldLinkNest "DutyBeats$Parser" (29 : Nat) "DutyBeats" "tape" "[B" "DutyBeats") ∈ lw_tbl := lw_at lw_m1 224 rfl
theorem q345 : (Jvm.Cond.fieldLinkNest "DutyBeats$Parser" (26 : Nat) "DutyBeats" "taped" "I" "DutyBeats") ∈ lw_tbl := lw_at lw_m1 226 rfl
theorem q461 : (Jvm.Cond.instantiable "DutyBeats$Parser" (7 : Nat)) ∈ lw_all := lw_g (lw_at lw_m2 102 rfl) rfl
theorem q463 : (Jvm.Cond.instanceMethod ({ cls := "DutyBeats$Parser", name := "<init>", desc := "(LDutyBeats;[Ljava/lang/String;I)V" } : Jvm.MethodName)) ∈ lw_all := lw_g (lw_at lw_m2 104 rfl) rfl
theorem q464 : (Jvm.Cond.code ({ cls := "DutyBeats$Parser", name := "<init>", desc := "(LDutyBeats;[Ljava/lang/String;I)V" } : Jvm.MethodName) prog_10_method_1_code (4 : Nat) (Option.none : Option Jvm.ClassFile.FieldType)) ∈ lw_all := lw_g (lw_at lw_m2 105 rfl) rfl
theorem q465 : (Jvm.Cond.methodLink "DutyBeats$Parser" (9 : Nat) ({ cls := "java/lang/Object", name := "<init>", desc := "()V" } : Jvm.MethodName)) ∈ lw_all := lw_g (lw_at lw_m2 106 rfl) rfl
theorem q466 : (Jvm.Cond.fieldLink "DutyBeats$Parser" (15 : Nat) "DutyBeats$Parser" "names" "[Ljava/lang/String;") ∈ lw_all := lw_g (lw_at lw_m2 107 rfl) rfl
theorem q467 : (Jvm.Cond.fieldLink "DutyBeats$Parser" (23 : Nat) "DutyBeats$Parser" "at" "I") ∈ lw_all := lw_g (lw_at lw_m2 108 rfl) rfl
theorem q468 : (Jvm.Cond.fieldLink "DutyBeats$Parser" (76 : Nat) "DutyBeats$Parser" "deep" "I") ∈ lw_all := lw_g (lw_at lw_m2 109 rfl) rfl
theorem q469 : (Jvm.Cond.fieldLink "DutyBeats$Parser" (73 : Nat) "DutyBeats$Parser" "counted" "I") ∈ lw_all := lw_g (lw_at lw_m2 110 rfl) rfl
theorem q470 : (Jvm.Cond.fieldLink "DutyBeats$Parser" (147 : Nat) "DutyBeats$Parser" "clauses" "I") ∈ lw_all := lw_g (lw_at lw_m2 111 rfl) rfl
theorem q471 : (Jvm.Cond.fieldLink "DutyBeats$Parser" (19 : Nat) "DutyBeats$Parser" "most" "I") ∈ lw_all := lw_g (lw_at lw_m2 112 rfl) rfl
theorem q472 : (Jvm.Cond.fieldLink "DutyBeats$Parser" (3 : Nat) "DutyBeats$Parser" "this$0" "LDutyBeats;") ∈ lw_all := lw_g (lw_at lw_m2 113 rfl) rfl
theorem q473 : (Jvm.Cond.laysFinal "DutyBeats$Parser" "DutyBeats$Parser" "names" "[Ljava/lang/String;") ∈ lw_all := lw_g (lw_at lw_m2 114 rfl) rfl
theorem q474 : (Jvm.Cond.soleField "DutyBeats$Parser" "names") ∈ lw_all := lw_g (lw_at lw_m2 115 rfl) rfl
theorem q475 : (Jvm.Cond.lays "DutyBeats$Parser" "DutyBeats$Parser" "at" "I") ∈ lw_all := lw_g (lw_at lw_m2 116 rfl) rfl
theorem q476 : (Jvm.Cond.soleField "DutyBeats$Parser" "at") ∈ lw_all := lw_g (lw_at lw_m2 117 rfl) rfl
theorem q477 : (Jvm.Cond.lays "DutyBeats$Parser" "DutyBeats$Parser" "deep" "I") ∈ lw_all := lw_g (lw_at lw_m2 118 rfl) rfl
theorem q478 : (Jvm.Cond.soleField "DutyBeats$Parser" "deep") ∈ lw_all := lw_g (lw_at lw_m2 119 rfl) rfl
theorem q479 : (Jvm.Cond.lays "DutyBeats$Parser" "DutyBeats$Parser" "counted" "I") ∈ lw_all := lw_g (lw_at lw_m2 120 rfl) rfl
theorem q480 : (Jvm.Cond.soleField "DutyBeats$Parser" "counted") ∈ lw_all := lw_g (lw_at lw_m2 121 rfl) rfl
theorem q481 : (Jvm.Cond.lays "DutyBeats$Parser" "DutyBeats$Parser" "clauses" "I") ∈ lw_all := lw_g (lw_at lw_m2 122 rfl) rfl
theorem q482 : (Jvm.Cond.soleField "DutyBeats$Parser" "clauses") ∈ lw_all := lw_g (lw_at lw_m2 123 rfl) rfl
theorem q483 : (Jvm.Cond.laysFinal "DutyBeats$Parser" "DutyBeats$Parser" "most" "I") ∈ lw_all := lw_g (lw_at lw_m2 124 rfl) rfl
theorem q484 : (Jvm.Cond.soleField "DutyBeats$Parser" "most") ∈ lw_all := lw_g (lw_at lw_m2 125 rfl) rfl
theorem q485 : (Jvm.Cond.laysFinal "DutyBeats$Parser" "DutyBeats$Parser" "this$0" "LDutyBeats;") ∈ lw_all := lw_g (lw_at lw_m2 126 rfl) rfl
theorem q486 : (Jvm.Cond.soleField "DutyBeats$Parser" "this$0") ∈ lw_all := lw_g (lw_at lw_m2 127 rfl) rfl
theorem q487 : (Jvm.Cond.superclass "DutyBeats$Parser" "java/lang/Object") ∈ lw_all := lw_g (lw_at lw_m2 128 rfl) rfl
theorem q489 : (Jvm.Cond.instanceMethod ({ cls := "DutyBeats$Parser", name := "junction", desc := "()LDutyBeats$Junction;" } : Jvm.MethodName)) ∈ lw_all := lw_g (lw_at lw_m2 130 rfl) rfl
theorem q490 : (Jvm.Cond.selects "DutyBeats$Parser" ({ cls := "DutyBeats$Parser", name := "junction", desc := "()LDutyBeats$Junction;" } : Jvm.MethodName) ({ cls := "DutyBeats$Parser", name := "junction", desc := "()LDutyBeats$Junction;" } : Jvm.MethodName)) ∈ lw_all := lw_g (lw_at lw_m2 131 rfl) rfl
theorem q491 : (Jvm.Cond.code ({ cls := "DutyBeats$Parser", name := "junction", desc := "()LDutyBeats$Junction;" } : Jvm.MethodName) prog_10_method_22_code (2 : Nat) (Option.some (Jvm.ClassFile.FieldType.object "DutyBeats$Junction"))) ∈ lw_all := lw_g (lw_at lw_m2 132 rfl) rfl
theorem q492 : (Jvm.Cond.classLink "DutyBeats$Parser" (151 : Nat) "DutyBeats$Junction") ∈ lw_all := lw_g (lw_at lw_m2 133 rfl) rfl
theorem q493 : (Jvm.Cond.methodLinkNest "DutyBeats$Parser" (212 : Nat) ({ cls := "DutyBeats$Junction", name := "<init>", desc := "()V" } : Jvm.MethodName) "DutyBeats") ∈ lw_tbl := lw_at lw_m2 134 rfl
theorem q494 : (Jvm.Cond.methodLink "DutyBeats$Parser" (213 : Nat) ({ cls := "DutyBeats$Parser", name := "clause", desc := "(LDutyBeats$Junction;)V" } : Jvm.MethodName)) ∈ lw_all := lw_g (lw_at lw_m2 135 rfl) rfl
theorem q495 : (Jvm.Cond.privateMethod ({ cls := "DutyBeats$Parser", name := "clause", desc := "(LDutyBeats$Junction;)V" } : Jvm.MethodName)) ∈ lw_tbl := lw_at lw_m2 136 rfl
theorem q496 : (Jvm.Cond.instanceMethod ({ cls := "DutyBeats$Parser", name := "clause", desc := "(LDutyBeats$Junction;)V" } : Jvm.MethodName)) ∈ lw_all := lw_g (lw_at lw_m2 137 rfl) rfl
theorem q497 : (Jvm.Cond.code ({ cls := "DutyBeats$Parser", name := "clause", desc := "(LDutyBeats$Junction;)V" } : Jvm.MethodName) prog_10_method_19_code (4 : Nat) (Option.none : Option Jvm.ClassFile.FieldType)) ∈ lw_all := lw_g (lw_at lw_m2 138 rfl) rfl
theorem q498 : (Jvm.Cond.stringRef "DutyBeats$Parser" (176 : Nat) "junction") ∈ lw_tbl := lw_at lw_m2 139 rfl
theorem q499 : (Jvm.Cond.methodLink "DutyBeats$Parser" (178 : Nat) ({ cls := "DutyBeats$Parser", name := "begins", desc := "(Ljava/lang/String;Z)Z" } : Jvm.MethodName)) ∈ lw_all := lw_g (lw_at lw_m2 140 rfl) rfl
theorem q500 : (Jvm.Cond.privateMethod ({ cls := "DutyBeats$Parser", name := "begins", desc := "(Ljava/lang/String;Z)Z" } : Jvm.MethodName)) ∈ lw_tbl := lw_at lw_m2 141 rfl
theorem q501 : (Jvm.Cond.instanceMethod ({ cls := "DutyBeats$Parser", name := "begins", desc := "(Ljava/lang/String;Z)Z" } : Jvm.MethodName)) ∈ lw_all := lw_g (lw_at lw_m2 142 rfl) rfl
theorem q502 : (Jvm.Cond.code ({ cls := "DutyBeats$Parser", name := "begins", desc := "(Ljava/lang/String;Z)Z" } : Jvm.MethodName) prog_10_method_16_code (3 : Nat) (Option.some Jvm.ClassFile.FieldType.boolean)) ∈ lw_all := lw_g (lw_at lw_m2 143 rfl) rfl
theorem q503 : (Jvm.Cond.methodLink "DutyBeats$Parser" (61 : Nat) ({ cls := "DutyBeats$Parser", name := "isWord", desc := "(Ljava/lang/String;)Z" } : Jvm.MethodName)) ∈ lw_all := lw_g (lw_at lw_m2 144 rfl) rfl
theorem q504 : (Jvm.Cond.privateMethod ({ cls := "DutyBeats$Parser", name := "isWord", desc := "(Ljava/lang/String;)Z" } : Jvm.MethodName)) ∈ lw_tbl := lw_at lw_m2 145 rfl
theorem q505 : (Jvm.Cond.instanceMethod ({ cls := "DutyBeats$Parser", name := "isWord", desc := "(Ljava/lang/String;)Z" } : Jvm.MethodName)) ∈ lw_all := lw_g (lw_at lw_m2 146 rfl) rfl
theorem q506 : (Jvm.Cond.code ({ cls := "DutyBeats$Parser", name := "isWord", desc := "(Ljava/lang/String;)Z" } : Jvm.MethodName) prog_10_method_5_code (5 : Nat) (Option.some Jvm.ClassFile.FieldType.boolean)) ∈ lw_all := lw_g (lw_at lw_m2 147 rfl) rfl
theorem q507 : (Jvm.Cond.methodLink "DutyBeats$Parser" (45 : Nat) ({ cls := "DutyBeats$Parser", name := "next", desc := "()I" } : Jvm.MethodName)) ∈ lw_all := lw_g (lw_at lw_m2 148 rfl) rfl
theorem q508 : (Jvm.Cond.privateMethod ({ cls := "DutyBeats$Parser", name := "next", desc := "()I" } : Jvm.MethodName)) ∈ lw_tbl := lw_at lw_m2 149 rfl
theorem q509 : (Jvm.Cond.instanceMethod ({ cls := "DutyBeats$Parser", name := "next", desc := "()I" } : Jvm.MethodName)) ∈ lw_all := lw_g (lw_at lw_m2 150 rfl) rfl
theorem q510 : (Jvm.Cond.code ({ cls := "DutyBeats$Parser", name := "next", desc := "()I" } : Jvm.MethodName) prog_10_method_3_code (1 : Nat) (Option.some Jvm.ClassFile.FieldType.int)) ∈ lw_all := lw_g (lw_at lw_m2 151 rfl) rfl
theorem q511 : (Jvm.Cond.methodLink "DutyBeats$Parser" (33 : Nat) ({ cls := "DutyBeats$Parser", name := "sign", desc := "()I" } : Jvm.MethodName)) ∈ lw_all := lw_g (lw_at lw_m2 152 rfl) rfl
theorem q512 : (Jvm.Cond.privateMethod ({ cls := "DutyBeats$Parser", name := "sign", desc := "()I" } : Jvm.MethodName)) ∈ lw_tbl := lw_at lw_m2 153 rfl
theorem q513 : (Jvm.Cond.instanceMethod ({ cls := "DutyBeats$Parser", name := "sign", desc := "()I" } : Jvm.MethodName)) ∈ lw_all := lw_g (lw_at lw_m2 154 rfl) rfl
theorem q514 : (Jvm.Cond.code ({ cls := "DutyBeats$Parser", name := "sign", desc := "()I" } : Jvm.MethodName) prog_10_method_2_code (1 : Nat) (Option.some Jvm.ClassFile.FieldType.int)) ∈ lw_all := lw_g (lw_at lw_m2 155 rfl) rfl
theorem q515 : (Jvm.Cond.constantLong "DutyBeats$Parser" (48 : Nat) (97 : Int64)) ∈ lw_all := lw_g (lw_at lw_m2 156 rfl) rfl
theorem q516 : (Jvm.Cond.constantLong "DutyBeats$Parser" (50 : Nat) (122 : Int64)) ∈ lw_all := lw_g (lw_at lw_m2 157 rfl) rfl
theorem q517 : (Jvm.Cond.methodLinkNest "DutyBeats$Parser" (41 : Nat) ({ cls := "DutyBeats", name := "in", desc := "(JJJ)Z" } : Jvm.MethodName) "DutyBeats") ∈ lw_tbl := lw_at lw_m2 158 rfl
theorem q520 : (Jvm.Cond.methodLink "DutyBeats$Parser" (52 : Nat) ({ cls := "java/lang/String", name := "length", desc := "()I" } : Jvm.MethodName)) ∈ lw_all := lw_g (lw_at lw_m2 161 rfl) rfl
theorem q530 : (Jvm.Cond.methodLink "DutyBeats$Parser" (57 : Nat) ({ cls := "java/lang/String", name := "charAt", desc := "(I)C" } : Jvm.MethodName)) ∈ lw_all := lw_g (lw_at lw_m2 171 rfl) rfl
theorem q568 : (Jvm.Cond.methodLinkNest "DutyBeats$Parser" (69 : Nat) ({ cls := "DutyBeats", name := "fails", desc := "(II)LDutyBeats$Wrong;" } : Jvm.MethodName) "DutyBeats") ∈ lw_tbl := lw_at lw_m2 209 rfl
theorem q572 : (Jvm.Cond.methodLink "DutyBeats$Parser" (82 : Nat) ({ cls := "DutyBeats$Parser", name := "number", desc := "(II)I" } : Jvm.MethodName)) ∈ lw_all := lw_g (lw_at lw_m2 213 rfl) rfl
theorem q573 : (Jvm.Cond.privateMethod ({ cls := "DutyBeats$Parser", name := "number", desc := "(II)I" } : Jvm.MethodName)) ∈ lw_tbl := lw_at lw_m2 214 rfl
theorem q574 : (Jvm.Cond.instanceMethod ({ cls := "DutyBeats$Parser", name := "number", desc := "(II)I" } : Jvm.MethodName)) ∈ lw_all := lw_g (lw_at lw_m2 215 rfl) rfl
theorem q575 : (Jvm.Cond.code ({ cls := "DutyBeats$Parser", name := "number", desc := "(II)I" } : Jvm.MethodName) prog_10_method_7_code (5 : Nat) (Option.some Jvm.ClassFile.FieldType.int)) ∈ lw_all := lw_g (lw_at lw_m2 216 rfl) rfl
theorem q576 : (Jvm.Cond.methodLink "DutyBeats$Parser" (65 : Nat) ({ cls := "DutyBeats$Parser", name := "isDigit", desc := "()Z" } : Jvm.MethodName)) ∈ lw_all := lw_g (lw_at lw_m2 217 rfl) rfl
theorem q577 : (Jvm.Cond.privateMethod ({ cls := "DutyBeats$Parser", name := "isDigit", desc := "()Z" } : Jvm.MethodName)) ∈ lw_tbl := lw_at lw_m2 218 rfl
theorem q578 : (Jvm.Cond.instanceMethod ({ cls := "DutyBeats$Parser", name := "isDigit", desc := "()Z" } : Jvm.MethodName)) ∈ lw_all := lw_g (lw_at lw_m2 219 rfl) rfl
theorem q579 : (Jvm.Cond.code ({ cls := "DutyBeats$Parser", name := "isDigit", desc := "()Z" } : Jvm.MethodName) prog_10_method_4_code (1 : Nat) (Option.some Jvm.ClassFile.FieldType.boolean)) ∈ lw_all := lw_g (lw_at lw_m2 220 rfl) rfl
theorem q580 : (Jvm.Cond.constantLong "DutyBeats$Parser" (37 : Nat) (48 : Int64)) ∈ lw_all := lw_g (lw_at lw_m2 221 rfl) rfl
theorem q581 : (Jvm.Cond.constantLong "DutyBeats$Parser" (39 : Nat) (57 : Int64)) ∈ lw_all := lw_g (lw_at lw_m2 222 rfl) rfl
theorem q582 : (Jvm.Cond.stringRef "DutyBeats$Parser" (185 : Nat) "road") ∈ lw_tbl := lw_at lw_m2 223 rfl
theorem q583 : (Jvm.Cond.methodLink "DutyBeats$Parser" (167 : Nat) ({ cls := "DutyBeats$Junction", name := "roads", desc := "()I" } : Jvm.MethodName)) ∈ lw_all := lw_g (lw_at lw_m2 224 rfl) rfl
theorem q591 : (Jvm.Cond.methodLink "DutyBeats$Parser" (187 : Nat) ({ cls := "DutyBeats$Parser", name := "road", desc := "(LDutyBeats$Junction;)V" } : Jvm.MethodName)) ∈ lw_all := lw_g (lw_at lw_m2 232 rfl) rfl
theorem q592 : (Jvm.Cond.privateMethod ({ cls := "DutyBeats$Parser", name := "road", desc := "(LDutyBeats$Junction;)V" } : Jvm.MethodName)) ∈ lw_tbl := lw_at lw_m2 233 rfl
theorem q593 : (Jvm.Cond.instanceMethod ({ cls := "DutyBeats$Parser", name := "road", desc := "(LDutyBeats$Junction;)V" } : Jvm.MethodName)) ∈ lw_all := lw_g (lw_at lw_m2 234 rfl) rfl
theorem q594 : (Jvm.Cond.code ({ cls := "DutyBeats$Parser", name := "road", desc := "(LDutyBeats$Junction;)V" } : Jvm.MethodName) prog_10_method_17_code (4 : Nat) (Option.none : Option Jvm.ClassFile.FieldType)) ∈ lw_all := lw_g (lw_at lw_m2 235 rfl) rfl
theorem q595 : (Jvm.Cond.classLink "DutyBeats$Parser" (156 : Nat) "DutyBeats$Road") ∈ lw_all := lw_g (lw_at lw_m2 236 rfl) rfl
theorem q597 : (Jvm.Cond.methodLinkNest "DutyBeats$Parser" (158 : Nat) ({ cls := "DutyBeats$Road", name := "<init>", desc := "(III)V" } : Jvm.MethodName) "DutyBeats") ∈ lw_tbl := lw_at lw_m2 238 rfl
theorem q617 : (Jvm.Cond.methodLink "DutyBeats$Parser" (161 : Nat) ({ cls := "java/util/ArrayList", name := "add", desc := "(Ljava/lang/Object;)Z" } : Jvm.MethodName)) ∈ lw_all := lw_g (lw_at lw_m3 18 rfl) rfl
theorem q659 : (Jvm.Cond.selects "DutyBeats$Parser" ({ cls := "java/lang/Object", name := "getClass", desc := "()Ljava/lang/Class;" } : Jvm.MethodName) ({ cls := "java/lang/Object", name := "getClass", desc := "()Ljava/lang/Class;" } : Jvm.MethodName)) ∈ lw_all := lw_g (lw_at lw_m3 60 rfl) rfl
theorem q681 : (Jvm.Cond.stringRef "DutyBeats$Parser" (190 : Nat) "clash") ∈ lw_tbl := lw_at lw_m3 82 rfl
theorem q682 : (Jvm.Cond.methodLink "DutyBeats$Parser" (192 : Nat) ({ cls := "DutyBeats$Parser", name := "clash", desc := "(LDutyBeats$Junction;)V" } : Jvm.MethodName)) ∈ lw_all := lw_g (lw_at lw_m3 83 rfl) rfl
theorem q683 : (Jvm.Cond.privateMethod ({ cls := "DutyBeats$Parser", name := "clash", desc := "(LDutyBeats$Junction;)V" } : Jvm.MethodName)) ∈ lw_tbl := lw_at lw_m3 84 rfl
theorem q684 : (Jvm.Cond.instanceMethod ({ cls := "DutyBeats$Parser", name := "clash", desc := "(LDutyBeats$Junction;)V" } : Jvm.MethodName)) ∈ lw_all := lw_g (lw_at lw_m3 85 rfl) rfl
theorem q685 : (Jvm.Cond.code ({ cls := "DutyBeats$Parser", name := "clash", desc := "(LDutyBeats$Junction;)V" } : Jvm.MethodName) prog_10_method_18_code (5 : Nat) (Option.none : Option Jvm.ClassFile.FieldType)) ∈ lw_all := lw_g (lw_at lw_m3 86 rfl) rfl
theorem q686 : (Jvm.Cond.stringRef "DutyBeats$Parser" (194 : Nat) "score") ∈ lw_tbl := lw_at lw_m3 87 rfl
theorem q687 : (Jvm.Cond.methodLink "DutyBeats$Parser" (216 : Nat) ({ cls := "DutyBeats$Parser", name := "goesOn", desc := "()Z" } : Jvm.MethodName)) ∈ lw_all := lw_g (lw_at lw_m3 88 rfl) rfl
theorem q688 : (Jvm.Cond.privateMethod ({ cls := "DutyBeats$Parser", name := "goesOn", desc := "()Z" } : Jvm.MethodName)) ∈ lw_tbl := lw_at lw_m3 89 rfl
theorem q689 : (Jvm.Cond.instanceMethod ({ cls := "DutyBeats$Parser", name := "goesOn", desc := "()Z" } : Jvm.MethodName)) ∈ lw_all := lw_g (lw_at lw_m3 90 rfl) rfl
theorem q690 : (Jvm.Cond.code ({ cls := "DutyBeats$Parser", name := "goesOn", desc := "()Z" } : Jvm.MethodName) prog_10_method_21_code (2 : Nat) (Option.some Jvm.ClassFile.FieldType.boolean)) ∈ lw_all := lw_g (lw_at lw_m3 91 rfl) rfl
theorem q716 : (Jvm.Cond.instanceMethod ({ cls := "DutyBeats$Parser", name := "rule", desc := "()I" } : Jvm.MethodName)) ∈ lw_all := lw_g (lw_at lw_m3 117 rfl) rfl
theorem q717 : (Jvm.Cond.selects "DutyBeats$Parser" ({ cls := "DutyBeats$Parser", name := "rule", desc := "()I" } : Jvm.MethodName) ({ cls := "DutyBeats$Parser", name := "rule", desc := "()I" } : Jvm.MethodName)) ∈ lw_all := lw_g (lw_at lw_m3 118 rfl) rfl
theorem q718 : (Jvm.Cond.code ({ cls := "DutyBeats$Parser", name := "rule", desc := "()I" } : Jvm.MethodName) prog_10_method_23_code (2 : Nat) (Option.some Jvm.ClassFile.FieldType.int)) ∈ lw_all := lw_g (lw_at lw_m3 119 rfl) rfl
theorem q719 : (Jvm.Cond.classLink "DutyBeats$Parser" (201 : Nat) "DutyBeats$Rule") ∈ lw_all := lw_g (lw_at lw_m3 120 rfl) rfl
theorem q721 : (Jvm.Cond.methodLinkNest "DutyBeats$Parser" (219 : Nat) ({ cls := "DutyBeats$Rule", name := "<init>", desc := "()V" } : Jvm.MethodName) "DutyBeats") ∈ lw_tbl := lw_at lw_m3 122 rfl
theorem q728 : (Jvm.Cond.fieldLinkNest "DutyBeats$Parser" (200 : Nat) "DutyBeats$Rule" "all" "Ljava/util/ArrayList;" "DutyBeats") ∈ lw_tbl := lw_at lw_m3 129 rfl
theorem q732 : (Jvm.Cond.methodLink "DutyBeats$Parser" (220 : Nat) ({ cls := "DutyBeats$Parser", name := "clause", desc := "(LDutyBeats$Rule;)V" } : Jvm.MethodName)) ∈ lw_all := lw_g (lw_at lw_m3 133 rfl) rfl
theorem q733 : (Jvm.Cond.privateMethod ({ cls := "DutyBeats$Parser", name := "clause", desc := "(LDutyBeats$Rule;)V" } : Jvm.MethodName)) ∈ lw_tbl := lw_at lw_m3 134 rfl
theorem q734 : (Jvm.Cond.instanceMethod ({ cls := "DutyBeats$Parser", name := "clause", desc := "(LDutyBeats$Rule;)V" } : Jvm.MethodName)) ∈ lw_all := lw_g (lw_at lw_m3 135 rfl) rfl
theorem q735 : (Jvm.Cond.code ({ cls := "DutyBeats$Parser", name := "clause", desc := "(LDutyBeats$Rule;)V" } : Jvm.MethodName) prog_10_method_20_code (3 : Nat) (Option.none : Option Jvm.ClassFile.FieldType)) ∈ lw_all := lw_g (lw_at lw_m3 136 rfl) rfl
theorem q736 : (Jvm.Cond.stringRef "DutyBeats$Parser" (198 : Nat) "let") ∈ lw_tbl := lw_at lw_m3 137 rfl
theorem q737 : (Jvm.Cond.methodLink "DutyBeats$Parser" (124 : Nat) ({ cls := "DutyBeats$Parser", name := "sum", desc := "()LDutyBeats$Value;" } : Jvm.MethodName)) ∈ lw_all := lw_g (lw_at lw_m3 138 rfl) rfl
theorem q738 : (Jvm.Cond.privateMethod ({ cls := "DutyBeats$Parser", name := "sum", desc := "()LDutyBeats$Value;" } : Jvm.MethodName)) ∈ lw_tbl := lw_at lw_m3 139 rfl
theorem q739 : (Jvm.Cond.instanceMethod ({ cls := "DutyBeats$Parser", name := "sum", desc := "()LDutyBeats$Value;" } : Jvm.MethodName)) ∈ lw_all := lw_g (lw_at lw_m3 140 rfl) rfl
theorem q740 : (Jvm.Cond.code ({ cls := "DutyBeats$Parser", name := "sum", desc := "()LDutyBeats$Value;" } : Jvm.MethodName) prog_10_method_12_code (3 : Nat) (Option.some (Jvm.ClassFile.FieldType.object "DutyBeats$Value"))) ∈ lw_all := lw_g (lw_at lw_m3 141 rfl) rfl
theorem q741 : (Jvm.Cond.methodLink "DutyBeats$Parser" (104 : Nat) ({ cls := "DutyBeats$Parser", name := "term", desc := "()LDutyBeats$Value;" } : Jvm.MethodName)) ∈ lw_all := lw_g (lw_at lw_m3 142 rfl) rfl
theorem q742 : (Jvm.Cond.privateMethod ({ cls := "DutyBeats$Parser", name := "term", desc := "()LDutyBeats$Value;" } : Jvm.MethodName)) ∈ lw_tbl := lw_at lw_m3 143 rfl
theorem q743 : (Jvm.Cond.instanceMethod ({ cls := "DutyBeats$Parser", name := "term", desc := "()LDutyBeats$Value;" } : Jvm.MethodName)) ∈ lw_all := lw_g (lw_at lw_m3 144 rfl) rfl
theorem q744 : (Jvm.Cond.code ({ cls := "DutyBeats$Parser", name := "term", desc := "()LDutyBeats$Value;" } : Jvm.MethodName) prog_10_method_11_code (3 : Nat) (Option.some (Jvm.ClassFile.FieldType.object "DutyBeats$Value"))) ∈ lw_all := lw_g (lw_at lw_m3 145 rfl) rfl
theorem q745 : (Jvm.Cond.methodLink "DutyBeats$Parser" (95 : Nat) ({ cls := "DutyBeats$Parser", name := "value", desc := "()LDutyBeats$Value;" } : Jvm.MethodName)) ∈ lw_all := lw_g (lw_at lw_m3 146 rfl) rfl
theorem q746 : (Jvm.Cond.privateMethod ({ cls := "DutyBeats$Parser", name := "value", desc := "()LDutyBeats$Value;" } : Jvm.MethodName)) ∈ lw_tbl := lw_at lw_m3 147 rfl
theorem q747 : (Jvm.Cond.instanceMethod ({ cls := "DutyBeats$Parser", name := "value", desc := "()LDutyBeats$Value;" } : Jvm.MethodName)) ∈ lw_all := lw_g (lw_at lw_m3 148 rfl) rfl
theorem q748 : (Jvm.Cond.code ({ cls := "DutyBeats$Parser", name := "value", desc := "()LDutyBeats$Value;" } : Jvm.MethodName) prog_10_method_10_code (3 : Nat) (Option.some (Jvm.ClassFile.FieldType.object "DutyBeats$Value"))) ∈ lw_all := lw_g (lw_at lw_m3 149 rfl) rfl
theorem q749 : (Jvm.Cond.classLink "DutyBeats$Parser" (79 : Nat) "DutyBeats$Plain") ∈ lw_all := lw_g (lw_at lw_m3 150 rfl) rfl
theorem q751 : (Jvm.Cond.constant "DutyBeats$Parser" (81 : Nat) (99999 : Int32)) ∈ lw_all := lw_g (lw_at lw_m3 152 rfl) rfl
theorem q752 : (Jvm.Cond.methodLink "DutyBeats$Parser" (86 : Nat) ({ cls := "DutyBeats$Plain", name := "<init>", desc := "(I)V" } : Jvm.MethodName)) ∈ lw_all := lw_g (lw_at lw_m3 153 rfl) rfl
theorem q763 : (Jvm.Cond.methodLink "DutyBeats$Parser" (89 : Nat) ({ cls := "DutyBeats$Parser", name := "counts", desc := "(I)V" } : Jvm.MethodName)) ∈ lw_all := lw_g (lw_at lw_m3 164 rfl) rfl
theorem q764 : (Jvm.Cond.privateMethod ({ cls := "DutyBeats$Parser", name := "counts", desc := "(I)V" } : Jvm.MethodName)) ∈ lw_tbl := lw_at lw_m3 165 rfl
theorem q765 : (Jvm.Cond.instanceMethod ({ cls := "DutyBeats$Parser", name := "counts", desc := "(I)V" } : Jvm.MethodName)) ∈ lw_all := lw_g (lw_at lw_m3 166 rfl) rfl
theorem q766 : (Jvm.Cond.code ({ cls := "DutyBeats$Parser", name := "counts", desc := "(I)V" } : Jvm.MethodName) prog_10_method_8_code (2 : Nat) (Option.none : Option Jvm.ClassFile.FieldType)) ∈ lw_all := lw_g (lw_at lw_m3 167 rfl) rfl
theorem q767 : (Jvm.Cond.classLink "DutyBeats$Parser" (92 : Nat) "DutyBeats$Asked") ∈ lw_all := lw_g (lw_at lw_m3 168 rfl) rfl
theorem q769 : (Jvm.Cond.methodLink "DutyBeats$Parser" (94 : Nat) ({ cls := "DutyBeats$Asked", name := "<init>", desc := "(I)V" } : Jvm.MethodName)) ∈ lw_all := lw_g (lw_at lw_m3 170 rfl) rfl
theorem q777 : (Jvm.Cond.classLink "DutyBeats$Parser" (99 : Nat) "DutyBeats$Joined") ∈ lw_all := lw_g (lw_at lw_m3 178 rfl) rfl
theorem q779 : (Jvm.Cond.methodLink "DutyBeats$Parser" (101 : Nat) ({ cls := "DutyBeats$Joined", name := "<init>", desc := "(LDutyBeats$Value;LDutyBeats$Value;I)V" } : Jvm.MethodName)) ∈ lw_all := lw_g (lw_at lw_m3 180 rfl) rfl
theorem q793 : (Jvm.Cond.classLink "DutyBeats$Parser" (205 : Nat) "DutyBeats$Told") ∈ lw_all := lw_g (lw_at lw_m3 194 rfl) rfl
theorem q795 : (Jvm.Cond.stringRef "DutyBeats$Parser" (207 : Nat) "if") ∈ lw_tbl := lw_at lw_m3 196 rfl
theorem q796 : (Jvm.Cond.methodLink "DutyBeats$Parser" (134 : Nat) ({ cls := "DutyBeats$Parser", name := "takes", desc := "(Ljava/lang/String;)Z" } : Jvm.MethodName)) ∈ lw_all := lw_g (lw_at lw_m3 197 rfl) rfl
theorem q797 : (Jvm.Cond.privateMethod ({ cls := "DutyBeats$Parser", name := "takes", desc := "(Ljava/lang/String;)Z" } : Jvm.MethodName)) ∈ lw_tbl := lw_at lw_m3 198 rfl
theorem q798 : (Jvm.Cond.instanceMethod ({ cls := "DutyBeats$Parser", name := "takes", desc := "(Ljava/lang/String;)Z" } : Jvm.MethodName)) ∈ lw_all := lw_g (lw_at lw_m3 199 rfl) rfl
theorem q799 : (Jvm.Cond.code ({ cls := "DutyBeats$Parser", name := "takes", desc := "(Ljava/lang/String;)Z" } : Jvm.MethodName) prog_10_method_6_code (3 : Nat) (Option.some Jvm.ClassFile.FieldType.boolean)) ∈ lw_all := lw_g (lw_at lw_m3 200 rfl) rfl
theorem q800 : (Jvm.Cond.methodLink "DutyBeats$Parser" (121 : Nat) ({ cls := "DutyBeats$Parser", name := "test", desc := "()LDutyBeats$Condition;" } : Jvm.MethodName)) ∈ lw_all := lw_g (lw_at lw_m3 201 rfl) rfl
theorem q801 : (Jvm.Cond.privateMethod ({ cls := "DutyBeats$Parser", name := "test", desc := "()LDutyBeats$Condition;" } : Jvm.MethodName)) ∈ lw_tbl := lw_at lw_m3 202 rfl
theorem q802 : (Jvm.Cond.instanceMethod ({ cls := "DutyBeats$Parser", name := "test", desc := "()LDutyBeats$Condition;" } : Jvm.MethodName)) ∈ lw_all := lw_g (lw_at lw_m3 203 rfl) rfl
theorem q803 : (Jvm.Cond.code ({ cls := "DutyBeats$Parser", name := "test", desc := "()LDutyBeats$Condition;" } : Jvm.MethodName) prog_10_method_15_code (2 : Nat) (Option.some (Jvm.ClassFile.FieldType.object "DutyBeats$Condition"))) ∈ lw_all := lw_g (lw_at lw_m3 204 rfl) rfl
theorem q804 : (Jvm.Cond.methodLink "DutyBeats$Parser" (142 : Nat) ({ cls := "DutyBeats$Parser", name := "part", desc := "()LDutyBeats$Condition;" } : Jvm.MethodName)) ∈ lw_all := lw_g (lw_at lw_m3 205 rfl) rfl
theorem q805 : (Jvm.Cond.privateMethod ({ cls := "DutyBeats$Parser", name := "part", desc := "()LDutyBeats$Condition;" } : Jvm.MethodName)) ∈ lw_tbl := lw_at lw_m3 206 rfl
theorem q806 : (Jvm.Cond.instanceMethod ({ cls := "DutyBeats$Parser", name := "part", desc := "()LDutyBeats$Condition;" } : Jvm.MethodName)) ∈ lw_all := lw_g (lw_at lw_m3 207 rfl) rfl
theorem q807 : (Jvm.Cond.code ({ cls := "DutyBeats$Parser", name := "part", desc := "()LDutyBeats$Condition;" } : Jvm.MethodName) prog_10_method_14_code (2 : Nat) (Option.some (Jvm.ClassFile.FieldType.object "DutyBeats$Condition"))) ∈ lw_all := lw_g (lw_at lw_m3 208 rfl) rfl
theorem q808 : (Jvm.Cond.methodLink "DutyBeats$Parser" (114 : Nat) ({ cls := "DutyBeats$Parser", name := "fact", desc := "()LDutyBeats$Condition;" } : Jvm.MethodName)) ∈ lw_all := lw_g (lw_at lw_m3 209 rfl) rfl
theorem q809 : (Jvm.Cond.privateMethod ({ cls := "DutyBeats$Parser", name := "fact", desc := "()LDutyBeats$Condition;" } : Jvm.MethodName)) ∈ lw_tbl := lw_at lw_m3 210 rfl
theorem q810 : (Jvm.Cond.instanceMethod ({ cls := "DutyBeats$Parser", name := "fact", desc := "()LDutyBeats$Condition;" } : Jvm.MethodName)) ∈ lw_all := lw_g (lw_at lw_m3 211 rfl) rfl
theorem q811 : (Jvm.Cond.code ({ cls := "DutyBeats$Parser", name := "fact", desc := "()LDutyBeats$Condition;" } : Jvm.MethodName) prog_10_method_13_code (5 : Nat) (Option.some (Jvm.ClassFile.FieldType.object "DutyBeats$Condition"))) ∈ lw_all := lw_g (lw_at lw_m3 212 rfl) rfl
theorem q812 : (Jvm.Cond.stringRef "DutyBeats$Parser" (107 : Nat) "not") ∈ lw_tbl := lw_at lw_m3 213 rfl
theorem q813 : (Jvm.Cond.methodLink "DutyBeats$Parser" (109 : Nat) ({ cls := "DutyBeats$Parser", name := "goesDeeper", desc := "(I)V" } : Jvm.MethodName)) ∈ lw_all := lw_g (lw_at lw_m3 214 rfl) rfl
theorem q814 : (Jvm.Cond.privateMethod ({ cls := "DutyBeats$Parser", name := "goesDeeper", desc := "(I)V" } : Jvm.MethodName)) ∈ lw_tbl := lw_at lw_m3 215 rfl
theorem q815 : (Jvm.Cond.instanceMethod ({ cls := "DutyBeats$Parser", name := "goesDeeper", desc := "(I)V" } : Jvm.MethodName)) ∈ lw_all := lw_g (lw_at lw_m3 216 rfl) rfl
theorem q816 : (Jvm.Cond.code ({ cls := "DutyBeats$Parser", name := "goesDeeper", desc := "(I)V" } : Jvm.MethodName) prog_10_method_9_code (2 : Nat) (Option.none : Option Jvm.ClassFile.FieldType)) ∈ lw_all := lw_g (lw_at lw_m3 217 rfl) rfl
theorem q817 : (Jvm.Cond.classLink "DutyBeats$Parser" (112 : Nat) "DutyBeats$Not") ∈ lw_all := lw_g (lw_at lw_m3 218 rfl) rfl
theorem q819 : (Jvm.Cond.methodLink "DutyBeats$Parser" (118 : Nat) ({ cls := "DutyBeats$Not", name := "<init>", desc := "(LDutyBeats$Condition;)V" } : Jvm.MethodName)) ∈ lw_all := lw_g (lw_at lw_m3 220 rfl) rfl
theorem q830 : (Jvm.Cond.classLink "DutyBeats$Parser" (127 : Nat) "DutyBeats$Compared") ∈ lw_all := lw_g (lw_at lw_m3 231 rfl) rfl
theorem q832 : (Jvm.Cond.methodLink "DutyBeats$Parser" (129 : Nat) ({ cls := "DutyBeats$Compared", name := "<init>", desc := "(LDutyBeats$Value;LDutyBeats$Value;IZ)V" } : Jvm.MethodName)) ∈ lw_all := lw_g (lw_at lw_m3 233 rfl) rfl
theorem q849 : (Jvm.Cond.stringRef "DutyBeats$Parser" (132 : Nat) "and") ∈ lw_tbl := lw_at lw_m4 10 rfl
theorem q850 : (Jvm.Cond.classLink "DutyBeats$Parser" (137 : Nat) "DutyBeats$Both") ∈ lw_all := lw_g (lw_at lw_m4 11 rfl) rfl
theorem q852 : (Jvm.Cond.methodLink "DutyBeats$Parser" (139 : Nat) ({ cls := "DutyBeats$Both", name := "<init>", desc := "(LDutyBeats$Condition;LDutyBeats$Condition;Z)V" } : Jvm.MethodName)) ∈ lw_all := lw_g (lw_at lw_m4 13 rfl) rfl
theorem q866 : (Jvm.Cond.stringRef "DutyBeats$Parser" (145 : Nat) "or") ∈ lw_tbl := lw_at lw_m4 27 rfl
theorem q867 : (Jvm.Cond.methodLinkNest "DutyBeats$Parser" (209 : Nat) ({ cls := "DutyBeats$Told", name := "<init>", desc := "(LDutyBeats$Value;LDutyBeats$Condition;)V" } : Jvm.MethodName) "DutyBeats") ∈ lw_tbl := lw_at lw_m4 28 rfl
theorem q879 : (Jvm.Cond.methodLink "DutyBeats$Parser" (226 : Nat) ({ cls := "java/util/ArrayList", name := "size", desc := "()I" } : Jvm.MethodName)) ∈ lw_all := lw_g (lw_at lw_m4 40 rfl) rfl
theorem q1881 : (Jvm.Cond.castable "DutyBeats$Parser" "java/lang/Object") ∈ lw_tbl := lw_at lw_m8 82 rfl
theorem in_X5 : ∀ w ∈ wsX50, w ∈ lw_all := lw_in wsX50 [473, 475, 477, 479, 481, 483, 485] (by decide +kernel) (by decide +kernel)
def RJ5 : String := "java/lang/String"
theorem q131 : (Jvm.Cond.initialized "java/lang/String") ∈ lw_all := lw_g (lw_at lw_m1 12 rfl) rfl
theorem q521 : (Jvm.Cond.instanceMethod ({ cls := "java/lang/String", name := "length", desc := "()I" } : Jvm.MethodName)) ∈ lw_all := lw_g (lw_at lw_m2 162 rfl) rfl
theorem q522 : (Jvm.Cond.selects "java/lang/String" ({ cls := "java/lang/String", name := "length", desc := "()I" } : Jvm.MethodName) ({ cls := "java/lang/String", name := "length", desc := "()I" } : Jvm.MethodName)) ∈ lw_all := lw_g (lw_at lw_m2 163 rfl) rfl
theorem q523 : (Jvm.Cond.code ({ cls := "java/lang/String", name := "length", desc := "()I" } : Jvm.MethodName) prog_29_method_54_code (1 : Nat) (Option.some Jvm.ClassFile.FieldType.int)) ∈ lw_all := lw_g (lw_at lw_m2 164 rfl) rfl
theorem q524 : (Jvm.Cond.methodLink "java/lang/String" (335 : Nat) ({ cls := "java/lang/String", name := "coder", desc := "()B" } : Jvm.MethodName)) ∈ lw_all := lw_g (lw_at lw_m2 165 rfl) rfl
theorem q525 : (Jvm.Cond.instanceMethod ({ cls := "java/lang/String", name := "coder", desc := "()B" } : Jvm.MethodName)) ∈ lw_all := lw_g (lw_at lw_m2 166 rfl) rfl
theorem q526 : (Jvm.Cond.selects "java/lang/String" ({ cls := "java/lang/String", name := "coder", desc := "()B" } : Jvm.MethodName) ({ cls := "java/lang/String", name := "coder", desc := "()B" } : Jvm.MethodName)) ∈ lw_all := lw_g (lw_at lw_m2 167 rfl) rfl
theorem q527 : (Jvm.Cond.code ({ cls := "java/lang/String", name := "coder", desc := "()B" } : Jvm.MethodName) prog_29_method_152_code (1 : Nat) (Option.some Jvm.ClassFile.FieldType.byte)) ∈ lw_all := lw_g (lw_at lw_m2 168 rfl) rfl
theorem q528 : (Jvm.Cond.fieldLink "java/lang/String" (38 : Nat) "java/lang/String" "COMPACT_STRINGS" "Z") ∈ lw_all := lw_g (lw_at lw_m2 169 rfl) rfl
theorem q529 : (Jvm.Cond.laysStatic "java/lang/String" "COMPACT_STRINGS" "Z") ∈ lw_tbl := lw_at lw_m2 170 rfl
theorem q531 : (Jvm.Cond.instanceMethod ({ cls := "java/lang/String", name := "charAt", desc := "(I)C" } : Jvm.MethodName)) ∈ lw_all := lw_g (lw_at lw_m2 172 rfl) rfl
theorem q532 : (Jvm.Cond.selects "java/lang/String" ({ cls := "java/lang/String", name := "charAt", desc := "(I)C" } : Jvm.MethodName) ({ cls := "java/lang/String", name := "charAt", desc := "(I)C" } : Jvm.MethodName)) ∈ lw_all := lw_g (lw_at lw_m2 173 rfl) rfl
theorem q533 : (Jvm.Cond.code ({ cls := "java/lang/String", name := "charAt", desc := "(I)C" } : Jvm.MethodName) prog_29_method_56_code (2 : Nat) (Option.some Jvm.ClassFile.FieldType.char)) ∈ lw_all := lw_g (lw_at lw_m2 174 rfl) rfl
theorem q534 : (Jvm.Cond.methodLink "java/lang/String" (492 : Nat) ({ cls := "java/lang/String", name := "isLatin1", desc := "()Z" } : Jvm.MethodName)) ∈ lw_all := lw_g (lw_at lw_m2 175 rfl) rfl
theorem q535 : (Jvm.Cond.instanceMethod ({ cls := "java/lang/String", name := "isLatin1", desc := "()Z" } : Jvm.MethodName)) ∈ lw_all := lw_g (lw_at lw_m2 176 rfl) rfl
theorem q536 : (Jvm.Cond.selects "java/lang/String" ({ cls := "java/lang/String", name := "isLatin1", desc := "()Z" } : Jvm.MethodName) ({ cls := "java/lang/String", name := "isLatin1", desc := "()Z" } : Jvm.MethodName)) ∈ lw_all := lw_g (lw_at lw_m2 177 rfl) rfl
theorem q537 : (Jvm.Cond.code ({ cls := "java/lang/String", name := "isLatin1", desc := "()Z" } : Jvm.MethodName) prog_29_method_154_code (1 : Nat) (Option.some Jvm.ClassFile.FieldType.boolean)) ∈ lw_all := lw_g (lw_at lw_m2 178 rfl) rfl
theorem q538 : (Jvm.Cond.methodLink "java/lang/String" (495 : Nat) ({ cls := "java/lang/StringLatin1", name := "charAt", desc := "([BI)C" } : Jvm.MethodName)) ∈ lw_all := lw_g (lw_at lw_m2 179 rfl) rfl
theorem q542 : (Jvm.Cond.static ({ cls := "java/lang/String", name := "checkIndex", desc := "(II)V" } : Jvm.MethodName)) ∈ lw_all := lw_g (lw_at lw_m2 183 rfl) rfl
theorem q543 : (Jvm.Cond.code ({ cls := "java/lang/String", name := "checkIndex", desc := "(II)V" } : Jvm.MethodName) prog_29_method_155_code (2 : Nat) (Option.none : Option Jvm.ClassFile.FieldType)) ∈ lw_all := lw_g (lw_at lw_m2 184 rfl) rfl
theorem q544 : (Jvm.Cond.fieldLink "java/lang/String" (1053 : Nat) "jdk/internal/util/Preconditions" "SIOOBE_FORMATTER" "Ljava/util/function/BiFunction;") ∈ lw_all := lw_g (lw_at lw_m2 185 rfl) rfl
theorem q546 : (Jvm.Cond.methodLink "java/lang/String" (1059 : Nat) ({ cls := "jdk/internal/util/Preconditions", name := "checkIndex", desc := "(IILjava/util/function/BiFunction;)I" } : Jvm.MethodName)) ∈ lw_all := lw_g (lw_at lw_m2 187 rfl) rfl
theorem q549 : (Jvm.Cond.methodLink "java/lang/String" (498 : Nat) ({ cls := "java/lang/StringUTF16", name := "charAt", desc := "([BI)C" } : Jvm.MethodName)) ∈ lw_all := lw_g (lw_at lw_m2 190 rfl) rfl
theorem q1875 : (Jvm.Cond.castable "java/lang/String" "java/lang/Object") ∈ lw_tbl := lw_at lw_m8 76 rfl
theorem q1903 : (Jvm.Cond.fieldLink "java/lang/String" (9 : Nat) "java/lang/String" "value" "[B") ∈ lw_all := lw_g (lw_at lw_m8 104 rfl) rfl
theorem q1904 : (Jvm.Cond.fieldLink "java/lang/String" (15 : Nat) "java/lang/String" "coder" "B") ∈ lw_all := lw_g (lw_at lw_m8 105 rfl) rfl
def RJ6 : String := "java/lang/StringLatin1"
theorem q132 : (Jvm.Cond.initialized "java/lang/StringLatin1") ∈ lw_all := lw_g (lw_at lw_m1 13 rfl) rfl
theorem q539 : (Jvm.Cond.static ({ cls := "java/lang/StringLatin1", name := "charAt", desc := "([BI)C" } : Jvm.MethodName)) ∈ lw_all := lw_g (lw_at lw_m2 180 rfl) rfl
theorem q540 : (Jvm.Cond.code ({ cls := "java/lang/StringLatin1", name := "charAt", desc := "([BI)C" } : Jvm.MethodName) prog_30_method_2_code (2 : Nat) (Option.some Jvm.ClassFile.FieldType.char)) ∈ lw_all := lw_g (lw_at lw_m2 181 rfl) rfl
theorem q541 : (Jvm.Cond.methodLink "java/lang/StringLatin1" (9 : Nat) ({ cls := "java/lang/String", name := "checkIndex", desc := "(II)V" } : Jvm.MethodName)) ∈ lw_all := lw_g (lw_at lw_m2 182 rfl) rfl
def RJ7 : String := "jdk/internal/util/Preconditions"
theorem q133 : (Jvm.Cond.initialized "jdk/internal/util/Preconditions") ∈ lw_all := lw_g (lw_at lw_m1 14 rfl) rfl
theorem q545 : (Jvm.Cond.laysStatic "jdk/internal/util/Preconditions" "SIOOBE_FORMATTER" "Ljava/util/function/BiFunction;") ∈ lw_tbl := lw_at lw_m2 186 rfl
theorem q547 : (Jvm.Cond.static ({ cls := "jdk/internal/util/Preconditions", name := "checkIndex", desc := "(IILjava/util/function/BiFunction;)I" } : Jvm.MethodName)) ∈ lw_all := lw_g (lw_at lw_m2 188 rfl) rfl
theorem q548 : (Jvm.Cond.code ({ cls := "jdk/internal/util/Preconditions", name := "checkIndex", desc := "(IILjava/util/function/BiFunction;)I" } : Jvm.MethodName) prog_46_method_11_code (3 : Nat) (Option.some Jvm.ClassFile.FieldType.int)) ∈ lw_all := lw_g (lw_at lw_m2 189 rfl) rfl
def RJ8 : String := "java/lang/StringUTF16"
theorem q134 : (Jvm.Cond.initialized "java/lang/StringUTF16") ∈ lw_all := lw_g (lw_at lw_m1 15 rfl) rfl
theorem q550 : (Jvm.Cond.static ({ cls := "java/lang/StringUTF16", name := "charAt", desc := "([BI)C" } : Jvm.MethodName)) ∈ lw_all := lw_g (lw_at lw_m2 191 rfl) rfl
theorem q551 : (Jvm.Cond.code ({ cls := "java/lang/StringUTF16", name := "charAt", desc := "([BI)C" } : Jvm.MethodName) prog_31_method_83_code (2 : Nat) (Option.some Jvm.ClassFile.FieldType.char)) ∈ lw_all := lw_g (lw_at lw_m2 192 rfl) rfl
theorem q552 : (Jvm.Cond.methodLink "java/lang/StringUTF16" (67 : Nat) ({ cls := "java/lang/StringUTF16", name := "checkIndex", desc := "(I[B)V" } : Jvm.MethodName)) ∈ lw_all := lw_g (lw_at lw_m2 193 rfl) rfl
theorem q553 : (Jvm.Cond.static ({ cls := "java/lang/StringUTF16", name := "checkIndex", desc := "(I[B)V" } : Jvm.MethodName)) ∈ lw_all := lw_g (lw_at lw_m2 194 rfl) rfl
theorem q554 : (Jvm.Cond.code ({ cls := "java/lang/StringUTF16", name := "checkIndex", desc := "(I[B)V" } : Jvm.MethodName) prog_31_method_91_code (2 : Nat) (Option.none : Option Jvm.ClassFile.FieldType)) ∈ lw_all := lw_g (lw_at lw_m2 195 rfl) rfl
theorem q555 : (Jvm.Cond.methodLink "java/lang/StringUTF16" (48 : Nat) ({ cls := "java/lang/StringUTF16", name := "length", desc := "([B)I" } : Jvm.MethodName)) ∈ lw_all := lw_g (lw_at lw_m2 196 rfl) rfl
theorem q556 : (Jvm.Cond.static ({ cls := "java/lang/StringUTF16", name := "length", desc := "([B)I" } : Jvm.MethodName)) ∈ lw_all := lw_g (lw_at lw_m2 197 rfl) rfl
theorem q557 : (Jvm.Cond.code ({ cls := "java/lang/StringUTF16", name := "length", desc := "([B)I" } : Jvm.MethodName) prog_31_method_6_code (1 : Nat) (Option.some Jvm.ClassFile.FieldType.int)) ∈ lw_all := lw_g (lw_at lw_m2 198 rfl) rfl
theorem q558 : (Jvm.Cond.methodLink "java/lang/StringUTF16" (414 : Nat) ({ cls := "java/lang/String", name := "checkIndex", desc := "(II)V" } : Jvm.MethodName)) ∈ lw_all := lw_g (lw_at lw_m2 199 rfl) rfl
theorem q559 : (Jvm.Cond.methodLink "java/lang/StringUTF16" (71 : Nat) ({ cls := "java/lang/StringUTF16", name := "getChar", desc := "([BI)C" } : Jvm.MethodName)) ∈ lw_all := lw_g (lw_at lw_m2 200 rfl) rfl
theorem q560 : (Jvm.Cond.static ({ cls := "java/lang/StringUTF16", name := "getChar", desc := "([BI)C" } : Jvm.MethodName)) ∈ lw_all := lw_g (lw_at lw_m2 201 rfl) rfl
theorem q561 : (Jvm.Cond.code ({ cls := "java/lang/StringUTF16", name := "getChar", desc := "([BI)C" } : Jvm.MethodName) prog_31_method_5_code (2 : Nat) (Option.some Jvm.ClassFile.FieldType.char)) ∈ lw_all := lw_g (lw_at lw_m2 202 rfl) rfl
theorem q562 : (Jvm.Cond.fieldLink "java/lang/StringUTF16" (44 : Nat) "java/lang/StringUTF16" "$assertionsDisabled" "Z") ∈ lw_all := lw_g (lw_at lw_m2 203 rfl) rfl
theorem q563 : (Jvm.Cond.laysStatic "java/lang/StringUTF16" "$assertionsDisabled" "Z") ∈ lw_tbl := lw_at lw_m2 204 rfl
theorem q564 : (Jvm.Cond.fieldLink "java/lang/StringUTF16" (59 : Nat) "java/lang/StringUTF16" "HI_BYTE_SHIFT" "I") ∈ lw_all := lw_g (lw_at lw_m2 205 rfl) rfl
theorem q565 : (Jvm.Cond.laysStatic "java/lang/StringUTF16" "HI_BYTE_SHIFT" "I") ∈ lw_tbl := lw_at lw_m2 206 rfl
theorem q566 : (Jvm.Cond.fieldLink "java/lang/StringUTF16" (63 : Nat) "java/lang/StringUTF16" "LO_BYTE_SHIFT" "I") ∈ lw_all := lw_g (lw_at lw_m2 207 rfl) rfl
theorem q567 : (Jvm.Cond.laysStatic "java/lang/StringUTF16" "LO_BYTE_SHIFT" "I") ∈ lw_tbl := lw_at lw_m2 208 rfl
def RJ9 : String := "java/lang/Record"
theorem q135 : (Jvm.Cond.initialized "java/lang/Record") ∈ lw_all := lw_g (lw_at lw_m1 16 rfl) rfl
theorem q601 : (Jvm.Cond.instanceMethod ({ cls := "java/lang/Record", name := "<init>", desc := "()V" } : Jvm.MethodName)) ∈ lw_all := lw_g (lw_at lw_m3 2 rfl) rfl
theorem q602 : (Jvm.Cond.code ({ cls := "java/lang/Record", name := "<init>", desc := "()V" } : Jvm.MethodName) prog_28_method_1_code (1 : Nat) (Option.none : Option Jvm.ClassFile.FieldType)) ∈ lw_all := lw_g (lw_at lw_m3 3 rfl) rfl
theorem q603 : (Jvm.Cond.methodLink "java/lang/Record" (1 : Nat) ({ cls := "java/lang/Object", name := "<init>", desc := "()V" } : Jvm.MethodName)) ∈ lw_all := lw_g (lw_at lw_m3 4 rfl) rfl
def RX6 : String := "DutyBeats$Road"
def TX6 : u_T := fun k => match k with
  | 0 => ("DutyBeats$Road", "waiting", "I", true)
  | 1 => ("DutyBeats$Road", "every", "I", true)
  | _ => ("DutyBeats$Road", "part", "I", true)
def tyX6 : Nat → FieldType := fun k => match k with
  | 0 => .int
  | 1 => .int
  | _ => .int
abbrev wsX60 : List Cond := u_ws RX6 TX6 3
theorem nmX6 : ∀ a, a < 3 → ∀ b, b < 3 → a ≠ b → (TX6 a).2.1 ≠ (TX6 b).2.1 := by decide +kernel
theorem tyX6_ok : ∀ k, k < 3 → parseFieldDescriptor (TX6 k).2.2.1 = some (tyX6 k) := by decide +kernel
theorem q136 : (Jvm.Cond.initialized "DutyBeats$Road") ∈ lw_all := lw_g (lw_at lw_m1 17 rfl) rfl
theorem q596 : (Jvm.Cond.instantiable "DutyBeats$Road" (3 : Nat)) ∈ lw_all := lw_g (lw_at lw_m2 237 rfl) rfl
theorem q598 : (Jvm.Cond.instanceMethod ({ cls := "DutyBeats$Road", name := "<init>", desc := "(III)V" } : Jvm.MethodName)) ∈ lw_all := lw_g (lw_at lw_m2 239 rfl) rfl
theorem q599 : (Jvm.Cond.code ({ cls := "DutyBeats$Road", name := "<init>", desc := "(III)V" } : Jvm.MethodName) prog_12_method_1_code (4 : Nat) (Option.none : Option Jvm.ClassFile.FieldType)) ∈ lw_all := lw_g (lw_at lw_m3 0 rfl) rfl
theorem q600 : (Jvm.Cond.methodLink "DutyBeats$Road" (1 : Nat) ({ cls := "java/lang/Record", name := "<init>", desc := "()V" } : Jvm.MethodName)) ∈ lw_all := lw_g (lw_at lw_m3 1 rfl) rfl
theorem q604 : (Jvm.Cond.fieldLink "DutyBeats$Road" (7 : Nat) "DutyBeats$Road" "waiting" "I") ∈ lw_all := lw_g (lw_at lw_m3 5 rfl) rfl
theorem q606 : (Jvm.Cond.fieldLink "DutyBeats$Road" (13 : Nat) "DutyBeats$Road" "every" "I") ∈ lw_all := lw_g (lw_at lw_m3 7 rfl) rfl
theorem q608 : (Jvm.Cond.fieldLink "DutyBeats$Road" (16 : Nat) "DutyBeats$Road" "part" "I") ∈ lw_all := lw_g (lw_at lw_m3 9 rfl) rfl
theorem q610 : (Jvm.Cond.laysFinal "DutyBeats$Road" "DutyBeats$Road" "waiting" "I") ∈ lw_all := lw_g (lw_at lw_m3 11 rfl) rfl
theorem q611 : (Jvm.Cond.soleField "DutyBeats$Road" "waiting") ∈ lw_all := lw_g (lw_at lw_m3 12 rfl) rfl
theorem q612 : (Jvm.Cond.laysFinal "DutyBeats$Road" "DutyBeats$Road" "every" "I") ∈ lw_all := lw_g (lw_at lw_m3 13 rfl) rfl
theorem q613 : (Jvm.Cond.soleField "DutyBeats$Road" "every") ∈ lw_all := lw_g (lw_at lw_m3 14 rfl) rfl
theorem q614 : (Jvm.Cond.laysFinal "DutyBeats$Road" "DutyBeats$Road" "part" "I") ∈ lw_all := lw_g (lw_at lw_m3 15 rfl) rfl
theorem q615 : (Jvm.Cond.soleField "DutyBeats$Road" "part") ∈ lw_all := lw_g (lw_at lw_m3 16 rfl) rfl
theorem q616 : (Jvm.Cond.superclass "DutyBeats$Road" "java/lang/Record") ∈ lw_all := lw_g (lw_at lw_m3 17 rfl) rfl
theorem q661 : (Jvm.Cond.selects "DutyBeats$Road" ({ cls := "java/lang/Object", name := "getClass", desc := "()Ljava/lang/Class;" } : Jvm.MethodName) ({ cls := "java/lang/Object", name := "getClass", desc := "()Ljava/lang/Class;" } : Jvm.MethodName)) ∈ lw_all := lw_g (lw_at lw_m3 62 rfl) rfl
theorem q1882 : (Jvm.Cond.castable "DutyBeats$Road" "java/lang/Object") ∈ lw_tbl := lw_at lw_m8 83 rfl
theorem in_X6 : ∀ w ∈ wsX60, w ∈ lw_all := lw_in wsX60 [610, 612, 614] (by decide +kernel) (by decide +kernel)
def RJ10 : String := "jdk/internal/util/ArraysSupport"
theorem q137 : (Jvm.Cond.initialized "jdk/internal/util/ArraysSupport") ∈ lw_all := lw_g (lw_at lw_m1 18 rfl) rfl
theorem q636 : (Jvm.Cond.static ({ cls := "jdk/internal/util/ArraysSupport", name := "newLength", desc := "(III)I" } : Jvm.MethodName)) ∈ lw_all := lw_g (lw_at lw_m3 37 rfl) rfl
theorem q637 : (Jvm.Cond.code ({ cls := "jdk/internal/util/ArraysSupport", name := "newLength", desc := "(III)I" } : Jvm.MethodName) prog_45_method_27_code (4 : Nat) (Option.some Jvm.ClassFile.FieldType.int)) ∈ lw_all := lw_g (lw_at lw_m3 38 rfl) rfl
theorem q638 : (Jvm.Cond.methodLink "jdk/internal/util/ArraysSupport" (194 : Nat) ({ cls := "java/lang/Math", name := "max", desc := "(II)I" } : Jvm.MethodName)) ∈ lw_all := lw_g (lw_at lw_m3 39 rfl) rfl
theorem q641 : (Jvm.Cond.constant "jdk/internal/util/ArraysSupport" (200 : Nat) (2147483639 : Int32)) ∈ lw_all := lw_g (lw_at lw_m3 42 rfl) rfl
theorem q642 : (Jvm.Cond.methodLink "jdk/internal/util/ArraysSupport" (201 : Nat) ({ cls := "jdk/internal/util/ArraysSupport", name := "hugeLength", desc := "(II)I" } : Jvm.MethodName)) ∈ lw_all := lw_g (lw_at lw_m3 43 rfl) rfl
theorem q643 : (Jvm.Cond.static ({ cls := "jdk/internal/util/ArraysSupport", name := "hugeLength", desc := "(II)I" } : Jvm.MethodName)) ∈ lw_all := lw_g (lw_at lw_m3 44 rfl) rfl
theorem q644 : (Jvm.Cond.code ({ cls := "jdk/internal/util/ArraysSupport", name := "hugeLength", desc := "(II)I" } : Jvm.MethodName) prog_45_method_28_code (3 : Nat) (Option.some Jvm.ClassFile.FieldType.int)) ∈ lw_all := lw_g (lw_at lw_m3 45 rfl) rfl
def RJ11 : String := "java/lang/Math"
theorem q138 : (Jvm.Cond.initialized "java/lang/Math") ∈ lw_all := lw_g (lw_at lw_m1 19 rfl) rfl
theorem q639 : (Jvm.Cond.static ({ cls := "java/lang/Math", name := "max", desc := "(II)I" } : Jvm.MethodName)) ∈ lw_all := lw_g (lw_at lw_m3 40 rfl) rfl
theorem q640 : (Jvm.Cond.code ({ cls := "java/lang/Math", name := "max", desc := "(II)I" } : Jvm.MethodName) prog_27_method_65_code (2 : Nat) (Option.some Jvm.ClassFile.FieldType.int)) ∈ lw_all := lw_g (lw_at lw_m3 41 rfl) rfl
theorem q675 : (Jvm.Cond.static ({ cls := "java/lang/Math", name := "min", desc := "(II)I" } : Jvm.MethodName)) ∈ lw_all := lw_g (lw_at lw_m3 76 rfl) rfl
theorem q676 : (Jvm.Cond.code ({ cls := "java/lang/Math", name := "min", desc := "(II)I" } : Jvm.MethodName) prog_27_method_69_code (2 : Nat) (Option.some Jvm.ClassFile.FieldType.int)) ∈ lw_all := lw_g (lw_at lw_m3 77 rfl) rfl
theorem q972 : (Jvm.Cond.static ({ cls := "java/lang/Math", name := "abs", desc := "(I)I" } : Jvm.MethodName)) ∈ lw_all := lw_g (lw_at lw_m4 133 rfl) rfl
theorem q973 : (Jvm.Cond.code ({ cls := "java/lang/Math", name := "abs", desc := "(I)I" } : Jvm.MethodName) prog_27_method_59_code (1 : Nat) (Option.some Jvm.ClassFile.FieldType.int)) ∈ lw_all := lw_g (lw_at lw_m4 134 rfl) rfl
def RJ12 : String := "java/util/Arrays"
theorem q139 : (Jvm.Cond.initialized "java/util/Arrays") ∈ lw_all := lw_g (lw_at lw_m1 20 rfl) rfl
theorem q646 : (Jvm.Cond.static ({ cls := "java/util/Arrays", name := "copyOf", desc := "([Ljava/lang/Object;I)[Ljava/lang/Object;" } : Jvm.MethodName)) ∈ lw_all := lw_g (lw_at lw_m3 47 rfl) rfl
theorem q647 : (Jvm.Cond.code ({ cls := "java/util/Arrays", name := "copyOf", desc := "([Ljava/lang/Object;I)[Ljava/lang/Object;" } : Jvm.MethodName) prog_39_method_119_code (2 : Nat) (Option.some (Jvm.ClassFile.FieldType.array (Jvm.ClassFile.FieldType.object "java/lang/Object")))) ∈ lw_all := lw_g (lw_at lw_m3 48 rfl) rfl
theorem q648 : (Jvm.Cond.methodLink "java/util/Arrays" (86 : Nat) ({ cls := "java/lang/Object", name := "getClass", desc := "()Ljava/lang/Class;" } : Jvm.MethodName)) ∈ lw_all := lw_g (lw_at lw_m3 49 rfl) rfl
theorem q669 : (Jvm.Cond.methodLink "java/util/Arrays" (300 : Nat) ({ cls := "java/util/Arrays", name := "copyOf", desc := "([Ljava/lang/Object;ILjava/lang/Class;)[Ljava/lang/Object;" } : Jvm.MethodName)) ∈ lw_all := lw_g (lw_at lw_m3 70 rfl) rfl
theorem q670 : (Jvm.Cond.static ({ cls := "java/util/Arrays", name := "copyOf", desc := "([Ljava/lang/Object;ILjava/lang/Class;)[Ljava/lang/Object;" } : Jvm.MethodName)) ∈ lw_all := lw_g (lw_at lw_m3 71 rfl) rfl
theorem q671 : (Jvm.Cond.code ({ cls := "java/util/Arrays", name := "copyOf", desc := "([Ljava/lang/Object;ILjava/lang/Class;)[Ljava/lang/Object;" } : Jvm.MethodName) prog_39_method_120_code (4 : Nat) (Option.some (Jvm.ClassFile.FieldType.array (Jvm.ClassFile.FieldType.object "java/lang/Object")))) ∈ lw_all := lw_g (lw_at lw_m3 72 rfl) rfl
theorem q672 : (Jvm.Cond.classLink "java/util/Arrays" (110 : Nat) "[Ljava/lang/Object;") ∈ lw_all := lw_g (lw_at lw_m3 73 rfl) rfl
theorem q673 : (Jvm.Cond.classLink "java/util/Arrays" (2 : Nat) "java/lang/Object") ∈ lw_all := lw_g (lw_at lw_m3 74 rfl) rfl
theorem q674 : (Jvm.Cond.methodLink "java/util/Arrays" (304 : Nat) ({ cls := "java/lang/Math", name := "min", desc := "(II)I" } : Jvm.MethodName)) ∈ lw_all := lw_g (lw_at lw_m3 75 rfl) rfl
theorem q677 : (Jvm.Cond.methodLink "java/util/Arrays" (150 : Nat) ({ cls := "java/lang/System", name := "arraycopy", desc := "(Ljava/lang/Object;ILjava/lang/Object;II)V" } : Jvm.MethodName)) ∈ lw_all := lw_g (lw_at lw_m3 78 rfl) rfl
def RJ13 : String := "java/util/Objects"
theorem q141 : (Jvm.Cond.initialized "java/util/Objects") ∈ lw_all := lw_g (lw_at lw_m1 22 rfl) rfl
theorem q701 : (Jvm.Cond.static ({ cls := "java/util/Objects", name := "checkIndex", desc := "(II)I" } : Jvm.MethodName)) ∈ lw_all := lw_g (lw_at lw_m3 102 rfl) rfl
theorem q702 : (Jvm.Cond.code ({ cls := "java/util/Objects", name := "checkIndex", desc := "(II)I" } : Jvm.MethodName) prog_42_method_17_code (2 : Nat) (Option.some Jvm.ClassFile.FieldType.int)) ∈ lw_all := lw_g (lw_at lw_m3 103 rfl) rfl
theorem q703 : (Jvm.Cond.methodLink "java/util/Objects" (105 : Nat) ({ cls := "jdk/internal/util/Preconditions", name := "checkIndex", desc := "(IILjava/util/function/BiFunction;)I" } : Jvm.MethodName)) ∈ lw_all := lw_g (lw_at lw_m3 104 rfl) rfl
def RX7 : String := "DutyBeats$Rule"
def TX7 : u_T := fun k => match k with
  | _ => ("DutyBeats$Rule", "all", "Ljava/util/ArrayList;", true)
def tyX7 : Nat → FieldType := fun k => match k with
  | _ => .object "java/util/ArrayList"
abbrev wsX70 : List Cond := u_ws RX7 TX7 1
theorem nmX7 : ∀ a, a < 1 → ∀ b, b < 1 → a ≠ b → (TX7 a).2.1 ≠ (TX7 b).2.1 := by decide +kernel
theorem tyX7_ok : ∀ k, k < 1 → parseFieldDescriptor (TX7 k).2.2.1 = some (tyX7 k) := by decide +kernel
theorem q142 : (Jvm.Cond.initialized "DutyBeats$Rule") ∈ lw_all := lw_g (lw_at lw_m1 23 rfl) rfl
theorem q662 : (Jvm.Cond.selects "DutyBeats$Rule" ({ cls := "java/lang/Object", name := "getClass", desc := "()Ljava/lang/Class;" } : Jvm.MethodName) ({ cls := "java/lang/Object", name := "getClass", desc := "()Ljava/lang/Class;" } : Jvm.MethodName)) ∈ lw_all := lw_g (lw_at lw_m3 63 rfl) rfl
theorem q720 : (Jvm.Cond.instantiable "DutyBeats$Rule" (1 : Nat)) ∈ lw_all := lw_g (lw_at lw_m3 121 rfl) rfl
theorem q722 : (Jvm.Cond.instanceMethod ({ cls := "DutyBeats$Rule", name := "<init>", desc := "()V" } : Jvm.MethodName)) ∈ lw_all := lw_g (lw_at lw_m3 123 rfl) rfl
theorem q723 : (Jvm.Cond.code ({ cls := "DutyBeats$Rule", name := "<init>", desc := "()V" } : Jvm.MethodName) prog_13_method_1_code (1 : Nat) (Option.none : Option Jvm.ClassFile.FieldType)) ∈ lw_all := lw_g (lw_at lw_m3 124 rfl) rfl
theorem q724 : (Jvm.Cond.methodLink "DutyBeats$Rule" (1 : Nat) ({ cls := "java/lang/Object", name := "<init>", desc := "()V" } : Jvm.MethodName)) ∈ lw_all := lw_g (lw_at lw_m3 125 rfl) rfl
theorem q725 : (Jvm.Cond.classLink "DutyBeats$Rule" (7 : Nat) "java/util/ArrayList") ∈ lw_all := lw_g (lw_at lw_m3 126 rfl) rfl
theorem q726 : (Jvm.Cond.methodLink "DutyBeats$Rule" (9 : Nat) ({ cls := "java/util/ArrayList", name := "<init>", desc := "(I)V" } : Jvm.MethodName)) ∈ lw_all := lw_g (lw_at lw_m3 127 rfl) rfl
theorem q727 : (Jvm.Cond.fieldLink "DutyBeats$Rule" (12 : Nat) "DutyBeats$Rule" "all" "Ljava/util/ArrayList;") ∈ lw_all := lw_g (lw_at lw_m3 128 rfl) rfl
theorem q729 : (Jvm.Cond.laysFinal "DutyBeats$Rule" "DutyBeats$Rule" "all" "Ljava/util/ArrayList;") ∈ lw_all := lw_g (lw_at lw_m3 130 rfl) rfl
theorem q730 : (Jvm.Cond.soleField "DutyBeats$Rule" "all") ∈ lw_all := lw_g (lw_at lw_m3 131 rfl) rfl
theorem q731 : (Jvm.Cond.superclass "DutyBeats$Rule" "java/lang/Object") ∈ lw_all := lw_g (lw_at lw_m3 132 rfl) rfl
theorem q872 : (Jvm.Cond.fieldLinkNest "DutyBeats$Rule" (32 : Nat) "DutyBeats$Told" "sum" "LDutyBeats$Value;" "DutyBeats") ∈ lw_tbl := lw_at lw_m4 33 rfl
theorem q980 : (Jvm.Cond.instanceMethod ({ cls := "DutyBeats$Rule", name := "lets", desc := "([J)Z" } : Jvm.MethodName)) ∈ lw_all := lw_g (lw_at lw_m4 141 rfl) rfl
theorem q981 : (Jvm.Cond.selects "DutyBeats$Rule" ({ cls := "DutyBeats$Rule", name := "lets", desc := "([J)Z" } : Jvm.MethodName) ({ cls := "DutyBeats$Rule", name := "lets", desc := "([J)Z" } : Jvm.MethodName)) ∈ lw_all := lw_g (lw_at lw_m4 142 rfl) rfl
theorem q982 : (Jvm.Cond.code ({ cls := "DutyBeats$Rule", name := "lets", desc := "([J)Z" } : Jvm.MethodName) prog_13_method_2_code (3 : Nat) (Option.some Jvm.ClassFile.FieldType.boolean)) ∈ lw_all := lw_g (lw_at lw_m4 143 rfl) rfl
theorem q983 : (Jvm.Cond.methodLink "DutyBeats$Rule" (18 : Nat) ({ cls := "java/util/ArrayList", name := "size", desc := "()I" } : Jvm.MethodName)) ∈ lw_all := lw_g (lw_at lw_m4 144 rfl) rfl
theorem q984 : (Jvm.Cond.methodLink "DutyBeats$Rule" (22 : Nat) ({ cls := "java/util/ArrayList", name := "get", desc := "(I)Ljava/lang/Object;" } : Jvm.MethodName)) ∈ lw_all := lw_g (lw_at lw_m4 145 rfl) rfl
theorem q985 : (Jvm.Cond.classLink "DutyBeats$Rule" (26 : Nat) "DutyBeats$Told") ∈ lw_all := lw_g (lw_at lw_m4 146 rfl) rfl
theorem q986 : (Jvm.Cond.methodLink "DutyBeats$Rule" (28 : Nat) ({ cls := "DutyBeats$Told", name := "holds", desc := "([J)Z" } : Jvm.MethodName)) ∈ lw_all := lw_g (lw_at lw_m4 147 rfl) rfl
theorem q1017 : (Jvm.Cond.methodLink "DutyBeats$Rule" (36 : Nat) ({ cls := "DutyBeats$Value", name := "of", desc := "([J)J" } : Jvm.MethodName)) ∈ lw_all := lw_g (lw_at lw_m4 178 rfl) rfl
theorem q1883 : (Jvm.Cond.castable "DutyBeats$Rule" "java/lang/Object") ∈ lw_tbl := lw_at lw_m8 84 rfl
theorem in_X7 : ∀ w ∈ wsX70, w ∈ lw_all := lw_in wsX70 [729] (by decide +kernel) (by decide +kernel)
def RX8 : String := "DutyBeats$Value"
theorem q143 : (Jvm.Cond.initialized "DutyBeats$Value") ∈ lw_all := lw_g (lw_at lw_m1 24 rfl) rfl
theorem q756 : (Jvm.Cond.instanceMethod ({ cls := "DutyBeats$Value", name := "<init>", desc := "()V" } : Jvm.MethodName)) ∈ lw_all := lw_g (lw_at lw_m3 157 rfl) rfl
theorem q757 : (Jvm.Cond.code ({ cls := "DutyBeats$Value", name := "<init>", desc := "()V" } : Jvm.MethodName) prog_16_method_1_code (1 : Nat) (Option.none : Option Jvm.ClassFile.FieldType)) ∈ lw_all := lw_g (lw_at lw_m3 158 rfl) rfl
theorem q758 : (Jvm.Cond.methodLink "DutyBeats$Value" (1 : Nat) ({ cls := "java/lang/Object", name := "<init>", desc := "()V" } : Jvm.MethodName)) ∈ lw_all := lw_g (lw_at lw_m3 159 rfl) rfl
theorem q1000 : (Jvm.Cond.declares ({ cls := "DutyBeats$Value", name := "of", desc := "([J)J" } : Jvm.MethodName)) ∈ lw_tbl := lw_at lw_m4 161 rfl
theorem q1001 : (Jvm.Cond.sameMethod "DutyBeats$Value" "DutyBeats$Value" "of" "([J)J") ∈ lw_all := lw_g (lw_at lw_m4 162 rfl) rfl
def RX9 : String := "DutyBeats$Plain"
def TX9 : u_T := fun k => match k with
  | _ => ("DutyBeats$Plain", "number", "I", true)
def tyX9 : Nat → FieldType := fun k => match k with
  | _ => .int
abbrev wsX90 : List Cond := u_ws RX9 TX9 1
theorem nmX9 : ∀ a, a < 1 → ∀ b, b < 1 → a ≠ b → (TX9 a).2.1 ≠ (TX9 b).2.1 := by decide +kernel
theorem tyX9_ok : ∀ k, k < 1 → parseFieldDescriptor (TX9 k).2.2.1 = some (tyX9 k) := by decide +kernel
theorem q144 : (Jvm.Cond.initialized "DutyBeats$Plain") ∈ lw_all := lw_g (lw_at lw_m1 25 rfl) rfl
theorem q660 : (Jvm.Cond.selects "DutyBeats$Plain" ({ cls := "java/lang/Object", name := "getClass", desc := "()Ljava/lang/Class;" } : Jvm.MethodName) ({ cls := "java/lang/Object", name := "getClass", desc := "()Ljava/lang/Class;" } : Jvm.MethodName)) ∈ lw_all := lw_g (lw_at lw_m3 61 rfl) rfl
theorem q750 : (Jvm.Cond.instantiable "DutyBeats$Plain" (1 : Nat)) ∈ lw_all := lw_g (lw_at lw_m3 151 rfl) rfl
theorem q753 : (Jvm.Cond.instanceMethod ({ cls := "DutyBeats$Plain", name := "<init>", desc := "(I)V" } : Jvm.MethodName)) ∈ lw_all := lw_g (lw_at lw_m3 154 rfl) rfl
theorem q754 : (Jvm.Cond.code ({ cls := "DutyBeats$Plain", name := "<init>", desc := "(I)V" } : Jvm.MethodName) prog_11_method_1_code (2 : Nat) (Option.none : Option Jvm.ClassFile.FieldType)) ∈ lw_all := lw_g (lw_at lw_m3 155 rfl) rfl
theorem q755 : (Jvm.Cond.methodLinkNest "DutyBeats$Plain" (1 : Nat) ({ cls := "DutyBeats$Value", name := "<init>", desc := "()V" } : Jvm.MethodName) "DutyBeats") ∈ lw_tbl := lw_at lw_m3 156 rfl
theorem q759 : (Jvm.Cond.fieldLink "DutyBeats$Plain" (7 : Nat) "DutyBeats$Plain" "number" "I") ∈ lw_all := lw_g (lw_at lw_m3 160 rfl) rfl
theorem q760 : (Jvm.Cond.laysFinal "DutyBeats$Plain" "DutyBeats$Plain" "number" "I") ∈ lw_all := lw_g (lw_at lw_m3 161 rfl) rfl
theorem q761 : (Jvm.Cond.soleField "DutyBeats$Plain" "number") ∈ lw_all := lw_g (lw_at lw_m3 162 rfl) rfl
theorem q762 : (Jvm.Cond.superclass "DutyBeats$Plain" "DutyBeats$Value") ∈ lw_all := lw_g (lw_at lw_m3 163 rfl) rfl
theorem q1009 : (Jvm.Cond.instanceMethod ({ cls := "DutyBeats$Plain", name := "of", desc := "([J)J" } : Jvm.MethodName)) ∈ lw_all := lw_g (lw_at lw_m4 170 rfl) rfl
theorem q1010 : (Jvm.Cond.code ({ cls := "DutyBeats$Plain", name := "of", desc := "([J)J" } : Jvm.MethodName) prog_11_method_2_code (2 : Nat) (Option.some Jvm.ClassFile.FieldType.long)) ∈ lw_all := lw_g (lw_at lw_m4 171 rfl) rfl
theorem q1011 : (Jvm.Cond.selects "DutyBeats$Plain" ({ cls := "DutyBeats$Value", name := "of", desc := "([J)J" } : Jvm.MethodName) ({ cls := "DutyBeats$Plain", name := "of", desc := "([J)J" } : Jvm.MethodName)) ∈ lw_all := lw_g (lw_at lw_m4 172 rfl) rfl
theorem q1884 : (Jvm.Cond.castable "DutyBeats$Plain" "java/lang/Object") ∈ lw_tbl := lw_at lw_m8 85 rfl
theorem in_X9 : ∀ w ∈ wsX90, w ∈ lw_all := lw_in wsX90 [760] (by decide +kernel) (by decide +kernel)
def RX10 : String := "DutyBeats$Asked"
def TX10 : u_T := fun k => match k with
  | _ => ("DutyBeats$Asked", "word", "I", true)
def tyX10 : Nat → FieldType := fun k => match k with
  | _ => .int
abbrev wsX100 : List Cond := u_ws RX10 TX10 1
theorem nmX10 : ∀ a, a < 1 → ∀ b, b < 1 → a ≠ b → (TX10 a).2.1 ≠ (TX10 b).2.1 := by decide +kernel
theorem tyX10_ok : ∀ k, k < 1 → parseFieldDescriptor (TX10 k).2.2.1 = some (tyX10 k) := by decide +kernel
theorem q145 : (Jvm.Cond.initialized "DutyBeats$Asked") ∈ lw_all := lw_g (lw_at lw_m1 26 rfl) rfl
theorem q652 : (Jvm.Cond.selects "DutyBeats$Asked" ({ cls := "java/lang/Object", name := "getClass", desc := "()Ljava/lang/Class;" } : Jvm.MethodName) ({ cls := "java/lang/Object", name := "getClass", desc := "()Ljava/lang/Class;" } : Jvm.MethodName)) ∈ lw_all := lw_g (lw_at lw_m3 53 rfl) rfl
theorem q768 : (Jvm.Cond.instantiable "DutyBeats$Asked" (1 : Nat)) ∈ lw_all := lw_g (lw_at lw_m3 169 rfl) rfl
theorem q770 : (Jvm.Cond.instanceMethod ({ cls := "DutyBeats$Asked", name := "<init>", desc := "(I)V" } : Jvm.MethodName)) ∈ lw_all := lw_g (lw_at lw_m3 171 rfl) rfl
theorem q771 : (Jvm.Cond.code ({ cls := "DutyBeats$Asked", name := "<init>", desc := "(I)V" } : Jvm.MethodName) prog_2_method_1_code (2 : Nat) (Option.none : Option Jvm.ClassFile.FieldType)) ∈ lw_all := lw_g (lw_at lw_m3 172 rfl) rfl
theorem q772 : (Jvm.Cond.methodLinkNest "DutyBeats$Asked" (1 : Nat) ({ cls := "DutyBeats$Value", name := "<init>", desc := "()V" } : Jvm.MethodName) "DutyBeats") ∈ lw_tbl := lw_at lw_m3 173 rfl
theorem q773 : (Jvm.Cond.fieldLink "DutyBeats$Asked" (7 : Nat) "DutyBeats$Asked" "word" "I") ∈ lw_all := lw_g (lw_at lw_m3 174 rfl) rfl
theorem q774 : (Jvm.Cond.laysFinal "DutyBeats$Asked" "DutyBeats$Asked" "word" "I") ∈ lw_all := lw_g (lw_at lw_m3 175 rfl) rfl
theorem q775 : (Jvm.Cond.soleField "DutyBeats$Asked" "word") ∈ lw_all := lw_g (lw_at lw_m3 176 rfl) rfl
theorem q776 : (Jvm.Cond.superclass "DutyBeats$Asked" "DutyBeats$Value") ∈ lw_all := lw_g (lw_at lw_m3 177 rfl) rfl
theorem q1002 : (Jvm.Cond.selects "DutyBeats$Asked" ({ cls := "DutyBeats$Value", name := "of", desc := "([J)J" } : Jvm.MethodName) ({ cls := "DutyBeats$Asked", name := "of", desc := "([J)J" } : Jvm.MethodName)) ∈ lw_all := lw_g (lw_at lw_m4 163 rfl) rfl
theorem q1003 : (Jvm.Cond.instanceMethod ({ cls := "DutyBeats$Asked", name := "of", desc := "([J)J" } : Jvm.MethodName)) ∈ lw_all := lw_g (lw_at lw_m4 164 rfl) rfl
theorem q1004 : (Jvm.Cond.code ({ cls := "DutyBeats$Asked", name := "of", desc := "([J)J" } : Jvm.MethodName) prog_2_method_2_code (2 : Nat) (Option.some Jvm.ClassFile.FieldType.long)) ∈ lw_all := lw_g (lw_at lw_m4 165 rfl) rfl
theorem q1885 : (Jvm.Cond.castable "DutyBeats$Asked" "java/lang/Object") ∈ lw_tbl := lw_at lw_m8 86 rfl
theorem in_X10 : ∀ w ∈ wsX100, w ∈ lw_all := lw_in wsX100 [774] (by decide +kernel) (by decide +kernel)
def RX11 : String := "DutyBeats$Joined"
def TX11 : u_T := fun k => match k with
  | 0 => ("DutyBeats$Joined", "a", "LDutyBeats$Value;", true)
  | 1 => ("DutyBeats$Joined", "b", "LDutyBeats$Value;", true)
  | _ => ("DutyBeats$Joined", "sign", "I", true)
def tyX11 : Nat → FieldType := fun k => match k with
  | 0 => .object "DutyBeats$Value"
  | 1 => .object "DutyBeats$Value"
  | _ => .int
abbrev wsX110 : List Cond := u_ws RX11 TX11 3
theorem nmX11 : ∀ a, a < 3 → ∀ b, b < 3 → a ≠ b → (TX11 a).2.1 ≠ (TX11 b).2.1 := by decide +kernel
theorem tyX11_ok : ∀ k, k < 3 → parseFieldDescriptor (TX11 k).2.2.1 = some (tyX11 k) := by decide +kernel
theorem q146 : (Jvm.Cond.initialized "DutyBeats$Joined") ∈ lw_all := lw_g (lw_at lw_m1 27 rfl) rfl
theorem q656 : (Jvm.Cond.selects "DutyBeats$Joined" ({ cls := "java/lang/Object", name := "getClass", desc := "()Ljava/lang/Class;" } : Jvm.MethodName) ({ cls := "java/lang/Object", name := "getClass", desc := "()Ljava/lang/Class;" } : Jvm.MethodName)) ∈ lw_all := lw_g (lw_at lw_m3 57 rfl) rfl
theorem q778 : (Jvm.Cond.instantiable "DutyBeats$Joined" (3 : Nat)) ∈ lw_all := lw_g (lw_at lw_m3 179 rfl) rfl
theorem q780 : (Jvm.Cond.instanceMethod ({ cls := "DutyBeats$Joined", name := "<init>", desc := "(LDutyBeats$Value;LDutyBeats$Value;I)V" } : Jvm.MethodName)) ∈ lw_all := lw_g (lw_at lw_m3 181 rfl) rfl
theorem q781 : (Jvm.Cond.code ({ cls := "DutyBeats$Joined", name := "<init>", desc := "(LDutyBeats$Value;LDutyBeats$Value;I)V" } : Jvm.MethodName) prog_7_method_1_code (4 : Nat) (Option.none : Option Jvm.ClassFile.FieldType)) ∈ lw_all := lw_g (lw_at lw_m3 182 rfl) rfl
theorem q782 : (Jvm.Cond.methodLinkNest "DutyBeats$Joined" (1 : Nat) ({ cls := "DutyBeats$Value", name := "<init>", desc := "()V" } : Jvm.MethodName) "DutyBeats") ∈ lw_tbl := lw_at lw_m3 183 rfl
theorem q783 : (Jvm.Cond.fieldLink "DutyBeats$Joined" (7 : Nat) "DutyBeats$Joined" "a" "LDutyBeats$Value;") ∈ lw_all := lw_g (lw_at lw_m3 184 rfl) rfl
theorem q784 : (Jvm.Cond.fieldLink "DutyBeats$Joined" (13 : Nat) "DutyBeats$Joined" "b" "LDutyBeats$Value;") ∈ lw_all := lw_g (lw_at lw_m3 185 rfl) rfl
theorem q785 : (Jvm.Cond.fieldLink "DutyBeats$Joined" (16 : Nat) "DutyBeats$Joined" "sign" "I") ∈ lw_all := lw_g (lw_at lw_m3 186 rfl) rfl
theorem q786 : (Jvm.Cond.laysFinal "DutyBeats$Joined" "DutyBeats$Joined" "a" "LDutyBeats$Value;") ∈ lw_all := lw_g (lw_at lw_m3 187 rfl) rfl
theorem q787 : (Jvm.Cond.soleField "DutyBeats$Joined" "a") ∈ lw_all := lw_g (lw_at lw_m3 188 rfl) rfl
theorem q788 : (Jvm.Cond.laysFinal "DutyBeats$Joined" "DutyBeats$Joined" "b" "LDutyBeats$Value;") ∈ lw_all := lw_g (lw_at lw_m3 189 rfl) rfl
theorem q789 : (Jvm.Cond.soleField "DutyBeats$Joined" "b") ∈ lw_all := lw_g (lw_at lw_m3 190 rfl) rfl
theorem q790 : (Jvm.Cond.laysFinal "DutyBeats$Joined" "DutyBeats$Joined" "sign" "I") ∈ lw_all := lw_g (lw_at lw_m3 191 rfl) rfl
theorem q791 : (Jvm.Cond.soleField "DutyBeats$Joined" "sign") ∈ lw_all := lw_g (lw_at lw_m3 192 rfl) rfl
theorem q792 : (Jvm.Cond.superclass "DutyBeats$Joined" "DutyBeats$Value") ∈ lw_all := lw_g (lw_at lw_m3 193 rfl) rfl
theorem q1005 : (Jvm.Cond.selects "DutyBeats$Joined" ({ cls := "DutyBeats$Value", name := "of", desc := "([J)J" } : Jvm.MethodName) ({ cls := "DutyBeats$Joined", name := "of", desc := "([J)J" } : Jvm.MethodName)) ∈ lw_all := lw_g (lw_at lw_m4 166 rfl) rfl
theorem q1006 : (Jvm.Cond.instanceMethod ({ cls := "DutyBeats$Joined", name := "of", desc := "([J)J" } : Jvm.MethodName)) ∈ lw_all := lw_g (lw_at lw_m4 167 rfl) rfl
theorem q1007 : (Jvm.Cond.code ({ cls := "DutyBeats$Joined", name := "of", desc := "([J)J" } : Jvm.MethodName) prog_7_method_2_code (6 : Nat) (Option.some Jvm.ClassFile.FieldType.long)) ∈ lw_all := lw_g (lw_at lw_m4 168 rfl) rfl
theorem q1008 : (Jvm.Cond.methodLink "DutyBeats$Joined" (20 : Nat) ({ cls := "DutyBeats$Value", name := "of", desc := "([J)J" } : Jvm.MethodName)) ∈ lw_all := lw_g (lw_at lw_m4 169 rfl) rfl
theorem q1886 : (Jvm.Cond.castable "DutyBeats$Joined" "java/lang/Object") ∈ lw_tbl := lw_at lw_m8 87 rfl
theorem in_X11 : ∀ w ∈ wsX110, w ∈ lw_all := lw_in wsX110 [786, 788, 790] (by decide +kernel) (by decide +kernel)
def RX12 : String := "DutyBeats$Told"
def TX12 : u_T := fun k => match k with
  | 0 => ("DutyBeats$Told", "sum", "LDutyBeats$Value;", true)
  | _ => ("DutyBeats$Told", "when", "LDutyBeats$Condition;", true)
def tyX12 : Nat → FieldType := fun k => match k with
  | 0 => .object "DutyBeats$Value"
  | _ => .object "DutyBeats$Condition"
abbrev wsX120 : List Cond := u_ws RX12 TX12 2
theorem nmX12 : ∀ a, a < 2 → ∀ b, b < 2 → a ≠ b → (TX12 a).2.1 ≠ (TX12 b).2.1 := by decide +kernel
theorem tyX12_ok : ∀ k, k < 2 → parseFieldDescriptor (TX12 k).2.2.1 = some (tyX12 k) := by decide +kernel
theorem q147 : (Jvm.Cond.initialized "DutyBeats$Told") ∈ lw_all := lw_g (lw_at lw_m1 28 rfl) rfl
theorem q664 : (Jvm.Cond.selects "DutyBeats$Told" ({ cls := "java/lang/Object", name := "getClass", desc := "()Ljava/lang/Class;" } : Jvm.MethodName) ({ cls := "java/lang/Object", name := "getClass", desc := "()Ljava/lang/Class;" } : Jvm.MethodName)) ∈ lw_all := lw_g (lw_at lw_m3 65 rfl) rfl
theorem q794 : (Jvm.Cond.instantiable "DutyBeats$Told" (2 : Nat)) ∈ lw_all := lw_g (lw_at lw_m3 195 rfl) rfl
theorem q868 : (Jvm.Cond.instanceMethod ({ cls := "DutyBeats$Told", name := "<init>", desc := "(LDutyBeats$Value;LDutyBeats$Condition;)V" } : Jvm.MethodName)) ∈ lw_all := lw_g (lw_at lw_m4 29 rfl) rfl
theorem q869 : (Jvm.Cond.code ({ cls := "DutyBeats$Told", name := "<init>", desc := "(LDutyBeats$Value;LDutyBeats$Condition;)V" } : Jvm.MethodName) prog_15_method_1_code (3 : Nat) (Option.none : Option Jvm.ClassFile.FieldType)) ∈ lw_all := lw_g (lw_at lw_m4 30 rfl) rfl
theorem q870 : (Jvm.Cond.methodLink "DutyBeats$Told" (1 : Nat) ({ cls := "java/lang/Record", name := "<init>", desc := "()V" } : Jvm.MethodName)) ∈ lw_all := lw_g (lw_at lw_m4 31 rfl) rfl
theorem q871 : (Jvm.Cond.fieldLink "DutyBeats$Told" (7 : Nat) "DutyBeats$Told" "sum" "LDutyBeats$Value;") ∈ lw_all := lw_g (lw_at lw_m4 32 rfl) rfl
theorem q873 : (Jvm.Cond.fieldLink "DutyBeats$Told" (13 : Nat) "DutyBeats$Told" "when" "LDutyBeats$Condition;") ∈ lw_all := lw_g (lw_at lw_m4 34 rfl) rfl
theorem q874 : (Jvm.Cond.laysFinal "DutyBeats$Told" "DutyBeats$Told" "sum" "LDutyBeats$Value;") ∈ lw_all := lw_g (lw_at lw_m4 35 rfl) rfl
theorem q875 : (Jvm.Cond.soleField "DutyBeats$Told" "sum") ∈ lw_all := lw_g (lw_at lw_m4 36 rfl) rfl
theorem q876 : (Jvm.Cond.laysFinal "DutyBeats$Told" "DutyBeats$Told" "when" "LDutyBeats$Condition;") ∈ lw_all := lw_g (lw_at lw_m4 37 rfl) rfl
theorem q877 : (Jvm.Cond.soleField "DutyBeats$Told" "when") ∈ lw_all := lw_g (lw_at lw_m4 38 rfl) rfl
theorem q878 : (Jvm.Cond.superclass "DutyBeats$Told" "java/lang/Record") ∈ lw_all := lw_g (lw_at lw_m4 39 rfl) rfl
theorem q987 : (Jvm.Cond.instanceMethod ({ cls := "DutyBeats$Told", name := "holds", desc := "([J)Z" } : Jvm.MethodName)) ∈ lw_all := lw_g (lw_at lw_m4 148 rfl) rfl
theorem q988 : (Jvm.Cond.selects "DutyBeats$Told" ({ cls := "DutyBeats$Told", name := "holds", desc := "([J)Z" } : Jvm.MethodName) ({ cls := "DutyBeats$Told", name := "holds", desc := "([J)Z" } : Jvm.MethodName)) ∈ lw_all := lw_g (lw_at lw_m4 149 rfl) rfl
theorem q989 : (Jvm.Cond.code ({ cls := "DutyBeats$Told", name := "holds", desc := "([J)Z" } : Jvm.MethodName) prog_15_method_2_code (2 : Nat) (Option.some Jvm.ClassFile.FieldType.boolean)) ∈ lw_all := lw_g (lw_at lw_m4 150 rfl) rfl
theorem q990 : (Jvm.Cond.methodLink "DutyBeats$Told" (17 : Nat) ({ cls := "DutyBeats$Condition", name := "is", desc := "([J)Z" } : Jvm.MethodName)) ∈ lw_all := lw_g (lw_at lw_m4 151 rfl) rfl
theorem q1887 : (Jvm.Cond.castable "DutyBeats$Told" "java/lang/Object") ∈ lw_tbl := lw_at lw_m8 88 rfl
theorem in_X12 : ∀ w ∈ wsX120, w ∈ lw_all := lw_in wsX120 [874, 876] (by decide +kernel) (by decide +kernel)
def RX13 : String := "DutyBeats$Condition"
theorem q148 : (Jvm.Cond.initialized "DutyBeats$Condition") ∈ lw_all := lw_g (lw_at lw_m1 29 rfl) rfl
theorem q823 : (Jvm.Cond.instanceMethod ({ cls := "DutyBeats$Condition", name := "<init>", desc := "()V" } : Jvm.MethodName)) ∈ lw_all := lw_g (lw_at lw_m3 224 rfl) rfl
theorem q824 : (Jvm.Cond.code ({ cls := "DutyBeats$Condition", name := "<init>", desc := "()V" } : Jvm.MethodName) prog_5_method_1_code (1 : Nat) (Option.none : Option Jvm.ClassFile.FieldType)) ∈ lw_all := lw_g (lw_at lw_m3 225 rfl) rfl
theorem q825 : (Jvm.Cond.methodLink "DutyBeats$Condition" (1 : Nat) ({ cls := "java/lang/Object", name := "<init>", desc := "()V" } : Jvm.MethodName)) ∈ lw_all := lw_g (lw_at lw_m3 226 rfl) rfl
theorem q991 : (Jvm.Cond.declares ({ cls := "DutyBeats$Condition", name := "is", desc := "([J)Z" } : Jvm.MethodName)) ∈ lw_tbl := lw_at lw_m4 152 rfl
theorem q992 : (Jvm.Cond.sameMethod "DutyBeats$Condition" "DutyBeats$Condition" "is" "([J)Z") ∈ lw_all := lw_g (lw_at lw_m4 153 rfl) rfl
def RX14 : String := "DutyBeats$Not"
def TX14 : u_T := fun k => match k with
  | _ => ("DutyBeats$Not", "of", "LDutyBeats$Condition;", true)
def tyX14 : Nat → FieldType := fun k => match k with
  | _ => .object "DutyBeats$Condition"
abbrev wsX140 : List Cond := u_ws RX14 TX14 1
theorem nmX14 : ∀ a, a < 1 → ∀ b, b < 1 → a ≠ b → (TX14 a).2.1 ≠ (TX14 b).2.1 := by decide +kernel
theorem tyX14_ok : ∀ k, k < 1 → parseFieldDescriptor (TX14 k).2.2.1 = some (tyX14 k) := by decide +kernel
theorem q149 : (Jvm.Cond.initialized "DutyBeats$Not") ∈ lw_all := lw_g (lw_at lw_m1 30 rfl) rfl
theorem q658 : (Jvm.Cond.selects "DutyBeats$Not" ({ cls := "java/lang/Object", name := "getClass", desc := "()Ljava/lang/Class;" } : Jvm.MethodName) ({ cls := "java/lang/Object", name := "getClass", desc := "()Ljava/lang/Class;" } : Jvm.MethodName)) ∈ lw_all := lw_g (lw_at lw_m3 59 rfl) rfl
theorem q818 : (Jvm.Cond.instantiable "DutyBeats$Not" (1 : Nat)) ∈ lw_all := lw_g (lw_at lw_m3 219 rfl) rfl
theorem q820 : (Jvm.Cond.instanceMethod ({ cls := "DutyBeats$Not", name := "<init>", desc := "(LDutyBeats$Condition;)V" } : Jvm.MethodName)) ∈ lw_all := lw_g (lw_at lw_m3 221 rfl) rfl
theorem q821 : (Jvm.Cond.code ({ cls := "DutyBeats$Not", name := "<init>", desc := "(LDutyBeats$Condition;)V" } : Jvm.MethodName) prog_9_method_1_code (2 : Nat) (Option.none : Option Jvm.ClassFile.FieldType)) ∈ lw_all := lw_g (lw_at lw_m3 222 rfl) rfl
theorem q822 : (Jvm.Cond.methodLinkNest "DutyBeats$Not" (1 : Nat) ({ cls := "DutyBeats$Condition", name := "<init>", desc := "()V" } : Jvm.MethodName) "DutyBeats") ∈ lw_tbl := lw_at lw_m3 223 rfl
theorem q826 : (Jvm.Cond.fieldLink "DutyBeats$Not" (7 : Nat) "DutyBeats$Not" "of" "LDutyBeats$Condition;") ∈ lw_all := lw_g (lw_at lw_m3 227 rfl) rfl
theorem q827 : (Jvm.Cond.laysFinal "DutyBeats$Not" "DutyBeats$Not" "of" "LDutyBeats$Condition;") ∈ lw_all := lw_g (lw_at lw_m3 228 rfl) rfl
theorem q828 : (Jvm.Cond.soleField "DutyBeats$Not" "of") ∈ lw_all := lw_g (lw_at lw_m3 229 rfl) rfl
theorem q829 : (Jvm.Cond.superclass "DutyBeats$Not" "DutyBeats$Condition") ∈ lw_all := lw_g (lw_at lw_m3 230 rfl) rfl
theorem q1012 : (Jvm.Cond.instanceMethod ({ cls := "DutyBeats$Not", name := "is", desc := "([J)Z" } : Jvm.MethodName)) ∈ lw_all := lw_g (lw_at lw_m4 173 rfl) rfl
theorem q1013 : (Jvm.Cond.code ({ cls := "DutyBeats$Not", name := "is", desc := "([J)Z" } : Jvm.MethodName) prog_9_method_2_code (2 : Nat) (Option.some Jvm.ClassFile.FieldType.boolean)) ∈ lw_all := lw_g (lw_at lw_m4 174 rfl) rfl
theorem q1014 : (Jvm.Cond.methodLink "DutyBeats$Not" (13 : Nat) ({ cls := "DutyBeats$Condition", name := "is", desc := "([J)Z" } : Jvm.MethodName)) ∈ lw_all := lw_g (lw_at lw_m4 175 rfl) rfl
theorem q1016 : (Jvm.Cond.selects "DutyBeats$Not" ({ cls := "DutyBeats$Condition", name := "is", desc := "([J)Z" } : Jvm.MethodName) ({ cls := "DutyBeats$Not", name := "is", desc := "([J)Z" } : Jvm.MethodName)) ∈ lw_all := lw_g (lw_at lw_m4 177 rfl) rfl
theorem q1888 : (Jvm.Cond.castable "DutyBeats$Not" "java/lang/Object") ∈ lw_tbl := lw_at lw_m8 89 rfl
theorem in_X14 : ∀ w ∈ wsX140, w ∈ lw_all := lw_in wsX140 [827] (by decide +kernel) (by decide +kernel)
def RX15 : String := "DutyBeats$Compared"
def TX15 : u_T := fun k => match k with
  | 0 => ("DutyBeats$Compared", "a", "LDutyBeats$Value;", true)
  | 1 => ("DutyBeats$Compared", "b", "LDutyBeats$Value;", true)
  | 2 => ("DutyBeats$Compared", "sign", "I", true)
  | _ => ("DutyBeats$Compared", "same", "Z", true)
def tyX15 : Nat → FieldType := fun k => match k with
  | 0 => .object "DutyBeats$Value"
  | 1 => .object "DutyBeats$Value"
  | 2 => .int
  | _ => .boolean
abbrev wsX150 : List Cond := u_ws RX15 TX15 4
theorem nmX15 : ∀ a, a < 4 → ∀ b, b < 4 → a ≠ b → (TX15 a).2.1 ≠ (TX15 b).2.1 := by decide +kernel
theorem tyX15_ok : ∀ k, k < 4 → parseFieldDescriptor (TX15 k).2.2.1 = some (tyX15 k) := by decide +kernel
theorem q150 : (Jvm.Cond.initialized "DutyBeats$Compared") ∈ lw_all := lw_g (lw_at lw_m1 31 rfl) rfl
theorem q654 : (Jvm.Cond.selects "DutyBeats$Compared" ({ cls := "java/lang/Object", name := "getClass", desc := "()Ljava/lang/Class;" } : Jvm.MethodName) ({ cls := "java/lang/Object", name := "getClass", desc := "()Ljava/lang/Class;" } : Jvm.MethodName)) ∈ lw_all := lw_g (lw_at lw_m3 55 rfl) rfl
theorem q831 : (Jvm.Cond.instantiable "DutyBeats$Compared" (4 : Nat)) ∈ lw_all := lw_g (lw_at lw_m3 232 rfl) rfl
theorem q833 : (Jvm.Cond.instanceMethod ({ cls := "DutyBeats$Compared", name := "<init>", desc := "(LDutyBeats$Value;LDutyBeats$Value;IZ)V" } : Jvm.MethodName)) ∈ lw_all := lw_g (lw_at lw_m3 234 rfl) rfl
theorem q834 : (Jvm.Cond.code ({ cls := "DutyBeats$Compared", name := "<init>", desc := "(LDutyBeats$Value;LDutyBeats$Value;IZ)V" } : Jvm.MethodName) prog_4_method_1_code (5 : Nat) (Option.none : Option Jvm.ClassFile.FieldType)) ∈ lw_all := lw_g (lw_at lw_m3 235 rfl) rfl
theorem q835 : (Jvm.Cond.methodLinkNest "DutyBeats$Compared" (1 : Nat) ({ cls := "DutyBeats$Condition", name := "<init>", desc := "()V" } : Jvm.MethodName) "DutyBeats") ∈ lw_tbl := lw_at lw_m3 236 rfl
theorem q836 : (Jvm.Cond.fieldLink "DutyBeats$Compared" (7 : Nat) "DutyBeats$Compared" "a" "LDutyBeats$Value;") ∈ lw_all := lw_g (lw_at lw_m3 237 rfl) rfl
theorem q837 : (Jvm.Cond.fieldLink "DutyBeats$Compared" (13 : Nat) "DutyBeats$Compared" "b" "LDutyBeats$Value;") ∈ lw_all := lw_g (lw_at lw_m3 238 rfl) rfl
theorem q838 : (Jvm.Cond.fieldLink "DutyBeats$Compared" (16 : Nat) "DutyBeats$Compared" "sign" "I") ∈ lw_all := lw_g (lw_at lw_m3 239 rfl) rfl
theorem q839 : (Jvm.Cond.fieldLink "DutyBeats$Compared" (20 : Nat) "DutyBeats$Compared" "same" "Z") ∈ lw_all := lw_g (lw_at lw_m4 0 rfl) rfl
theorem q840 : (Jvm.Cond.laysFinal "DutyBeats$Compared" "DutyBeats$Compared" "a" "LDutyBeats$Value;") ∈ lw_all := lw_g (lw_at lw_m4 1 rfl) rfl
theorem q841 : (Jvm.Cond.soleField "DutyBeats$Compared" "a") ∈ lw_all := lw_g (lw_at lw_m4 2 rfl) rfl
theorem q842 : (Jvm.Cond.laysFinal "DutyBeats$Compared" "DutyBeats$Compared" "b" "LDutyBeats$Value;") ∈ lw_all := lw_g (lw_at lw_m4 3 rfl) rfl
theorem q843 : (Jvm.Cond.soleField "DutyBeats$Compared" "b") ∈ lw_all := lw_g (lw_at lw_m4 4 rfl) rfl
theorem q844 : (Jvm.Cond.laysFinal "DutyBeats$Compared" "DutyBeats$Compared" "sign" "I") ∈ lw_all := lw_g (lw_at lw_m4 5 rfl) rfl
theorem q845 : (Jvm.Cond.soleField "DutyBeats$Compared" "sign") ∈ lw_all := lw_g (lw_at lw_m4 6 rfl) rfl
theorem q846 : (Jvm.Cond.laysFinal "DutyBeats$Compared" "DutyBeats$Compared" "same" "Z") ∈ lw_all := lw_g (lw_at lw_m4 7 rfl) rfl
theorem q847 : (Jvm.Cond.soleField "DutyBeats$Compared" "same") ∈ lw_all := lw_g (lw_at lw_m4 8 rfl) rfl
theorem q848 : (Jvm.Cond.superclass "DutyBeats$Compared" "DutyBeats$Condition") ∈ lw_all := lw_g (lw_at lw_m4 9 rfl) rfl
theorem q997 : (Jvm.Cond.instanceMethod ({ cls := "DutyBeats$Compared", name := "is", desc := "([J)Z" } : Jvm.MethodName)) ∈ lw_all := lw_g (lw_at lw_m4 158 rfl) rfl
theorem q998 : (Jvm.Cond.code ({ cls := "DutyBeats$Compared", name := "is", desc := "([J)Z" } : Jvm.MethodName) prog_4_method_2_code (6 : Nat) (Option.some Jvm.ClassFile.FieldType.boolean)) ∈ lw_all := lw_g (lw_at lw_m4 159 rfl) rfl
theorem q999 : (Jvm.Cond.methodLink "DutyBeats$Compared" (24 : Nat) ({ cls := "DutyBeats$Value", name := "of", desc := "([J)J" } : Jvm.MethodName)) ∈ lw_all := lw_g (lw_at lw_m4 160 rfl) rfl
theorem q1015 : (Jvm.Cond.selects "DutyBeats$Compared" ({ cls := "DutyBeats$Condition", name := "is", desc := "([J)Z" } : Jvm.MethodName) ({ cls := "DutyBeats$Compared", name := "is", desc := "([J)Z" } : Jvm.MethodName)) ∈ lw_all := lw_g (lw_at lw_m4 176 rfl) rfl
theorem q1889 : (Jvm.Cond.castable "DutyBeats$Compared" "java/lang/Object") ∈ lw_tbl := lw_at lw_m8 90 rfl
theorem in_X15 : ∀ w ∈ wsX150, w ∈ lw_all := lw_in wsX150 [840, 842, 844, 846] (by decide +kernel) (by decide +kernel)
def RX16 : String := "DutyBeats$Both"
def TX16 : u_T := fun k => match k with
  | 0 => ("DutyBeats$Both", "a", "LDutyBeats$Condition;", true)
  | 1 => ("DutyBeats$Both", "b", "LDutyBeats$Condition;", true)
  | _ => ("DutyBeats$Both", "or", "Z", true)
def tyX16 : Nat → FieldType := fun k => match k with
  | 0 => .object "DutyBeats$Condition"
  | 1 => .object "DutyBeats$Condition"
  | _ => .boolean
abbrev wsX160 : List Cond := u_ws RX16 TX16 3
theorem nmX16 : ∀ a, a < 3 → ∀ b, b < 3 → a ≠ b → (TX16 a).2.1 ≠ (TX16 b).2.1 := by decide +kernel
theorem tyX16_ok : ∀ k, k < 3 → parseFieldDescriptor (TX16 k).2.2.1 = some (tyX16 k) := by decide +kernel
theorem q151 : (Jvm.Cond.initialized "DutyBeats$Both") ∈ lw_all := lw_g (lw_at lw_m1 32 rfl) rfl
theorem q653 : (Jvm.Cond.selects "DutyBeats$Both" ({ cls := "java/lang/Object", name := "getClass", desc := "()Ljava/lang/Class;" } : Jvm.MethodName) ({ cls := "java/lang/Object", name := "getClass", desc := "()Ljava/lang/Class;" } : Jvm.MethodName)) ∈ lw_all := lw_g (lw_at lw_m3 54 rfl) rfl
theorem q851 : (Jvm.Cond.instantiable "DutyBeats$Both" (3 : Nat)) ∈ lw_all := lw_g (lw_at lw_m4 12 rfl) rfl
theorem q853 : (Jvm.Cond.instanceMethod ({ cls := "DutyBeats$Both", name := "<init>", desc := "(LDutyBeats$Condition;LDutyBeats$Condition;Z)V" } : Jvm.MethodName)) ∈ lw_all := lw_g (lw_at lw_m4 14 rfl) rfl
theorem q854 : (Jvm.Cond.code ({ cls := "DutyBeats$Both", name := "<init>", desc := "(LDutyBeats$Condition;LDutyBeats$Condition;Z)V" } : Jvm.MethodName) prog_3_method_1_code (4 : Nat) (Option.none : Option Jvm.ClassFile.FieldType)) ∈ lw_all := lw_g (lw_at lw_m4 15 rfl) rfl
theorem q855 : (Jvm.Cond.methodLinkNest "DutyBeats$Both" (1 : Nat) ({ cls := "DutyBeats$Condition", name := "<init>", desc := "()V" } : Jvm.MethodName) "DutyBeats") ∈ lw_tbl := lw_at lw_m4 16 rfl
theorem q856 : (Jvm.Cond.fieldLink "DutyBeats$Both" (7 : Nat) "DutyBeats$Both" "a" "LDutyBeats$Condition;") ∈ lw_all := lw_g (lw_at lw_m4 17 rfl) rfl
theorem q857 : (Jvm.Cond.fieldLink "DutyBeats$Both" (13 : Nat) "DutyBeats$Both" "b" "LDutyBeats$Condition;") ∈ lw_all := lw_g (lw_at lw_m4 18 rfl) rfl
theorem q858 : (Jvm.Cond.fieldLink "DutyBeats$Both" (16 : Nat) "DutyBeats$Both" "or" "Z") ∈ lw_all := lw_g (lw_at lw_m4 19 rfl) rfl
theorem q859 : (Jvm.Cond.laysFinal "DutyBeats$Both" "DutyBeats$Both" "a" "LDutyBeats$Condition;") ∈ lw_all := lw_g (lw_at lw_m4 20 rfl) rfl
theorem q860 : (Jvm.Cond.soleField "DutyBeats$Both" "a") ∈ lw_all := lw_g (lw_at lw_m4 21 rfl) rfl
theorem q861 : (Jvm.Cond.laysFinal "DutyBeats$Both" "DutyBeats$Both" "b" "LDutyBeats$Condition;") ∈ lw_all := lw_g (lw_at lw_m4 22 rfl) rfl
theorem q862 : (Jvm.Cond.soleField "DutyBeats$Both" "b") ∈ lw_all := lw_g (lw_at lw_m4 23 rfl) rfl
theorem q863 : (Jvm.Cond.laysFinal "DutyBeats$Both" "DutyBeats$Both" "or" "Z") ∈ lw_all := lw_g (lw_at lw_m4 24 rfl) rfl
theorem q864 : (Jvm.Cond.soleField "DutyBeats$Both" "or") ∈ lw_all := lw_g (lw_at lw_m4 25 rfl) rfl
theorem q865 : (Jvm.Cond.superclass "DutyBeats$Both" "DutyBeats$Condition") ∈ lw_all := lw_g (lw_at lw_m4 26 rfl) rfl
theorem q993 : (Jvm.Cond.selects "DutyBeats$Both" ({ cls := "DutyBeats$Condition", name := "is", desc := "([J)Z" } : Jvm.MethodName) ({ cls := "DutyBeats$Both", name := "is", desc := "([J)Z" } : Jvm.MethodName)) ∈ lw_all := lw_g (lw_at lw_m4 154 rfl) rfl
theorem q994 : (Jvm.Cond.instanceMethod ({ cls := "DutyBeats$Both", name := "is", desc := "([J)Z" } : Jvm.MethodName)) ∈ lw_all := lw_g (lw_at lw_m4 155 rfl) rfl
theorem q995 : (Jvm.Cond.code ({ cls := "DutyBeats$Both", name := "is", desc := "([J)Z" } : Jvm.MethodName) prog_3_method_2_code (2 : Nat) (Option.some Jvm.ClassFile.FieldType.boolean)) ∈ lw_all := lw_g (lw_at lw_m4 156 rfl) rfl
theorem q996 : (Jvm.Cond.methodLink "DutyBeats$Both" (20 : Nat) ({ cls := "DutyBeats$Condition", name := "is", desc := "([J)Z" } : Jvm.MethodName)) ∈ lw_all := lw_g (lw_at lw_m4 157 rfl) rfl
theorem q1890 : (Jvm.Cond.castable "DutyBeats$Both" "java/lang/Object") ∈ lw_tbl := lw_at lw_m8 91 rfl
theorem in_X16 : ∀ w ∈ wsX160, w ∈ lw_all := lw_in wsX160 [859, 861, 863] (by decide +kernel) (by decide +kernel)
def RJ14 : String := "java/lang/Integer"
theorem q152 : (Jvm.Cond.initialized "java/lang/Integer") ∈ lw_all := lw_g (lw_at lw_m1 33 rfl) rfl
theorem q959 : (Jvm.Cond.static ({ cls := "java/lang/Integer", name := "bitCount", desc := "(I)I" } : Jvm.MethodName)) ∈ lw_all := lw_g (lw_at lw_m4 120 rfl) rfl
theorem q960 : (Jvm.Cond.code ({ cls := "java/lang/Integer", name := "bitCount", desc := "(I)I" } : Jvm.MethodName) prog_25_method_49_code (1 : Nat) (Option.some Jvm.ClassFile.FieldType.int)) ∈ lw_all := lw_g (lw_at lw_m4 121 rfl) rfl
theorem q961 : (Jvm.Cond.constant "java/lang/Integer" (265 : Nat) (1431655765 : Int32)) ∈ lw_all := lw_g (lw_at lw_m4 122 rfl) rfl
theorem q962 : (Jvm.Cond.constant "java/lang/Integer" (266 : Nat) (858993459 : Int32)) ∈ lw_all := lw_g (lw_at lw_m4 123 rfl) rfl
theorem q963 : (Jvm.Cond.constant "java/lang/Integer" (267 : Nat) (252645135 : Int32)) ∈ lw_all := lw_g (lw_at lw_m4 124 rfl) rfl
def RX17 : String := "DutyBeats$Image"
def TX17 : u_T := fun k => match k with
  | 0 => ("DutyBeats$Image", "its", "LDutyBeats$Junction;", false)
  | 1 => ("DutyBeats$Image", "stood", "LDutyBeats$State;", true)
  | 2 => ("DutyBeats$Image", "when", "[I", true)
  | 3 => ("DutyBeats$Image", "who", "[I", true)
  | 4 => ("DutyBeats$Image", "how", "[I", true)
  | 5 => ("DutyBeats$Image", "many", "I", false)
  | 6 => ("DutyBeats$Image", "force", "I", false)
  | 7 => ("DutyBeats$Image", "x", "I", false)
  | _ => ("DutyBeats$Image", "this$0", "LDutyBeats;", true)
def tyX17 : Nat → FieldType := fun k => match k with
  | 0 => .object "DutyBeats$Junction"
  | 1 => .object "DutyBeats$State"
  | 2 => .array .int
  | 3 => .array .int
  | 4 => .array .int
  | 5 => .int
  | 6 => .int
  | 7 => .int
  | _ => .object "DutyBeats"
abbrev wsX170 : List Cond := u_ws RX17 TX17 9
theorem nmX17 : ∀ a, a < 9 → ∀ b, b < 9 → a ≠ b → (TX17 a).2.1 ≠ (TX17 b).2.1 := by decide +kernel
theorem tyX17_ok : ∀ k, k < 9 → parseFieldDescriptor (TX17 k).2.2.1 = some (tyX17 k) := by decide +kernel
theorem q153 : (Jvm.Cond.initialized "DutyBeats$Image") ∈ lw_all := lw_g (lw_at lw_m1 34 rfl) rfl
theorem q333 : (Jvm.Cond.fieldLinkNest "DutyBeats$Image" (32 : Nat) "DutyBeats" "junction" "LDutyBeats$Junction;" "DutyBeats") ∈ lw_tbl := lw_at lw_m1 214 rfl
theorem q335 : (Jvm.Cond.fieldLinkNest "DutyBeats$Image" (39 : Nat) "DutyBeats" "state" "LDutyBeats$State;" "DutyBeats") ∈ lw_tbl := lw_at lw_m1 216 rfl
theorem q340 : (Jvm.Cond.fieldLinkNest "DutyBeats$Image" (62 : Nat) "DutyBeats" "inForce" "I" "DutyBeats") ∈ lw_tbl := lw_at lw_m1 221 rfl
theorem q347 : (Jvm.Cond.fieldLinkNest "DutyBeats$Image" (46 : Nat) "DutyBeats" "noteWhen" "[I" "DutyBeats") ∈ lw_tbl := lw_at lw_m1 228 rfl
theorem q349 : (Jvm.Cond.fieldLinkNest "DutyBeats$Image" (49 : Nat) "DutyBeats" "noteWho" "[I" "DutyBeats") ∈ lw_tbl := lw_at lw_m1 230 rfl
theorem q351 : (Jvm.Cond.fieldLinkNest "DutyBeats$Image" (52 : Nat) "DutyBeats" "noteMany" "[I" "DutyBeats") ∈ lw_tbl := lw_at lw_m1 232 rfl
theorem q353 : (Jvm.Cond.fieldLinkNest "DutyBeats$Image" (55 : Nat) "DutyBeats" "notes" "I" "DutyBeats") ∈ lw_tbl := lw_at lw_m1 234 rfl
theorem q355 : (Jvm.Cond.fieldLinkNest "DutyBeats$Image" (68 : Nat) "DutyBeats" "draw" "I" "DutyBeats") ∈ lw_tbl := lw_at lw_m1 236 rfl
theorem q363 : (Jvm.Cond.fieldLinkNest "DutyBeats$Image" (74 : Nat) "DutyBeats" "pastMany" "I" "DutyBeats") ∈ lw_tbl := lw_at lw_m2 4 rfl
theorem q655 : (Jvm.Cond.selects "DutyBeats$Image" ({ cls := "java/lang/Object", name := "getClass", desc := "()Ljava/lang/Class;" } : Jvm.MethodName) ({ cls := "java/lang/Object", name := "getClass", desc := "()Ljava/lang/Class;" } : Jvm.MethodName)) ∈ lw_all := lw_g (lw_at lw_m3 56 rfl) rfl
theorem q1193 : (Jvm.Cond.instantiable "DutyBeats$Image" (9 : Nat)) ∈ lw_all := lw_g (lw_at lw_m5 114 rfl) rfl
theorem q1195 : (Jvm.Cond.instanceMethod ({ cls := "DutyBeats$Image", name := "<init>", desc := "(LDutyBeats;)V" } : Jvm.MethodName)) ∈ lw_all := lw_g (lw_at lw_m5 116 rfl) rfl
theorem q1196 : (Jvm.Cond.code ({ cls := "DutyBeats$Image", name := "<init>", desc := "(LDutyBeats;)V" } : Jvm.MethodName) prog_6_method_1_code (2 : Nat) (Option.none : Option Jvm.ClassFile.FieldType)) ∈ lw_all := lw_g (lw_at lw_m5 117 rfl) rfl
theorem q1197 : (Jvm.Cond.methodLink "DutyBeats$Image" (9 : Nat) ({ cls := "java/lang/Object", name := "<init>", desc := "()V" } : Jvm.MethodName)) ∈ lw_all := lw_g (lw_at lw_m5 118 rfl) rfl
theorem q1198 : (Jvm.Cond.classLink "DutyBeats$Image" (15 : Nat) "DutyBeats$State") ∈ lw_all := lw_g (lw_at lw_m5 119 rfl) rfl
theorem q1199 : (Jvm.Cond.methodLinkNest "DutyBeats$Image" (17 : Nat) ({ cls := "DutyBeats$State", name := "<init>", desc := "()V" } : Jvm.MethodName) "DutyBeats") ∈ lw_tbl := lw_at lw_m5 120 rfl
theorem q1200 : (Jvm.Cond.fieldLink "DutyBeats$Image" (36 : Nat) "DutyBeats$Image" "its" "LDutyBeats$Junction;") ∈ lw_all := lw_g (lw_at lw_m5 121 rfl) rfl
theorem q1201 : (Jvm.Cond.fieldLink "DutyBeats$Image" (18 : Nat) "DutyBeats$Image" "stood" "LDutyBeats$State;") ∈ lw_all := lw_g (lw_at lw_m5 122 rfl) rfl
theorem q1202 : (Jvm.Cond.fieldLink "DutyBeats$Image" (22 : Nat) "DutyBeats$Image" "when" "[I") ∈ lw_all := lw_g (lw_at lw_m5 123 rfl) rfl
theorem q1203 : (Jvm.Cond.fieldLink "DutyBeats$Image" (26 : Nat) "DutyBeats$Image" "who" "[I") ∈ lw_all := lw_g (lw_at lw_m5 124 rfl) rfl
theorem q1204 : (Jvm.Cond.fieldLink "DutyBeats$Image" (29 : Nat) "DutyBeats$Image" "how" "[I") ∈ lw_all := lw_g (lw_at lw_m5 125 rfl) rfl
theorem q1205 : (Jvm.Cond.fieldLink "DutyBeats$Image" (59 : Nat) "DutyBeats$Image" "many" "I") ∈ lw_all := lw_g (lw_at lw_m5 126 rfl) rfl
theorem q1206 : (Jvm.Cond.fieldLink "DutyBeats$Image" (65 : Nat) "DutyBeats$Image" "force" "I") ∈ lw_all := lw_g (lw_at lw_m5 127 rfl) rfl
theorem q1207 : (Jvm.Cond.fieldLink "DutyBeats$Image" (71 : Nat) "DutyBeats$Image" "x" "I") ∈ lw_all := lw_g (lw_at lw_m5 128 rfl) rfl
theorem q1208 : (Jvm.Cond.fieldLink "DutyBeats$Image" (3 : Nat) "DutyBeats$Image" "this$0" "LDutyBeats;") ∈ lw_all := lw_g (lw_at lw_m5 129 rfl) rfl
theorem q1209 : (Jvm.Cond.lays "DutyBeats$Image" "DutyBeats$Image" "its" "LDutyBeats$Junction;") ∈ lw_all := lw_g (lw_at lw_m5 130 rfl) rfl
theorem q1210 : (Jvm.Cond.soleField "DutyBeats$Image" "its") ∈ lw_all := lw_g (lw_at lw_m5 131 rfl) rfl
theorem q1211 : (Jvm.Cond.laysFinal "DutyBeats$Image" "DutyBeats$Image" "stood" "LDutyBeats$State;") ∈ lw_all := lw_g (lw_at lw_m5 132 rfl) rfl
theorem q1212 : (Jvm.Cond.soleField "DutyBeats$Image" "stood") ∈ lw_all := lw_g (lw_at lw_m5 133 rfl) rfl
theorem q1213 : (Jvm.Cond.laysFinal "DutyBeats$Image" "DutyBeats$Image" "when" "[I") ∈ lw_all := lw_g (lw_at lw_m5 134 rfl) rfl
theorem q1214 : (Jvm.Cond.soleField "DutyBeats$Image" "when") ∈ lw_all := lw_g (lw_at lw_m5 135 rfl) rfl
theorem q1215 : (Jvm.Cond.laysFinal "DutyBeats$Image" "DutyBeats$Image" "who" "[I") ∈ lw_all := lw_g (lw_at lw_m5 136 rfl) rfl
theorem q1216 : (Jvm.Cond.soleField "DutyBeats$Image" "who") ∈ lw_all := lw_g (lw_at lw_m5 137 rfl) rfl
theorem q1217 : (Jvm.Cond.laysFinal "DutyBeats$Image" "DutyBeats$Image" "how" "[I") ∈ lw_all := lw_g (lw_at lw_m5 138 rfl) rfl
theorem q1218 : (Jvm.Cond.soleField "DutyBeats$Image" "how") ∈ lw_all := lw_g (lw_at lw_m5 139 rfl) rfl
theorem q1219 : (Jvm.Cond.lays "DutyBeats$Image" "DutyBeats$Image" "many" "I") ∈ lw_all := lw_g (lw_at lw_m5 140 rfl) rfl
theorem q1220 : (Jvm.Cond.soleField "DutyBeats$Image" "many") ∈ lw_all := lw_g (lw_at lw_m5 141 rfl) rfl
theorem q1221 : (Jvm.Cond.lays "DutyBeats$Image" "DutyBeats$Image" "force" "I") ∈ lw_all := lw_g (lw_at lw_m5 142 rfl) rfl
theorem q1222 : (Jvm.Cond.soleField "DutyBeats$Image" "force") ∈ lw_all := lw_g (lw_at lw_m5 143 rfl) rfl
theorem q1223 : (Jvm.Cond.lays "DutyBeats$Image" "DutyBeats$Image" "x" "I") ∈ lw_all := lw_g (lw_at lw_m5 144 rfl) rfl
theorem q1224 : (Jvm.Cond.soleField "DutyBeats$Image" "x") ∈ lw_all := lw_g (lw_at lw_m5 145 rfl) rfl
theorem q1225 : (Jvm.Cond.laysFinal "DutyBeats$Image" "DutyBeats$Image" "this$0" "LDutyBeats;") ∈ lw_all := lw_g (lw_at lw_m5 146 rfl) rfl
theorem q1226 : (Jvm.Cond.soleField "DutyBeats$Image" "this$0") ∈ lw_all := lw_g (lw_at lw_m5 147 rfl) rfl
theorem q1227 : (Jvm.Cond.superclass "DutyBeats$Image" "java/lang/Object") ∈ lw_all := lw_g (lw_at lw_m5 148 rfl) rfl
theorem q1229 : (Jvm.Cond.instanceMethod ({ cls := "DutyBeats$Image", name := "keep", desc := "()V" } : Jvm.MethodName)) ∈ lw_all := lw_g (lw_at lw_m5 150 rfl) rfl
theorem q1230 : (Jvm.Cond.selects "DutyBeats$Image" ({ cls := "DutyBeats$Image", name := "keep", desc := "()V" } : Jvm.MethodName) ({ cls := "DutyBeats$Image", name := "keep", desc := "()V" } : Jvm.MethodName)) ∈ lw_all := lw_g (lw_at lw_m5 151 rfl) rfl
theorem q1231 : (Jvm.Cond.code ({ cls := "DutyBeats$Image", name := "keep", desc := "()V" } : Jvm.MethodName) prog_6_method_2_code (2 : Nat) (Option.none : Option Jvm.ClassFile.FieldType)) ∈ lw_all := lw_g (lw_at lw_m5 152 rfl) rfl
theorem q1232 : (Jvm.Cond.methodLink "DutyBeats$Image" (42 : Nat) ({ cls := "DutyBeats$State", name := "copyFrom", desc := "(LDutyBeats$State;)V" } : Jvm.MethodName)) ∈ lw_all := lw_g (lw_at lw_m5 153 rfl) rfl
theorem q1238 : (Jvm.Cond.instanceMethod ({ cls := "DutyBeats$Image", name := "back", desc := "()V" } : Jvm.MethodName)) ∈ lw_all := lw_g (lw_at lw_m5 159 rfl) rfl
theorem q1239 : (Jvm.Cond.selects "DutyBeats$Image" ({ cls := "DutyBeats$Image", name := "back", desc := "()V" } : Jvm.MethodName) ({ cls := "DutyBeats$Image", name := "back", desc := "()V" } : Jvm.MethodName)) ∈ lw_all := lw_g (lw_at lw_m5 160 rfl) rfl
theorem q1240 : (Jvm.Cond.code ({ cls := "DutyBeats$Image", name := "back", desc := "()V" } : Jvm.MethodName) prog_6_method_3_code (2 : Nat) (Option.none : Option Jvm.ClassFile.FieldType)) ∈ lw_all := lw_g (lw_at lw_m5 161 rfl) rfl
theorem q1874 : (Jvm.Cond.castable "DutyBeats$Image" "java/lang/Object") ∈ lw_tbl := lw_at lw_m8 75 rfl
theorem in_X17 : ∀ w ∈ wsX170, w ∈ lw_all := lw_in wsX170 [1209, 1211, 1213, 1215, 1217, 1219, 1221, 1223, 1225] (by decide +kernel) (by decide +kernel)
def RJ15 : String := "java/lang/Object"
theorem q160 : (Jvm.Cond.instanceMethod ({ cls := "java/lang/Object", name := "<init>", desc := "()V" } : Jvm.MethodName)) ∈ lw_all := lw_g (lw_at lw_m1 41 rfl) rfl
theorem q161 : (Jvm.Cond.code ({ cls := "java/lang/Object", name := "<init>", desc := "()V" } : Jvm.MethodName) object_method_1_code (1 : Nat) (Option.none : Option Jvm.ClassFile.FieldType)) ∈ lw_all := lw_g (lw_at lw_m1 42 rfl) rfl
theorem q649 : (Jvm.Cond.instanceMethod ({ cls := "java/lang/Object", name := "getClass", desc := "()Ljava/lang/Class;" } : Jvm.MethodName)) ∈ lw_all := lw_g (lw_at lw_m3 50 rfl) rfl
theorem q650 : (Jvm.Cond.sameMethod "java/lang/Object" "java/lang/Object" "getClass" "()Ljava/lang/Class;") ∈ lw_all := lw_g (lw_at lw_m3 51 rfl) rfl
theorem q668 : (Jvm.Cond.native ({ cls := "java/lang/Object", name := "getClass", desc := "()Ljava/lang/Class;" } : Jvm.MethodName)) ∈ lw_all := lw_g (lw_at lw_m3 69 rfl) rfl
theorem q1872 : (Jvm.Cond.initialized "java/lang/Object") ∈ lw_all := lw_g (lw_at lw_m8 73 rfl) rfl
theorem q1894 : (Jvm.Cond.declares ({ cls := "java/lang/Object", name := "getClass", desc := "()Ljava/lang/Class;" } : Jvm.MethodName)) ∈ lw_tbl := lw_at lw_m8 95 rfl
theorem q181 : (Jvm.Cond.arrayOver (Jvm.ClassFile.FieldType.object "java/lang/Object")) ∈ lw_tbl := lw_at lw_m1 62 rfl
theorem q220 : (Jvm.Cond.arrayClass Jvm.ClassFile.FieldType.int) ∈ lw_all := lw_g (lw_at lw_m1 101 rfl) rfl
theorem q330 : (Jvm.Cond.arrayOver (Jvm.ClassFile.FieldType.object "DutyBeats$State")) ∈ lw_tbl := lw_at lw_m1 211 rfl
theorem q332 : (Jvm.Cond.arrayOver (Jvm.ClassFile.FieldType.object "DutyBeats$Image")) ∈ lw_tbl := lw_at lw_m1 213 rfl
theorem q442 : (Jvm.Cond.arrayClass Jvm.ClassFile.FieldType.byte) ∈ lw_all := lw_g (lw_at lw_m2 83 rfl) rfl
theorem q443 : (Jvm.Cond.arrayClass Jvm.ClassFile.FieldType.long) ∈ lw_all := lw_g (lw_at lw_m2 84 rfl) rfl
theorem q1374 : (Jvm.Cond.arrayClass Jvm.ClassFile.FieldType.boolean) ∈ lw_all := lw_g (lw_at lw_m6 55 rfl) rfl
theorem q1917 : (Jvm.Cond.arrayOver (Jvm.ClassFile.FieldType.object "java/lang/String")) ∈ lw_tbl := lw_at lw_m8 118 rfl
theorem q119 : (Jvm.Cond.initialized "DutyBeatsLaw") ∈ lw_all := lw_g (lw_at lw_m1 0 rfl) rfl
theorem q154 : (Jvm.Cond.classLink "DutyBeatsLaw" (7 : Nat) "DutyBeats") ∈ lw_all := lw_g (lw_at lw_m1 35 rfl) rfl
theorem q156 : (Jvm.Cond.methodLink "DutyBeatsLaw" (9 : Nat) ({ cls := "DutyBeats", name := "<init>", desc := "()V" } : Jvm.MethodName)) ∈ lw_all := lw_g (lw_at lw_m1 37 rfl) rfl
theorem q444 : (Jvm.Cond.methodLink "DutyBeatsLaw" (13 : Nat) ({ cls := "DutyBeats", name := "feed", desc := "(IIIII)I" } : Jvm.MethodName)) ∈ lw_all := lw_g (lw_at lw_m2 85 rfl) rfl
theorem q452 : (Jvm.Cond.methodLink "DutyBeatsLaw" (18 : Nat) ({ cls := "DutyBeats", name := "end", desc := "(I)I" } : Jvm.MethodName)) ∈ lw_all := lw_g (lw_at lw_m2 93 rfl) rfl
theorem q456 : (Jvm.Cond.methodLink "DutyBeatsLaw" (23 : Nat) ({ cls := "DutyBeats", name := "junction", desc := "()I" } : Jvm.MethodName)) ∈ lw_all := lw_g (lw_at lw_m2 97 rfl) rfl
theorem q710 : (Jvm.Cond.methodLink "DutyBeatsLaw" (28 : Nat) ({ cls := "DutyBeats", name := "rule", desc := "()I" } : Jvm.MethodName)) ∈ lw_all := lw_g (lw_at lw_m3 111 rfl) rfl
theorem q880 : (Jvm.Cond.methodLink "DutyBeatsLaw" (32 : Nat) ({ cls := "DutyBeats", name := "force", desc := "(I)I" } : Jvm.MethodName)) ∈ lw_all := lw_g (lw_at lw_m4 41 rfl) rfl
theorem q886 : (Jvm.Cond.methodLink "DutyBeatsLaw" (36 : Nat) ({ cls := "DutyBeats", name := "road", desc := "(II)I" } : Jvm.MethodName)) ∈ lw_all := lw_g (lw_at lw_m4 47 rfl) rfl
theorem q899 : (Jvm.Cond.methodLink "DutyBeatsLaw" (41 : Nat) ({ cls := "DutyBeats", name := "scored", desc := "(I)I" } : Jvm.MethodName)) ∈ lw_all := lw_g (lw_at lw_m4 60 rfl) rfl
theorem q907 : (Jvm.Cond.methodLink "DutyBeatsLaw" (147 : Nat) ({ cls := "DutyBeats", name := "heard", desc := "()I" } : Jvm.MethodName)) ∈ lw_all := lw_g (lw_at lw_m4 68 rfl) rfl
theorem q911 : (Jvm.Cond.methodLink "DutyBeatsLaw" (65 : Nat) ({ cls := "DutyBeats", name := "undo", desc := "()I" } : Jvm.MethodName)) ∈ lw_all := lw_g (lw_at lw_m4 72 rfl) rfl
theorem q919 : (Jvm.Cond.methodLink "DutyBeatsLaw" (45 : Nat) ({ cls := "DutyBeats", name := "beat", desc := "()I" } : Jvm.MethodName)) ∈ lw_all := lw_g (lw_at lw_m4 80 rfl) rfl
theorem q1028 : (Jvm.Cond.methodLink "DutyBeatsLaw" (49 : Nat) ({ cls := "DutyBeats", name := "come", desc := "(II)I" } : Jvm.MethodName)) ∈ lw_all := lw_g (lw_at lw_m4 189 rfl) rfl
theorem q1033 : (Jvm.Cond.methodLink "DutyBeatsLaw" (53 : Nat) ({ cls := "DutyBeats", name := "wave", desc := "(I)I" } : Jvm.MethodName)) ∈ lw_all := lw_g (lw_at lw_m4 194 rfl) rfl
theorem q1037 : (Jvm.Cond.methodLink "DutyBeatsLaw" (57 : Nat) ({ cls := "DutyBeats", name := "score", desc := "(II)I" } : Jvm.MethodName)) ∈ lw_all := lw_g (lw_at lw_m4 198 rfl) rfl
theorem q1041 : (Jvm.Cond.methodLink "DutyBeatsLaw" (61 : Nat) ({ cls := "DutyBeats", name := "tune", desc := "(II)I" } : Jvm.MethodName)) ∈ lw_all := lw_g (lw_at lw_m4 202 rfl) rfl
theorem q1046 : (Jvm.Cond.methodLink "DutyBeatsLaw" (69 : Nat) ({ cls := "DutyBeats", name := "ahead", desc := "(III)I" } : Jvm.MethodName)) ∈ lw_all := lw_g (lw_at lw_m4 207 rfl) rfl
theorem q1056 : (Jvm.Cond.methodLink "DutyBeatsLaw" (74 : Nat) ({ cls := "DutyBeats", name := "clear", desc := "(I)I" } : Jvm.MethodName)) ∈ lw_all := lw_g (lw_at lw_m4 217 rfl) rfl
theorem q1060 : (Jvm.Cond.methodLink "DutyBeatsLaw" (106 : Nat) ({ cls := "DutyBeats", name := "cadenza", desc := "(I)I" } : Jvm.MethodName)) ∈ lw_all := lw_g (lw_at lw_m4 221 rfl) rfl
theorem q1064 : (Jvm.Cond.methodLink "DutyBeatsLaw" (102 : Nat) ({ cls := "DutyBeats", name := "longest", desc := "(II)I" } : Jvm.MethodName)) ∈ lw_all := lw_g (lw_at lw_m4 225 rfl) rfl
theorem q1068 : (Jvm.Cond.methodLink "DutyBeatsLaw" (78 : Nat) ({ cls := "DutyBeats", name := "chord", desc := "(I)I" } : Jvm.MethodName)) ∈ lw_all := lw_g (lw_at lw_m4 229 rfl) rfl
theorem q1078 : (Jvm.Cond.methodLink "DutyBeatsLaw" (82 : Nat) ({ cls := "DutyBeats", name := "beats", desc := "(I)I" } : Jvm.MethodName)) ∈ lw_all := lw_g (lw_at lw_m4 239 rfl) rfl
theorem q1086 : (Jvm.Cond.methodLink "DutyBeatsLaw" (86 : Nat) ({ cls := "DutyBeats", name := "bestScore", desc := "(II)I" } : Jvm.MethodName)) ∈ lw_all := lw_g (lw_at lw_m5 7 rfl) rfl
theorem q1095 : (Jvm.Cond.methodLink "DutyBeatsLaw" (90 : Nat) ({ cls := "DutyBeats", name := "row", desc := "(II)I" } : Jvm.MethodName)) ∈ lw_all := lw_g (lw_at lw_m5 16 rfl) rfl
theorem q1108 : (Jvm.Cond.methodLink "DutyBeatsLaw" (94 : Nat) ({ cls := "DutyBeats", name := "leastRoom", desc := "(I)I" } : Jvm.MethodName)) ∈ lw_all := lw_g (lw_at lw_m5 29 rfl) rfl
theorem q1117 : (Jvm.Cond.methodLink "DutyBeatsLaw" (98 : Nat) ({ cls := "DutyBeats", name := "shut", desc := "(II)I" } : Jvm.MethodName)) ∈ lw_all := lw_g (lw_at lw_m5 38 rfl) rfl
theorem q1121 : (Jvm.Cond.methodLink "DutyBeatsLaw" (110 : Nat) ({ cls := "DutyBeats", name := "rests", desc := "(IIII)I" } : Jvm.MethodName)) ∈ lw_all := lw_g (lw_at lw_m5 42 rfl) rfl
theorem q1133 : (Jvm.Cond.methodLink "DutyBeatsLaw" (115 : Nat) ({ cls := "DutyBeats", name := "ring", desc := "(I)I" } : Jvm.MethodName)) ∈ lw_all := lw_g (lw_at lw_m5 54 rfl) rfl
theorem q1141 : (Jvm.Cond.methodLink "DutyBeatsLaw" (119 : Nat) ({ cls := "DutyBeats", name := "pence", desc := "(II)I" } : Jvm.MethodName)) ∈ lw_all := lw_g (lw_at lw_m5 62 rfl) rfl
theorem q1146 : (Jvm.Cond.methodLink "DutyBeatsLaw" (123 : Nat) ({ cls := "DutyBeats", name := "note", desc := "(III)I" } : Jvm.MethodName)) ∈ lw_all := lw_g (lw_at lw_m5 67 rfl) rfl
theorem q1151 : (Jvm.Cond.methodLink "DutyBeatsLaw" (127 : Nat) ({ cls := "DutyBeats", name := "ruled", desc := "(I)I" } : Jvm.MethodName)) ∈ lw_all := lw_g (lw_at lw_m5 72 rfl) rfl
theorem q1159 : (Jvm.Cond.methodLink "DutyBeatsLaw" (131 : Nat) ({ cls := "DutyBeats", name := "look", desc := "(II)I" } : Jvm.MethodName)) ∈ lw_all := lw_g (lw_at lw_m5 80 rfl) rfl
theorem q1167 : (Jvm.Cond.methodLink "DutyBeatsLaw" (135 : Nat) ({ cls := "DutyBeats", name := "seed", desc := "(I)I" } : Jvm.MethodName)) ∈ lw_all := lw_g (lw_at lw_m5 88 rfl) rfl
theorem q1171 : (Jvm.Cond.methodLink "DutyBeatsLaw" (139 : Nat) ({ cls := "DutyBeats", name := "mornings", desc := "(IIII)I" } : Jvm.MethodName)) ∈ lw_all := lw_g (lw_at lw_m5 92 rfl) rfl
theorem q1185 : (Jvm.Cond.methodLink "DutyBeatsLaw" (143 : Nat) ({ cls := "DutyBeats", name := "count", desc := "(I)I" } : Jvm.MethodName)) ∈ lw_all := lw_g (lw_at lw_m5 106 rfl) rfl
theorem q1189 : (Jvm.Cond.methodLink "DutyBeatsLaw" (151 : Nat) ({ cls := "DutyBeats", name := "image", desc := "(I)I" } : Jvm.MethodName)) ∈ lw_all := lw_g (lw_at lw_m5 110 rfl) rfl
theorem q1233 : (Jvm.Cond.methodLink "DutyBeatsLaw" (155 : Nat) ({ cls := "DutyBeats", name := "back", desc := "(I)I" } : Jvm.MethodName)) ∈ lw_all := lw_g (lw_at lw_m5 154 rfl) rfl
theorem q1241 : (Jvm.Cond.classLink "DutyBeatsLaw" (10 : Nat) "DutyBeatsModel") ∈ lw_all := lw_g (lw_at lw_m5 162 rfl) rfl
theorem q1243 : (Jvm.Cond.methodLink "DutyBeatsLaw" (12 : Nat) ({ cls := "DutyBeatsModel", name := "<init>", desc := "()V" } : Jvm.MethodName)) ∈ lw_all := lw_g (lw_at lw_m5 164 rfl) rfl
theorem q1375 : (Jvm.Cond.methodLink "DutyBeatsLaw" (17 : Nat) ({ cls := "DutyBeatsModel", name := "feed", desc := "(IIIII)I" } : Jvm.MethodName)) ∈ lw_all := lw_g (lw_at lw_m6 56 rfl) rfl
theorem q1383 : (Jvm.Cond.methodLink "DutyBeatsLaw" (22 : Nat) ({ cls := "DutyBeatsModel", name := "end", desc := "(I)I" } : Jvm.MethodName)) ∈ lw_all := lw_g (lw_at lw_m6 64 rfl) rfl
theorem q1387 : (Jvm.Cond.methodLink "DutyBeatsLaw" (31 : Nat) ({ cls := "DutyBeatsModel", name := "rule", desc := "()I" } : Jvm.MethodName)) ∈ lw_all := lw_g (lw_at lw_m6 68 rfl) rfl
theorem q1541 : (Jvm.Cond.methodLink "DutyBeatsLaw" (27 : Nat) ({ cls := "DutyBeatsModel", name := "junction", desc := "()I" } : Jvm.MethodName)) ∈ lw_all := lw_g (lw_at lw_m6 222 rfl) rfl
theorem q1549 : (Jvm.Cond.methodLink "DutyBeatsLaw" (35 : Nat) ({ cls := "DutyBeatsModel", name := "force", desc := "(I)I" } : Jvm.MethodName)) ∈ lw_all := lw_g (lw_at lw_m6 230 rfl) rfl
theorem q1557 : (Jvm.Cond.methodLink "DutyBeatsLaw" (40 : Nat) ({ cls := "DutyBeatsModel", name := "road", desc := "(II)I" } : Jvm.MethodName)) ∈ lw_all := lw_g (lw_at lw_m6 238 rfl) rfl
theorem q1585 : (Jvm.Cond.methodLink "DutyBeatsLaw" (44 : Nat) ({ cls := "DutyBeatsModel", name := "scored", desc := "(I)I" } : Jvm.MethodName)) ∈ lw_all := lw_g (lw_at lw_m7 26 rfl) rfl
theorem q1597 : (Jvm.Cond.methodLink "DutyBeatsLaw" (68 : Nat) ({ cls := "DutyBeatsModel", name := "undo", desc := "()I" } : Jvm.MethodName)) ∈ lw_all := lw_g (lw_at lw_m7 38 rfl) rfl
theorem q1601 : (Jvm.Cond.methodLink "DutyBeatsLaw" (48 : Nat) ({ cls := "DutyBeatsModel", name := "beat", desc := "()I" } : Jvm.MethodName)) ∈ lw_all := lw_g (lw_at lw_m7 42 rfl) rfl
theorem q1673 : (Jvm.Cond.methodLink "DutyBeatsLaw" (52 : Nat) ({ cls := "DutyBeatsModel", name := "come", desc := "(II)I" } : Jvm.MethodName)) ∈ lw_all := lw_g (lw_at lw_m7 114 rfl) rfl
theorem q1678 : (Jvm.Cond.methodLink "DutyBeatsLaw" (56 : Nat) ({ cls := "DutyBeatsModel", name := "wave", desc := "(I)I" } : Jvm.MethodName)) ∈ lw_all := lw_g (lw_at lw_m7 119 rfl) rfl
theorem q1682 : (Jvm.Cond.methodLink "DutyBeatsLaw" (60 : Nat) ({ cls := "DutyBeatsModel", name := "score", desc := "(II)I" } : Jvm.MethodName)) ∈ lw_all := lw_g (lw_at lw_m7 123 rfl) rfl
theorem q1686 : (Jvm.Cond.methodLink "DutyBeatsLaw" (64 : Nat) ({ cls := "DutyBeatsModel", name := "tune", desc := "(II)I" } : Jvm.MethodName)) ∈ lw_all := lw_g (lw_at lw_m7 127 rfl) rfl
theorem q1691 : (Jvm.Cond.methodLink "DutyBeatsLaw" (150 : Nat) ({ cls := "DutyBeatsModel", name := "heard", desc := "()I" } : Jvm.MethodName)) ∈ lw_all := lw_g (lw_at lw_m7 132 rfl) rfl
theorem q1695 : (Jvm.Cond.methodLink "DutyBeatsLaw" (73 : Nat) ({ cls := "DutyBeatsModel", name := "ahead", desc := "(III)I" } : Jvm.MethodName)) ∈ lw_all := lw_g (lw_at lw_m7 136 rfl) rfl
theorem q1713 : (Jvm.Cond.methodLink "DutyBeatsLaw" (77 : Nat) ({ cls := "DutyBeatsModel", name := "clear", desc := "(I)I" } : Jvm.MethodName)) ∈ lw_all := lw_g (lw_at lw_m7 154 rfl) rfl
theorem q1717 : (Jvm.Cond.methodLink "DutyBeatsLaw" (81 : Nat) ({ cls := "DutyBeatsModel", name := "chord", desc := "(I)I" } : Jvm.MethodName)) ∈ lw_all := lw_g (lw_at lw_m7 158 rfl) rfl
theorem q1725 : (Jvm.Cond.methodLink "DutyBeatsLaw" (85 : Nat) ({ cls := "DutyBeatsModel", name := "beats", desc := "(I)I" } : Jvm.MethodName)) ∈ lw_all := lw_g (lw_at lw_m7 166 rfl) rfl
theorem q1739 : (Jvm.Cond.methodLink "DutyBeatsLaw" (89 : Nat) ({ cls := "DutyBeatsModel", name := "bestScore", desc := "(II)I" } : Jvm.MethodName)) ∈ lw_all := lw_g (lw_at lw_m7 180 rfl) rfl
theorem q1748 : (Jvm.Cond.methodLink "DutyBeatsLaw" (93 : Nat) ({ cls := "DutyBeatsModel", name := "row", desc := "(II)I" } : Jvm.MethodName)) ∈ lw_all := lw_g (lw_at lw_m7 189 rfl) rfl
theorem q1762 : (Jvm.Cond.methodLink "DutyBeatsLaw" (97 : Nat) ({ cls := "DutyBeatsModel", name := "leastRoom", desc := "(I)I" } : Jvm.MethodName)) ∈ lw_all := lw_g (lw_at lw_m7 203 rfl) rfl
theorem q1771 : (Jvm.Cond.methodLink "DutyBeatsLaw" (101 : Nat) ({ cls := "DutyBeatsModel", name := "shut", desc := "(II)I" } : Jvm.MethodName)) ∈ lw_all := lw_g (lw_at lw_m7 212 rfl) rfl
theorem q1775 : (Jvm.Cond.methodLink "DutyBeatsLaw" (105 : Nat) ({ cls := "DutyBeatsModel", name := "longest", desc := "(II)I" } : Jvm.MethodName)) ∈ lw_all := lw_g (lw_at lw_m7 216 rfl) rfl
theorem q1779 : (Jvm.Cond.methodLink "DutyBeatsLaw" (109 : Nat) ({ cls := "DutyBeatsModel", name := "cadenza", desc := "(I)I" } : Jvm.MethodName)) ∈ lw_all := lw_g (lw_at lw_m7 220 rfl) rfl
theorem q1787 : (Jvm.Cond.methodLink "DutyBeatsLaw" (114 : Nat) ({ cls := "DutyBeatsModel", name := "rests", desc := "(IIII)I" } : Jvm.MethodName)) ∈ lw_all := lw_g (lw_at lw_m7 228 rfl) rfl
theorem q1803 : (Jvm.Cond.methodLink "DutyBeatsLaw" (118 : Nat) ({ cls := "DutyBeatsModel", name := "ring", desc := "(I)I" } : Jvm.MethodName)) ∈ lw_all := lw_g (lw_at lw_m8 4 rfl) rfl
theorem q1811 : (Jvm.Cond.methodLink "DutyBeatsLaw" (122 : Nat) ({ cls := "DutyBeatsModel", name := "pence", desc := "(II)I" } : Jvm.MethodName)) ∈ lw_all := lw_g (lw_at lw_m8 12 rfl) rfl
theorem q1816 : (Jvm.Cond.methodLink "DutyBeatsLaw" (126 : Nat) ({ cls := "DutyBeatsModel", name := "note", desc := "(III)I" } : Jvm.MethodName)) ∈ lw_all := lw_g (lw_at lw_m8 17 rfl) rfl
theorem q1821 : (Jvm.Cond.methodLink "DutyBeatsLaw" (130 : Nat) ({ cls := "DutyBeatsModel", name := "ruled", desc := "(I)I" } : Jvm.MethodName)) ∈ lw_all := lw_g (lw_at lw_m8 22 rfl) rfl
theorem q1833 : (Jvm.Cond.methodLink "DutyBeatsLaw" (134 : Nat) ({ cls := "DutyBeatsModel", name := "look", desc := "(II)I" } : Jvm.MethodName)) ∈ lw_all := lw_g (lw_at lw_m8 34 rfl) rfl
theorem q1841 : (Jvm.Cond.methodLink "DutyBeatsLaw" (138 : Nat) ({ cls := "DutyBeatsModel", name := "seed", desc := "(I)I" } : Jvm.MethodName)) ∈ lw_all := lw_g (lw_at lw_m8 42 rfl) rfl
theorem q1845 : (Jvm.Cond.methodLink "DutyBeatsLaw" (142 : Nat) ({ cls := "DutyBeatsModel", name := "mornings", desc := "(IIII)I" } : Jvm.MethodName)) ∈ lw_all := lw_g (lw_at lw_m8 46 rfl) rfl
theorem q1859 : (Jvm.Cond.methodLink "DutyBeatsLaw" (146 : Nat) ({ cls := "DutyBeatsModel", name := "count", desc := "(I)I" } : Jvm.MethodName)) ∈ lw_all := lw_g (lw_at lw_m8 60 rfl) rfl
theorem q1863 : (Jvm.Cond.methodLink "DutyBeatsLaw" (154 : Nat) ({ cls := "DutyBeatsModel", name := "image", desc := "(I)I" } : Jvm.MethodName)) ∈ lw_all := lw_g (lw_at lw_m8 64 rfl) rfl
theorem q1867 : (Jvm.Cond.methodLink "DutyBeatsLaw" (158 : Nat) ({ cls := "DutyBeatsModel", name := "back", desc := "(I)I" } : Jvm.MethodName)) ∈ lw_all := lw_g (lw_at lw_m8 68 rfl) rfl
theorem q140 : (Jvm.Cond.initialized "java/lang/System") ∈ lw_all := lw_g (lw_at lw_m1 21 rfl) rfl
theorem q678 : (Jvm.Cond.static ({ cls := "java/lang/System", name := "arraycopy", desc := "(Ljava/lang/Object;ILjava/lang/Object;II)V" } : Jvm.MethodName)) ∈ lw_all := lw_g (lw_at lw_m3 79 rfl) rfl
theorem q679 : (Jvm.Cond.native ({ cls := "java/lang/System", name := "arraycopy", desc := "(Ljava/lang/Object;ILjava/lang/Object;II)V" } : Jvm.MethodName)) ∈ lw_all := lw_g (lw_at lw_m3 80 rfl) rfl
theorem q1892 : (Jvm.Cond.sameMethod "[Ljava/lang/Object;" "java/lang/Object" "getClass" "()Ljava/lang/Class;") ∈ lw_all := lw_g (lw_at lw_m8 93 rfl) rfl
theorem q1893 : (Jvm.Cond.selects "[Ljava/lang/Object;" ({ cls := "java/lang/Object", name := "getClass", desc := "()Ljava/lang/Class;" } : Jvm.MethodName) ({ cls := "java/lang/Object", name := "getClass", desc := "()Ljava/lang/Class;" } : Jvm.MethodName)) ∈ lw_all := lw_g (lw_at lw_m8 94 rfl) rfl
theorem q1895 : (Jvm.Cond.castable "[Ljava/lang/Object;" "java/lang/Object") ∈ lw_tbl := lw_at lw_m8 96 rfl
theorem q1896 : (Jvm.Cond.castable "[I" "java/lang/Object") ∈ lw_tbl := lw_at lw_m8 97 rfl
theorem q1897 : (Jvm.Cond.castable "[LDutyBeats$State;" "java/lang/Object") ∈ lw_tbl := lw_at lw_m8 98 rfl
theorem q1898 : (Jvm.Cond.castable "[LDutyBeats$Image;" "java/lang/Object") ∈ lw_tbl := lw_at lw_m8 99 rfl
theorem q1899 : (Jvm.Cond.castable "[B" "java/lang/Object") ∈ lw_tbl := lw_at lw_m8 100 rfl
theorem q1900 : (Jvm.Cond.castable "[J" "java/lang/Object") ∈ lw_tbl := lw_at lw_m8 101 rfl
theorem q1901 : (Jvm.Cond.castable "[Z" "java/lang/Object") ∈ lw_tbl := lw_at lw_m8 102 rfl
theorem q1902 : (Jvm.Cond.castable "[Ljava/lang/String;" "java/lang/Object") ∈ lw_tbl := lw_at lw_m8 103 rfl
