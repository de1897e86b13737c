set_option maxRecDepth 100000
/-! ===== ArrayList.add: growing ===== -/
theorem plJ10 : plainName RJ10 = true := by decide +kernel
theorem plJ12 : plainName RJ12 = true := by decide +kernel
theorem jmax_nI {a b : Nat} (ha : a < 2 ^ 31) (hb : b < 2 ^ 31) : jmax (nI a) (nI b) = nI (max a b) := by
  unfold jmax
  by_cases h : a < b
  · rw [if_pos (nI_lt h hb), Nat.max_eq_right (by omega)]
  · rw [if_neg (nI_nlt (by omega) ha), Nat.max_eq_left (by omega)]
theorem jmin_nI {a b : Nat} (ha : a < 2 ^ 31) (hb : b < 2 ^ 31) : jmin (nI a) (nI b) = nI (min a b) := by
  unfold jmin
  by_cases h : b < a
  · rw [if_pos (nI_lt h ha), Nat.min_eq_right (by omega)]
  · rw [if_neg (nI_nlt (by omega) hb), Nat.min_eq_left (by omega)]
theorem hdJ10_newLength : yJ10_newLength.cls ≠ "java/lang/invoke/MethodHandle" ∧ yJ10_newLength.cls ≠ "java/lang/invoke/VarHandle" ∧ (parseMethodDescriptor yJ10_newLength.desc).map (fun d => d.parameters.length) = some 3 := by decide +kernel
set_option maxHeartbeats 4000000 in
theorem mJ10_newLength (l : Launch) (a g q : Nat) (h1 : 0 < g) (h2 : a + g + q < 2 ^ 30) (sz : Nat) : Met l yJ10_newLength (ws_ yJ10_newLength cJ10_newLength 4 (some .int)) (rm_ 1 30) (PcS [.int (nI a), .int (nI g), .int (nI q)] sz) (QiS (nI (a + max g q)) sz) 0 0 (fun q => sz ≤ q) := by
  refine Met.ofW (cc := cJ10_newLength) (maxL := 4) (ret := (some .int)) plJ10 rfl ?_
  intro p e s m args below meth c s₁ B hml hv
  obtain ⟨C, hT, hr, hlocks, hargs, rfl⟩ := s_enter (D := db_D0) (own := RJ10) B hml rfl hv
  have hx := C.1
  have hb := C.2.1
  show W p l e (rm_ 1 30) s m args below meth c s.heap [] 0 0 (MQ below (QiS (nI (a + max g q)) s.heap.size) args s 0 0 (fun q => s.heap.size ≤ q)) _
  refine W.eq (by rw [hargs]) (t_in (vs := [.int (nI a), .int (nI g), .int (nI q)]) (n := 4) (Nat.le_of_ble_eq_true rfl) (fun ls hl => ?_))
  have hl : lv_has ls 4 [(0, .int (nI a)), (1, .int (nI g)), (2, .int (nI q))] := hl
  refine lv_iload_n hx hb dJ10_newLength_0 rfl (lv_at hl 0 rfl) ?_
  refine lv_iload_n hx hb dJ10_newLength_1 rfl (lv_at hl 1 rfl) ?_
  refine lv_iload_n hx hb dJ10_newLength_2 rfl (lv_at hl 2 rfl) ?_
  refine g_max C hl.1 q638 q639 q138 q640 (Nat.le_of_ble_eq_true rfl) (Nat.le_of_ble_eq_true rfl) ⟨Nat.zero_le _, Nat.zero_le _⟩ dJ10_newLength_3 ?_
  rw [jmax_nI (by omega) (by omega)]
  refine lv_iadd hx hb dJ10_newLength_6 ?_
  rw [nI_add]
  refine lv_istore_n (lv' := [(3, .int (nI (a + max g q))), (0, .int (nI a)), (1, .int (nI g)), (2, .int (nI q))]) hx hb dJ10_newLength_7 rfl hl (by decide) rfl (fun ls hl => ?_)
  refine lv_iconst (v := 0) hx hb dJ10_newLength_8 (by decide) ?_
  refine lv_iload_n hx hb dJ10_newLength_9 rfl (lv_at hl 0 rfl) ?_
  refine lv_icmp_ge (tgt := 21) hx hb dJ10_newLength_10 (by decide) (fun hc => absurd hc (nI_nle (by omega) (by omega))) (fun _ => ?_)
  refine lv_iload_n hx hb dJ10_newLength_13 rfl (lv_at hl 0 rfl) ?_
  refine lv_ldc hx hb C.2.2.2.1 (C.2.2.2.2 _ q641) dJ10_newLength_14 ?_
  refine lv_icmp_gt (tgt := 21) hx hb dJ10_newLength_16 (by decide) (fun hc => ?_) (fun _ => ?_)
  · have e : (2147483639 : Int32) = nI 2147483639 := by decide +kernel
    rw [e] at hc
    exact absurd hc (nI_nlt (by omega) (by omega))
  refine lv_iload_n hx hb dJ10_newLength_19 rfl (lv_at hl 0 rfl) ?_
  exact s_iret C hT rfl hr hlocks dJ10_newLength_20
/-- what lies in a list may lie in an array of objects -/
def ELs (P : Nat → va_E → Prop) (cap : Nat) (f : Nat → Option Nat) : Prop := ∀ i, i < cap → ∀ y, f i = some y → ∃ (ci : Nat) (fs : List Value), (ci = 7 ∨ ci = 8 ∨ ci = 12) ∧ P y (.inr (ci, fs))
theorem ELs.mono {P P' : Nat → va_E → Prop} (h : ∀ q e, P q e → P' q e) {cap : Nat} {f : Nat → Option Nat} (hE : ELs P cap f) : ELs P' cap f := by
  intro i hi y hy
  obtain ⟨ci, fs, h1, h2⟩ := hE i hi y hy
  exact ⟨ci, fs, h1, h _ _ h2⟩
theorem any_of {D : va_G} {d : Nat → ClassId} {sd : Nat} {A : Nat → Prop} {s : State} {H : Heap} {locs : List Loc} {y ci : Nat} {fs : List Value} (hX : RX D d sd A s s.heap) (hS : va_S A s.heap H locs) (hci : ci = 7 ∨ ci = 8 ∨ ci = 12) (h : FzP D A s.heap y (.inr (ci, fs))) : va_Any "java/lang/Object" s H y := by
  rcases hci with e | e | e
  · subst e
    exact va_rAny (ws := [(y, .inr (7, fs))]) (q0 := 0) hX.1 (at1 (h.at hS)) rfl rfl (fun comp c0 h1 h2 => vb_asgC (hX.2.1 _ q1882 rfl) comp c0 h1 h2)
  · subst e
    exact va_rAny (ws := [(y, .inr (8, fs))]) (q0 := 0) hX.1 (at1 (h.at hS)) rfl rfl (fun comp c0 h1 h2 => vb_asgC (hX.2.1 _ q1883 rfl) comp c0 h1 h2)
  · subst e
    exact va_rAny (ws := [(y, .inr (12, fs))]) (q0 := 0) hX.1 (at1 (h.at hS)) rfl rfl (fun comp c0 h1 h2 => vb_asgC (hX.2.1 _ q1887 rfl) comp c0 h1 h2)
theorem hdJ12_copyOf_2 : yJ12_copyOf_2.cls ≠ "java/lang/invoke/MethodHandle" ∧ yJ12_copyOf_2.cls ≠ "java/lang/invoke/VarHandle" ∧ (parseMethodDescriptor yJ12_copyOf_2.desc).map (fun d => d.parameters.length) = some 3 := by decide +kernel
theorem hdJ12_copyOf : yJ12_copyOf.cls ≠ "java/lang/invoke/MethodHandle" ∧ yJ12_copyOf.cls ≠ "java/lang/invoke/VarHandle" ∧ (parseMethodDescriptor yJ12_copyOf.desc).map (fun d => d.parameters.length) = some 2 := by decide +kernel
/-- an array of objects, and its longer copy -/
abbrev aO (d : Nat → ClassId) (b cap : Nat) (f : Nat → Option Nat) : Nat × va_E := (b, .inl (d 6, cap, .inr (.inr (.inr (.inr f)))))
def fcut (cap : Nat) (f : Nat → Option Nat) : Nat → Option Nat := fun i => if i < cap then f i else none
theorem fcut_cpy (cap : Nat) (f : Nat → Option Nat) : va_cpy f (fun _ => none) 0 0 cap = fcut cap f := by
  funext i
  unfold fcut
  by_cases h : i < cap
  · rw [pk_cpy_in (by omega) (by omega), if_pos h, Nat.zero_add, Nat.sub_zero]
  · rw [pk_cpy_out (by omega), if_neg h]
set_option maxHeartbeats 4000000 in
theorem mJ12_copyOf_2 (l : Launch) (D : va_G) (d : Nat → ClassId) (sd : Nat) (b2 cap : Nat) (f : Nat → Option Nat) (n : Nat) (hn : cap ≤ n) (hn2 : n < 4096) (sz : Nat) : Met l yJ12_copyOf_2 (ws_ yJ12_copyOf_2 cJ12_copyOf_2 4 (some (.array (.object "java/lang/Object")))) ({ frames := 2, cells := 1, slots := n, locals := 60 } : Room) (GPc D d sd [.ref b2, .int (nI n), .ref (d 21)] [aO d b2 cap f] (fun P => ELs P cap f) sz) (NQr D (fun _ : Unit => True) (fun _ q => [aO d b2 cap f, aO d q n (fcut cap f)]) [aO d b2 cap f] sz) 1 n (va_A [aO d b2 cap f] sz) := by
  refine Met.ofW (cc := cJ12_copyOf_2) (maxL := 4) (ret := (some (.array (.object "java/lang/Object")))) plJ12 rfl ?_
  intro p e s m args below meth c s₁ B hml hv
  obtain ⟨C, hX, hR, hT, hr, hlocks, hargs, rfl⟩ := g_enter (own := RJ12) B hml rfl hv
  have hx := C.1
  have hb := C.2.1
  have hV := hX.1
  have hA : ∀ q, s.heap.size ≤ q → va_A [aO d b2 cap f] s.heap.size q := fun q h => by rw [va_A_map]; exact Or.inr h
  show W p l e ({ frames := 2, cells := 1, slots := n, locals := 60 } : Room) s m args below meth c s.heap [] 0 0 (MQ below (NQr D (fun _ : Unit => True) (fun _ q => [aO d b2 cap f, aO d q n (fcut cap f)]) [aO d b2 cap f] s.heap.size) args s 1 n (va_A [aO d b2 cap f] s.heap.size)) _
  refine W.eq (by rw [hargs]) (t_in (vs := [.ref b2, .int (nI n), .ref (d 21)]) (n := 4) (Nat.le_of_ble_eq_true rfl) (fun ls hl => ?_))
  have hl : lv_has ls 4 [(0, .ref b2), (1, .int (nI n)), (2, .ref (d 21))] := hl
  refine lv_aload_n hx hb dJ12_copyOf_2_0 rfl (lv_at hl 2 rfl) ?_
  refine va_ldcM hx hb C.2.2.2.1 (C.2.2.2.2 _ q672) hX.2.2.2.2.2.2.2.2.2.2.2.1 dJ12_copyOf_2_1 ?_
  refine lv_acmp_ne (rx := some (d 21)) (ry := some (d 21)) (tgt := 13) hx hb dJ12_copyOf_2_3 (by decide) (fun hc => absurd rfl hc) (fun _ => ?_)
  refine lv_iload_n hx hb dJ12_copyOf_2_6 rfl (lv_at hl 1 rfl) ?_
  refine n_newq (t0 := 6) (N' := n) C hV hT hA q673 (hX.2.1.ao q181) rfl (nI_pos (by omega)) (nI_clamp (by omega)) (by omega) (Nat.le_refl 1) (by show 0 + n ≤ n; omega) dJ12_copyOf_2_7 (fun q H hT => ?_)
  refine lv_goto (tgt := 24) hx hb dJ12_copyOf_2_10 (by decide) ?_
  refine lv_astore_n (lv' := [(3, .ref q), (0, .ref b2), (1, .int (nI n)), (2, .ref (d 21))]) hx hb dJ12_copyOf_2_24 rfl hl (by decide) rfl (fun ls hl => ?_)
  refine lv_aload_n hx hb dJ12_copyOf_2_25 rfl (lv_at hl 1 rfl) ?_
  refine lv_iconst (v := 0) hx hb dJ12_copyOf_2_26 (by decide) ?_
  refine lv_aload_n hx hb dJ12_copyOf_2_27 rfl (lv_at hl 0 rfl) ?_
  refine lv_iconst (v := 0) hx hb dJ12_copyOf_2_28 (by decide) ?_
  refine lv_aload_n hx hb dJ12_copyOf_2_29 rfl (lv_at hl 1 rfl) ?_
  refine r_alen C hV (hT.atp 0 rfl) (t0 := 6) rfl rfl dJ12_copyOf_2_30 ?_
  refine lv_iload_n hx hb dJ12_copyOf_2_31 rfl (lv_at hl 2 rfl) ?_
  refine g_min C hl.1 q674 q675 q138 q676 (Nat.le_of_ble_eq_true rfl) (Nat.le_of_ble_eq_true rfl) ⟨Nat.le_refl 1, by show 0 + n ≤ n; omega⟩ dJ12_copyOf_2_32 ?_
  have em : jmin (Int32.ofNat cap) (nI n) = nI cap := by
    rw [show Int32.ofNat cap = nI cap from rfl, jmin_nI (by omega) (by omega), Nat.min_eq_left hn]
  rw [em]
  have ec : (nI cap).toNatClampNeg = cap := nI_clamp (by omega)
  refine va_copyM hx hb (C.2.2.1.trans hl.1.symm) C.2.2.2.1 (C.2.2.2.2 _ q677) (C.2.2.2.2 _ q679) (C.2.2.2.2 _ q678) (C.2.2.2.2 _ q140) hV hT.1 hT.2.1 hT.2.2 0 1 6 6 rfl rfl rfl rfl (by decide) (by decide) (nI_pos (by omega)) (by rw [ec]; show 0 + cap ≤ cap; omega) (by rw [ec]; show 0 + cap ≤ n; omega) (fun i hi y hy => ?_) (Nat.le_of_ble_eq_true rfl) (Nat.le_of_ble_eq_true rfl) dJ12_copyOf_2_35 (fun H locs hP hD hS => ?_)
  · rw [ec] at hi
    have hy : f (0 + i) = some y := hy
    rw [Nat.zero_add] at hy
    obtain ⟨ci, fs, h1, h2⟩ := hR i hi y hy
    exact any_of hX hT.2.2 h1 h2
  have hT : TH D (va_A [aO d b2 cap f] s.heap.size) s.heap [aO d b2 cap f, aO d q n (fcut cap f)] H locs := by
    rw [← fcut_cpy, ← ec]
    rw [ec]
    refine ⟨?_, ?_, hS⟩
    · have := hP
      rw [ec] at this
      exact this
    · have := hD
      rw [ec] at this
      exact this
  refine lv_aload_n hx hb dJ12_copyOf_2_38 rfl (lv_at hl 0 rfl) ?_
  refine W.widen (k := 1) (n := n) (Nat.le_refl 1) (by omega) ?_
  exact n_aret (fun _ q => [aO d b2 cap f, aO d q n (fcut cap f)]) () C hT trivial (fun q hq => hq) (D_nd hT.2.1) hr (Or.inr ⟨_, rfl⟩) hlocks dJ12_copyOf_2_39
set_option maxHeartbeats 4000000 in
theorem mJ12_copyOf (l : Launch) (D : va_G) (d : Nat → ClassId) (sd : Nat) (b2 cap : Nat) (f : Nat → Option Nat) (n : Nat) (hn : cap ≤ n) (hn2 : n < 4096) (sz : Nat) : Met l yJ12_copyOf (ws_ yJ12_copyOf cJ12_copyOf 2 (some (.array (.object "java/lang/Object")))) ({ frames := 3, cells := 1, slots := n, locals := 90 } : Room) (GPc D d sd [.ref b2, .int (nI n)] [aO d b2 cap f] (fun P => ELs P cap f) sz) (NQr D (fun _ : Unit => True) (fun _ q => [aO d b2 cap f, aO d q n (fcut cap f)]) [aO d b2 cap f] sz) 1 n (va_A [aO d b2 cap f] sz) := by
  refine Met.ofW (cc := cJ12_copyOf) (maxL := 2) (ret := (some (.array (.object "java/lang/Object")))) plJ12 rfl ?_
  intro p e s m args below meth c s₁ B hml hv
  obtain ⟨C, hX, hR, hT, hr, hlocks, hargs, rfl⟩ := g_enter (own := RJ12) B hml rfl hv
  have hx := C.1
  have hb := C.2.1
  have hV := hX.1
  have hA : ∀ q, s.heap.size ≤ q → va_A [aO d b2 cap f] s.heap.size q := fun q h => by rw [va_A_map]; exact Or.inr h
  show W p l e ({ frames := 3, cells := 1, slots := n, locals := 90 } : Room) s m args below meth c s.heap [] 0 0 (MQ below (NQr D (fun _ : Unit => True) (fun _ q => [aO d b2 cap f, aO d q n (fcut cap f)]) [aO d b2 cap f] s.heap.size) args s 1 n (va_A [aO d b2 cap f] s.heap.size)) _
  refine W.eq (by rw [hargs]) (t_in (vs := [.ref b2, .int (nI n)]) (n := 2) (Nat.le_of_ble_eq_true rfl) (fun ls hl => ?_))
  have hl : lv_has ls 2 [(0, .ref b2), (1, .int (nI n))] := hl
  refine lv_aload_n hx hb dJ12_copyOf_0 rfl (lv_at hl 0 rfl) ?_
  refine lv_iload_n hx hb dJ12_copyOf_1 rfl (lv_at hl 1 rfl) ?_
  refine lv_aload_n hx hb dJ12_copyOf_2 rfl (lv_at hl 0 rfl) ?_
  have hcl : s.vm.findClass "[Ljava/lang/Object;" = some (d 6) := va_nmO (hV.2 6 _ rfl).2 (by decide +kernel)
  refine va_getC hx hb (C.2.2.1.trans hl.1.symm) C.2.2.2.1 (C.2.2.2.2 _ q648) (va_Nw.use rfl (hX.2.1 _ q1894 rfl)) (C.2.2.2.2 _ q1893) (C.2.2.2.2 _ q649) (C.2.2.2.2 _ q668) hX.2.2.2.2.2.2.2.2.2.2.2.1 ⟨_, hT.atp 0 rfl, rfl, hcl⟩ (Nat.le_of_ble_eq_true rfl) (Nat.le_of_ble_eq_true rfl) dJ12_copyOf_3 ?_
  refine n_scallr (vs := [.ref b2, .int (nI n), .ref (d 21)]) (rest := []) C hX hT hA (Cutn.all hT.2.1) (hR.mono (fun _ _ h => h)) (fun sz => mJ12_copyOf_2 l D d sd b2 cap f n hn hn2 sz) (va_cwS 3 C.2.2.2.2 (lw_S q669 q670 q139 q671) rfl rfl rfl hdJ12_copyOf_2 ⟨Nat.le_of_ble_eq_true rfl, Nat.le_of_ble_eq_true rfl⟩) rfl hl.1 rfl (Nat.le_of_ble_eq_true rfl) dJ12_copyOf_6 ⟨Nat.le_refl 1, by show 0 + n ≤ n; omega⟩ (fun u q H locs hu hT _ _ => ?_)
  refine W.widen (k := 1) (n := n) (Nat.le_refl 1) (by omega) ?_
  exact n_aret (fun _ q => [aO d b2 cap f, aO d q n (fcut cap f)]) () C hT trivial (fun q hq => hq) (D_nd hT.2.1) hr (Or.inr ⟨_, rfl⟩) hlocks dJ12_copyOf_9
section GNV
variable {p : Program} {l : Launch} {e : Env} {R : Room} {s : State} {m : MethodId} {args : Array Value} {below : List Frame} {meth : Method} {c : Code} {H : Heap} {locs : List Loc} {cells slots : Nat} {Q : State → Prop}
variable {cc : ByteArray} {nL pc : Nat} {ls : Array Slot} {rest : List Value} {D : va_G} {d : Nat → ClassId} {sd : Nat} {A : Nat → Prop} {own : String} {ws ws0 : va_W}
variable {y : MethodName} {bytes : ByteArray} {maxL idx n mc ms : Nat} {rt : FieldType} {rm : Room} {vs st0 : List Value} {wc wr : va_W} {Ro : (Nat → va_E → Prop) → Prop}
/-- post of a method that answers with a number and makes cells -/
abbrev NQi (D : va_G) {σ : Type} (r : Int32) (post : σ → Prop) (F : σ → va_W) (ws : va_W) (sz : Nat) : Array Value → State → Outcome → State → Prop := va_Qi (fun (r' : Int32) (u : σ) => r' = r ∧ post u) (fun u U => va_P D db_cls (F u) U.heap ∧ va_D (va_A ws sz) (F u)) (va_A ws sz)
theorem n_vcallv {σ : Type} {post : σ → Prop} {F : σ → va_W} {b : Nat} {C0 : String} (C : CallFix p m c cc nL s args lw_all own) (hX : RX D d sd A s s.heap) (hT : TH D A s.heap ws H locs) (hA : ∀ q, s.heap.size ≤ q → A q) (hC : Cutn ws wc wr) (hRo : Ro (FzP D (va_A wc H.size) H)) (hM : ∀ sz, Met l y (ws_ y bytes maxL none) rm (GPc D d sd (.ref b :: vs) wc Ro sz) (NQv D post F wc sz) mc ms (va_A wc sz)) (cw : CallW R s args own C0 idx y bytes maxL none (ws_ y bytes maxL none) rm mc ms n) (hrecv : ∃ cell : Cell, H[b]? = some cell ∧ cell.vm.isStatics = false ∧ s.vm.findClass C0 = some cell.cls) (hn : vs.length = n) (hsize : ls.size = nL) (hst : st0 = vs.reverse ++ .ref b :: rest) (hroom : (rest.map fun v => v.category).sum ≤ 8) (hdg : decode cc pc = .ok (.invokevirtual idx, 3)) (hf : cells + mc ≤ R.cells ∧ slots + ms ≤ R.slots)
    (k : ∀ (u : σ) (H1 : Heap) (locs1 : List Loc), post u → TH D A s.heap (wr ++ F u) H1 locs1 → H.size ≤ H1.size → (∀ q : Nat, q < H.size → ¬ va_A wc H.size q → H1[q]? = H[q]?) → W p l e R s m args below meth c H1 locs1 (cells + mc) (slots + ms) Q (F0 m (pc + 3) ls rest)) : W p l e R s m args below meth c H locs cells slots Q (F0 m pc ls st0) := by
  obtain ⟨h1, h2, h3⟩ := g_preN (vs := .ref b :: vs) hX hT hA hC hRo
  refine va_callv (va_runV (As := vs) (rest := rest) C (hM H.size) cw ⟨h1, hrecv, h2⟩ rfl hn hsize hst (lv_room hroom) hdg hf) hT.2.2 (fun q _ h => h3 q h) h3 (fun u T2 H1 locs1 ht hvm hw1 hB hz1 hk1 hS => ?_)
  subst ht
  exact k u _ locs1 hw1 (hT.joinN hC h3 hB.1 hB.2 hk1 hS) hz1 hk1
theorem n_vcalli {σ : Type} {r : Int32} {post : σ → Prop} {F : σ → va_W} {b : Nat} {C0 : String} (C : CallFix p m c cc nL s args lw_all own) (hX : RX D d sd A s s.heap) (hT : TH D A s.heap ws H locs) (hA : ∀ q, s.heap.size ≤ q → A q) (hC : Cutn ws wc wr) (hRo : Ro (FzP D (va_A wc H.size) H)) (hM : ∀ sz, Met l y (ws_ y bytes maxL (some rt)) rm (GPc D d sd (.ref b :: vs) wc Ro sz) (NQi D r post F wc sz) mc ms (va_A wc sz)) (cw : CallW R s args own C0 idx y bytes maxL (some rt) (ws_ y bytes maxL (some rt)) rm mc ms n) (hrecv : ∃ cell : Cell, H[b]? = some cell ∧ cell.vm.isStatics = false ∧ s.vm.findClass C0 = some cell.cls) (hn : vs.length = n) (hsize : ls.size = nL) (hst : st0 = vs.reverse ++ .ref b :: rest) (hroom : (rest.map fun v => v.category).sum ≤ 8) (hdg : decode cc pc = .ok (.invokevirtual idx, 3)) (hf : cells + mc ≤ R.cells ∧ slots + ms ≤ R.slots)
    (k : ∀ (u : σ) (H1 : Heap) (locs1 : List Loc), post u → TH D A s.heap (wr ++ F u) H1 locs1 → H.size ≤ H1.size → (∀ q : Nat, q < H.size → ¬ va_A wc H.size q → H1[q]? = H[q]?) → W p l e R s m args below meth c H1 locs1 (cells + mc) (slots + ms) Q (F0 m (pc + 3) ls (.int r :: rest))) : W p l e R s m args below meth c H locs cells slots Q (F0 m pc ls st0) := by
  obtain ⟨h1, h2, h3⟩ := g_preN (vs := .ref b :: vs) hX hT hA hC hRo
  refine va_calli (va_runV (As := vs) (rest := rest) C (hM H.size) cw ⟨h1, hrecv, h2⟩ rfl hn hsize hst (lv_room hroom) hdg hf) hT.2.2 (fun q _ h => h3 q h) h3 (fun r1 u T2 H1 locs1 ht hvm hw1 hB hz1 hk1 hS => ?_)
  subst ht
  obtain ⟨e1, hp⟩ := hw1
  subst e1
  exact k u _ locs1 hp (hT.joinN hC h3 hB.1 hB.2 hk1 hS) hz1 hk1
theorem n_vcallr {σ : Type} {post : σ → Prop} {F : σ → Nat → va_W} {b : Nat} {C0 : String} (C : CallFix p m c cc nL s args lw_all own) (hX : RX D d sd A s s.heap) (hT : TH D A s.heap ws H locs) (hA : ∀ q, s.heap.size ≤ q → A q) (hC : Cutn ws wc wr) (hRo : Ro (FzP D (va_A wc H.size) H)) (hM : ∀ sz, Met l y (ws_ y bytes maxL (some rt)) rm (GPc D d sd (.ref b :: vs) wc Ro sz) (NQr D post F wc sz) mc ms (va_A wc sz)) (cw : CallW R s args own C0 idx y bytes maxL (some rt) (ws_ y bytes maxL (some rt)) rm mc ms n) (hrecv : ∃ cell : Cell, H[b]? = some cell ∧ cell.vm.isStatics = false ∧ s.vm.findClass C0 = some cell.cls) (hn : vs.length = n) (hsize : ls.size = nL) (hst : st0 = vs.reverse ++ .ref b :: rest) (hroom : (rest.map fun v => v.category).sum ≤ 8) (hdg : decode cc pc = .ok (.invokevirtual idx, 3)) (hf : cells + mc ≤ R.cells ∧ slots + ms ≤ R.slots)
    (k : ∀ (u : σ) (x : Nat) (H1 : Heap) (locs1 : List Loc), post u → TH D A s.heap (wr ++ F u x) H1 locs1 → H.size ≤ H1.size → (∀ q : Nat, q < H.size → ¬ va_A wc H.size q → H1[q]? = H[q]?) → W p l e R s m args below meth c H1 locs1 (cells + mc) (slots + ms) Q (F0 m (pc + 3) ls (.ref x :: rest))) : W p l e R s m args below meth c H locs cells slots Q (F0 m pc ls st0) := by
  obtain ⟨h1, h2, h3⟩ := g_preN (vs := .ref b :: vs) hX hT hA hC hRo
  refine va_callr (va_runV (As := vs) (rest := rest) C (hM H.size) cw ⟨h1, hrecv, h2⟩ rfl hn hsize hst (lv_room hroom) hdg hf) hT.2.2 (fun q _ h => h3 q h) h3 (fun u x T2 H1 locs1 ht hvm hw1 hB hz1 hk1 hS => ?_)
  subst ht
  exact k u x _ locs1 hw1 (hT.joinN hC h3 hB.1 hB.2 hk1 hS) hz1 hk1
end GNV
abbrev lO (b b2 : Nat) (mc : Int32) (n : Nat) : Nat × va_E := (b, .inr (4, [.int mc, .ref b2, .int (nI n)]))
theorem hdJ2_grow_2 : yJ2_grow_2.cls = RJ2 ∧ yJ2_grow_2.cls ≠ "java/lang/invoke/MethodHandle" ∧ yJ2_grow_2.cls ≠ "java/lang/invoke/VarHandle" ∧ (parseMethodDescriptor yJ2_grow_2.desc).map (fun d => d.parameters.length) = some 1 := by decide +kernel
theorem hdJ2_grow : yJ2_grow.cls = RJ2 ∧ yJ2_grow.cls ≠ "java/lang/invoke/MethodHandle" ∧ yJ2_grow.cls ≠ "java/lang/invoke/VarHandle" ∧ (parseMethodDescriptor yJ2_grow.desc).map (fun d => d.parameters.length) = some 0 := by decide +kernel
/-- the next capacity -/
def cnx (cap : Nat) : Nat := cap + max 1 (cap / 2)
theorem ELs.cut {D : va_G} {ws wc : va_W} {s0 : Heap} {H : Heap} {locs : List Loc} {cap : Nat} {f : Nat → Option Nat} (hR : ELs (FzP D (va_A ws s0.size) s0) cap f) (hS : va_S (va_A ws s0.size) s0 H locs) (h : ∀ q ∈ wc, q.1 ∈ ws.map Prod.fst) : ELs (FzP D (va_A wc H.size) H) cap f := hR.mono (fun _ _ h1 => h1.step hS (A_sub hS.1 h))
set_option maxHeartbeats 4000000 in
theorem mJ2_grow_2 (l : Launch) (D : va_G) (d : Nat → ClassId) (sd : Nat) (b b2 cap : Nat) (f : Nat → Option Nat) (mc : Int32) (n : Nat) (h0 : 0 < cap) (h1 : cap < 1024) (sz : Nat) : Met l yJ2_grow_2 (ws_ yJ2_grow_2 cJ2_grow_2 4 (some (.array (.object "java/lang/Object")))) ({ frames := 4, cells := 1, slots := cnx cap, locals := 120 } : Room) (GPc D d sd [.ref b, .int (nI (cap + 1))] [lO b b2 mc n, aO d b2 cap f] (fun P => ELs P cap f) sz) (NQr D (fun _ : Unit => True) (fun _ q => [lO b q mc n, aO d q (cnx cap) (fcut cap f)]) [lO b b2 mc n, aO d b2 cap f] sz) 1 (cnx cap) (va_A [lO b b2 mc n, aO d b2 cap f] sz) := by
  refine Met.ofW (cc := cJ2_grow_2) (maxL := 4) (ret := (some (.array (.object "java/lang/Object")))) plJ2 rfl ?_
  intro p e s m args below meth c s₁ B hml hv
  obtain ⟨C, hX, hR, hT, hr, hlocks, hargs, rfl⟩ := g_enter (own := RJ2) B hml rfl hv
  have hx := C.1
  have hb := C.2.1
  have hV := hX.1
  have hA : ∀ q, s.heap.size ≤ q → va_A [lO b b2 mc n, aO d b2 cap f] s.heap.size q := fun q h => by rw [va_A_map]; exact Or.inr h
  show W p l e ({ frames := 4, cells := 1, slots := cnx cap, locals := 120 } : Room) s m args below meth c s.heap [] 0 0 (MQ below (NQr D (fun _ : Unit => True) (fun _ q => [lO b q mc n, aO d q (cnx cap) (fcut cap f)]) [lO b b2 mc n, aO d b2 cap f] s.heap.size) args s 1 (cnx cap) (va_A [lO b b2 mc n, aO d b2 cap f] s.heap.size)) _
  have hcn : cnx cap < 4096 := by unfold cnx; omega
  refine W.eq (by rw [hargs]) (t_in (vs := [.ref b, .int (nI (cap + 1))]) (n := 4) (Nat.le_of_ble_eq_true rfl) (fun ls hl => ?_))
  have hl : lv_has ls 4 [(0, .ref b), (1, .int (nI (cap + 1)))] := hl
  refine lv_aload_n hx hb dJ2_grow_2_0 rfl (lv_at hl 0 rfl) ?_
  refine r_get C hV (hT.atp 0 rfl) (ci := 4) rfl in_J2 1 (by decide) q184 rfl dJ2_grow_2_1 ?_
  refine r_alen (v := nI cap) C hV (hT.atp 1 rfl) (t0 := 6) rfl rfl dJ2_grow_2_4 ?_
  refine lv_istore_n (lv' := [(2, .int (nI cap)), (0, .ref b), (1, .int (nI (cap + 1)))]) hx hb dJ2_grow_2_5 rfl hl (by decide) rfl (fun ls hl => ?_)
  refine lv_iload_n hx hb dJ2_grow_2_6 rfl (lv_at hl 0 rfl) ?_
  refine lv_if_gt (tgt := 20) hx hb dJ2_grow_2_7 (by decide) (fun _ => ?_) (fun hc => absurd (show (0 : Int32) < nI cap from nI_lt (a := 0) h0 (by omega)) hc)
  refine lv_iload_n hx hb dJ2_grow_2_20 rfl (lv_at hl 0 rfl) ?_
  refine lv_iload_n hx hb dJ2_grow_2_21 rfl (lv_at hl 2 rfl) ?_
  refine lv_iload_n hx hb dJ2_grow_2_22 rfl (lv_at hl 0 rfl) ?_
  refine lv_isub hx hb dJ2_grow_2_23 ?_
  rw [pk_sub (by omega), show cap + 1 - cap = 1 by omega]
  refine lv_iload_n hx hb dJ2_grow_2_24 rfl (lv_at hl 0 rfl) ?_
  refine lv_iconst (v := 1) hx hb dJ2_grow_2_25 (by decide) ?_
  refine lv_ishr hx hb dJ2_grow_2_26 ?_
  rw [pk_shrN (n := cap) (by omega) _ 1 (by decide +kernel)]
  refine s_calli (vs := [.int (nI cap), .int (nI 1), .int (nI (cap / 2 ^ 1))]) (rest := []) C hA hT (fun sz => mJ10_newLength l cap 1 (cap / 2 ^ 1) (by decide) (by omega) sz) (va_cwS 3 C.2.2.2.2 (lw_S q635 q636 q137 q637) rfl rfl rfl hdJ10_newLength ⟨Nat.le_of_ble_eq_true rfl, Nat.le_of_ble_eq_true rfl⟩) rfl hl.1 rfl (Nat.le_of_ble_eq_true rfl) dJ2_grow_2_27 ⟨Nat.zero_le _, Nat.zero_le _⟩ (fun H locs hT => ?_)
  rw [show cap + max 1 (cap / 2 ^ 1) = cnx cap from rfl]
  refine lv_istore_n (lv' := [(3, .int (nI (cnx cap))), (2, .int (nI cap)), (0, .ref b), (1, .int (nI (cap + 1)))]) hx hb dJ2_grow_2_30 rfl hl (by decide) rfl (fun ls hl => ?_)
  refine lv_aload_n hx hb dJ2_grow_2_31 rfl (lv_at hl 2 rfl) ?_
  refine lv_aload_n hx hb dJ2_grow_2_32 rfl (lv_at hl 2 rfl) ?_
  refine r_get C hV (hT.atp 0 rfl) (ci := 4) rfl in_J2 1 (by decide) q184 rfl dJ2_grow_2_33 ?_
  refine lv_iload_n hx hb dJ2_grow_2_36 rfl (lv_at hl 0 rfl) ?_
  refine n_scallr (vs := [.ref b2, .int (nI (cnx cap))]) (rest := [.ref b]) C hX hT hA (Cutn.app (wr := [lO b b2 mc n]) (wc := [aO d b2 cap f]) hT.2.1) (hR.cut hT.2.2 (fun q hq => List.mem_cons_of_mem _ (by rw [List.mem_singleton.mp hq]; exact List.mem_cons_self))) (fun sz => mJ12_copyOf l D d sd b2 cap f (cnx cap) (by unfold cnx; omega) hcn sz) (va_cwS 2 C.2.2.2.2 (lw_S q645 q646 q139 q647) rfl rfl rfl hdJ12_copyOf ⟨Nat.le_of_ble_eq_true rfl, Nat.le_of_ble_eq_true rfl⟩) rfl hl.1 rfl (Nat.le_of_ble_eq_true rfl) dJ2_grow_2_37 ⟨Nat.le_refl 1, by show 0 + cnx cap ≤ cnx cap; omega⟩ (fun u q H locs hu hT _ _ => ?_)
  have hT : TH D (va_A [lO b b2 mc n, aO d b2 cap f] s.heap.size) s.heap [lO b b2 mc n, aO d b2 cap f, aO d q (cnx cap) (fcut cap f)] H _ := hT
  refine lv_dup_x1 hx hb dJ2_grow_2_40 rfl rfl ?_
  refine w_put (ws1 := [lO b q mc n, aO d b2 cap f, aO d q (cnx cap) (fcut cap f)]) C hV hT 0 rfl rfl in_J2 tyJ2_ok nmJ2 1 (by decide) q184 (upd_set (p0 := 0) hT.2.1 rfl rfl) rfl rfl rfl rfl (Nat.le_of_ble_eq_true rfl) dJ2_grow_2_41 (fun H locs hT => ?_)
  refine W.widen (k := 1) (n := cnx cap) (Nat.le_refl 1) (by omega) ?_
  exact n_aret (fun _ q => [lO b q mc n, aO d q (cnx cap) (fcut cap f)]) () C hT trivial (fun x hx => by
    rcases List.mem_cons.mp hx with h | h
    · rw [h]; exact List.mem_cons_self
    · exact List.mem_cons_of_mem _ (List.mem_cons_of_mem _ h)) ((D_nd hT.2.1).sublist (List.Sublist.cons₂ _ (List.Sublist.cons _ (List.Sublist.refl _)))) hr (Or.inr ⟨_, rfl⟩) hlocks dJ2_grow_2_44
set_option maxHeartbeats 4000000 in
theorem mJ2_grow (l : Launch) (D : va_G) (d : Nat → ClassId) (sd : Nat) (b b2 cap : Nat) (f : Nat → Option Nat) (mc : Int32) (h0 : 0 < cap) (h1 : cap < 1024) (sz : Nat) : Met l yJ2_grow (ws_ yJ2_grow cJ2_grow 1 (some (.array (.object "java/lang/Object")))) ({ frames := 5, cells := 1, slots := cnx cap, locals := 150 } : Room) (GPc D d sd [.ref b] [lO b b2 mc cap, aO d b2 cap f] (fun P => ELs P cap f) sz) (NQr D (fun _ : Unit => True) (fun _ q => [lO b q mc cap, aO d q (cnx cap) (fcut cap f)]) [lO b b2 mc cap, aO d b2 cap f] sz) 1 (cnx cap) (va_A [lO b b2 mc cap, aO d b2 cap f] sz) := by
  refine Met.ofW (cc := cJ2_grow) (maxL := 1) (ret := (some (.array (.object "java/lang/Object")))) plJ2 rfl ?_
  intro p e s m args below meth c s₁ B hml hv
  obtain ⟨C, hX, hR, hT, hr, hlocks, hargs, rfl⟩ := g_enter (own := RJ2) B hml rfl hv
  have hx := C.1
  have hb := C.2.1
  have hV := hX.1
  have hA : ∀ q, s.heap.size ≤ q → va_A [lO b b2 mc cap, aO d b2 cap f] s.heap.size q := fun q h => by rw [va_A_map]; exact Or.inr h
  show W p l e ({ frames := 5, cells := 1, slots := cnx cap, locals := 150 } : Room) s m args below meth c s.heap [] 0 0 (MQ below (NQr D (fun _ : Unit => True) (fun _ q => [lO b q mc cap, aO d q (cnx cap) (fcut cap f)]) [lO b b2 mc cap, aO d b2 cap f] s.heap.size) args s 1 (cnx cap) (va_A [lO b b2 mc cap, aO d b2 cap f] s.heap.size)) _
  refine W.eq (by rw [hargs]) (t_in (vs := [.ref b]) (n := 1) (Nat.le_of_ble_eq_true rfl) (fun ls hl => ?_))
  have hl : lv_has ls 1 [(0, .ref b)] := hl
  refine lv_aload_n hx hb dJ2_grow_0 rfl (lv_at hl 0 rfl) ?_
  refine lv_aload_n hx hb dJ2_grow_1 rfl (lv_at hl 0 rfl) ?_
  refine r_get C hV (hT.atp 0 rfl) (ci := 4) rfl in_J2 2 (by decide) q185 rfl dJ2_grow_2 ?_
  refine lv_iconst (v := 1) hx hb dJ2_grow_5 (by decide) ?_
  refine lv_iadd hx hb dJ2_grow_6 ?_
  rw [nI_1]
  refine n_vcallr (vs := [.int (nI (cap + 1))]) (rest := []) C hX hT hA (Cutn.all hT.2.1) (hR.cut hT.2.2 (fun q hq => List.mem_map.mpr ⟨q, hq, rfl⟩)) (fun sz => mJ2_grow_2 l D d sd b b2 cap f mc cap h0 h1 sz) (cwV 1 C.2.2.2.2 (lw_V q629 q631 qs13 q124 q632) rfl rfl rfl hdJ2_grow_2 ⟨Nat.le_of_ble_eq_true rfl, Nat.le_of_ble_eq_true rfl⟩) (g_recv hV (hT.atp 0 rfl) (ci := 4) rfl) rfl hl.1 rfl (Nat.le_of_ble_eq_true rfl) dJ2_grow_7 ⟨Nat.le_refl 1, by show 0 + cnx cap ≤ cnx cap; omega⟩ (fun u q H locs hu hT _ _ => ?_)
  refine W.widen (k := 1) (n := cnx cap) (Nat.le_refl 1) (by omega) ?_
  exact n_aret (fun _ q => [lO b q mc cap, aO d q (cnx cap) (fcut cap f)]) () C hT trivial (fun x hx => hx) (D_nd hT.2.1) hr (Or.inr ⟨_, rfl⟩) hlocks dJ2_grow_10
theorem hdJ2_add_2 : yJ2_add_2.cls = RJ2 ∧ yJ2_add_2.cls ≠ "java/lang/invoke/MethodHandle" ∧ yJ2_add_2.cls ≠ "java/lang/invoke/VarHandle" ∧ (parseMethodDescriptor yJ2_add_2.desc).map (fun d => d.parameters.length) = some 3 := by decide +kernel
theorem hdJ2_add : yJ2_add.cls = RJ2 ∧ yJ2_add.cls ≠ "java/lang/invoke/MethodHandle" ∧ yJ2_add.cls ≠ "java/lang/invoke/VarHandle" ∧ (parseMethodDescriptor yJ2_add.desc).map (fun d => d.parameters.length) = some 1 := by decide +kernel
/-- what a list's add leaves: the array's place, its length, what it holds -/
def addP (n cap : Nat) (f : Nat → Option Nat) (x : Nat) (u : Nat × Nat × (Nat → Option Nat)) : Prop := n + 1 ≤ u.2.1 ∧ u.2.1 ≤ cnx cap ∧ (∀ i, i < n → u.2.2 i = f i) ∧ u.2.2 n = some x
abbrev EX (x : Nat) (P : Nat → va_E → Prop) : Prop := ∃ (ci : Nat) (fs : List Value), (ci = 7 ∨ ci = 8 ∨ ci = 12) ∧ P x (.inr (ci, fs))
abbrev wL (d : Nat → ClassId) (b b2 : Nat) (mc : Int32) (n cap : Nat) (f : Nat → Option Nat) : va_W := [lO b b2 mc n, aO d b2 cap f]
abbrev Fadd (d : Nat → ClassId) (b : Nat) (mc : Int32) (n : Nat) : Nat × Nat × (Nat → Option Nat) → va_W := fun u => wL d b u.1 mc (n + 1) u.2.1 u.2.2
set_option maxHeartbeats 4000000 in
theorem mJ2_add_2 (l : Launch) (D : va_G) (d : Nat → ClassId) (sd : Nat) (b b2 cap : Nat) (f : Nat → Option Nat) (mc : Int32) (n x : Nat) (h0 : 0 < cap) (h1 : cap < 1024) (hn : n ≤ cap) (sz : Nat) : Met l yJ2_add_2 (ws_ yJ2_add_2 cJ2_add_2 4 none) ({ frames := 6, cells := 1, slots := cnx cap, locals := 180 } : Room) (GPc D d sd [.ref b, .ref x, .ref b2, .int (nI n)] (wL d b b2 mc n cap f) (fun P => ELs P cap f ∧ EX x P) sz) (NQv D (addP n cap f x) (Fadd d b mc n) (wL d b b2 mc n cap f) sz) 1 (cnx cap) (va_A (wL d b b2 mc n cap f) sz) := by
  refine Met.ofW (cc := cJ2_add_2) (maxL := 4) (ret := none) plJ2 rfl ?_
  intro p e s m args below meth c s₁ B hml hv
  obtain ⟨C, hX, hR, hT, hr, hlocks, hargs, rfl⟩ := g_enter (own := RJ2) B hml rfl hv
  have hx := C.1
  have hb := C.2.1
  have hV := hX.1
  have hA : ∀ q, s.heap.size ≤ q → va_A (wL d b b2 mc n cap f) s.heap.size q := fun q h => by rw [va_A_map]; exact Or.inr h
  show W p l e ({ frames := 6, cells := 1, slots := cnx cap, locals := 180 } : Room) s m args below meth c s.heap [] 0 0 (MQ below (NQv D (addP n cap f x) (Fadd d b mc n) (wL d b b2 mc n cap f) s.heap.size) args s 1 (cnx cap) (va_A (wL d b b2 mc n cap f) s.heap.size)) _
  refine W.eq (by rw [hargs]) (t_in (vs := [.ref b, .ref x, .ref b2, .int (nI n)]) (n := 4) (Nat.le_of_ble_eq_true rfl) (fun ls hl => ?_))
  have hl : lv_has ls 4 [(0, .ref b), (1, .ref x), (2, .ref b2), (3, .int (nI n))] := hl
  have tail : ∀ (q cap' : Nat) (g : Nat → Option Nat) (H : Heap) (locs : List Loc) (ls : Array Slot), n + 1 ≤ cap' → cap' ≤ cnx cap → (∀ i, i < n → g i = f i) → lv_has ls 4 [(2, .ref q), (0, .ref b), (1, .ref x), (3, .int (nI n))] → TH D (va_A (wL d b b2 mc n cap f) s.heap.size) s.heap (wL d b q mc n cap' g) H locs →
      W p l e ({ frames := 6, cells := 1, slots := cnx cap, locals := 180 } : Room) s m args below meth c H locs 1 (cnx cap) (MQ below (NQv D (addP n cap f x) (Fadd d b mc n) (wL d b b2 mc n cap f) s.heap.size) args s 1 (cnx cap) (va_A (wL d b b2 mc n cap f) s.heap.size)) (F0 m 11 ls []) := by
    intro q cap' g H locs ls hc1 hc2 hg hl hT
    have hcn : cnx cap < 4096 := by unfold cnx; omega
    refine lv_aload_n hx hb dJ2_add_2_11 rfl (lv_at hl 0 rfl) ?_
    refine lv_iload_n hx hb dJ2_add_2_12 rfl (lv_at hl 3 rfl) ?_
    refine lv_aload_n hx hb dJ2_add_2_13 rfl (lv_at hl 2 rfl) ?_
    have hin : vp_in (nI n) cap' := vp_in_nI (by omega) (by omega)
    obtain ⟨ci, fs, hci, hPx⟩ := hR.2
    refine va_astqM hx hb hV hT.1 hT.2.1 hT.2.2 1 6 rfl rfl (any_of hX hT.2.2 hci hPx) hin dJ2_add_2_14 (fun H locs hP hD hS => ?_)
    have ec : (nI n).toNatClampNeg = n := nI_clamp (by omega)
    rw [ec] at hP hD
    have hT : TH D (va_A (wL d b b2 mc n cap f) s.heap.size) s.heap (wL d b q mc n cap' (va_up g n (some x))) H locs := ⟨hP, hD, hS⟩
    refine lv_aload_n hx hb dJ2_add_2_15 rfl (lv_at hl 1 rfl) ?_
    refine lv_iload_n hx hb dJ2_add_2_16 rfl (lv_at hl 3 rfl) ?_
    refine lv_iconst (v := 1) hx hb dJ2_add_2_17 (by decide) ?_
    refine lv_iadd hx hb dJ2_add_2_18 ?_
    rw [nI_1]
    refine w_put (ws1 := wL d b q mc (n + 1) cap' (va_up g n (some x))) C hV hT 0 rfl rfl in_J2 tyJ2_ok nmJ2 2 (by decide) q185 (upd_set (p0 := 0) hT.2.1 rfl rfl) rfl rfl rfl rfl (Nat.le_of_ble_eq_true rfl) dJ2_add_2_19 (fun H locs hT => ?_)
    exact n_vret (Fadd d b mc n) (q, cap', va_up g n (some x)) C hT ⟨hc1, hc2, fun i hi => by show va_up g n (some x) i = f i; unfold va_up; rw [if_neg (by omega)]; exact hg i hi, by show va_up g n (some x) n = some x; unfold va_up; rw [if_pos rfl]⟩ (fun q hq => hq) (D_nd hT.2.1) hr hlocks dJ2_add_2_22
  refine lv_iload_n hx hb dJ2_add_2_0 rfl (lv_at hl 3 rfl) ?_
  refine lv_aload_n hx hb dJ2_add_2_1 rfl (lv_at hl 2 rfl) ?_
  refine r_alen (v := nI cap) C hV (hT.atp 1 rfl) (t0 := 6) rfl rfl dJ2_add_2_2 ?_
  refine lv_icmp_ne (tgt := 11) hx hb dJ2_add_2_3 (by decide) (fun hc => ?_) (fun hc => ?_)
  · have hne : n ≠ cap := fun e => hc (by rw [e])
    refine W.widen (k := 1) (n := cnx cap) (by omega) (by omega) ?_
    refine W.eq rfl (tail b2 cap f _ _ ls (by omega) (by unfold cnx; omega) (fun i _ => rfl) ?_ hT)
    exact lv_sub hl [2, 0, 1, 3] rfl
  · have he : n = cap := (nI_eq (by omega) (by omega)).mp hc
    subst he
    refine lv_aload_n hx hb dJ2_add_2_6 rfl (lv_at hl 0 rfl) ?_
    refine n_vcallr (vs := []) (rest := []) C hX hT hA (Cutn.all hT.2.1) (hR.1.cut hT.2.2 (fun q hq => List.mem_map.mpr ⟨q, hq, rfl⟩)) (fun sz => mJ2_grow l D d sd b b2 n f mc h0 h1 sz) (cwV 0 C.2.2.2.2 (lw_V q625 q627 qs12 q124 q628) rfl rfl rfl hdJ2_grow ⟨Nat.le_of_ble_eq_true rfl, Nat.le_of_ble_eq_true rfl⟩) (g_recv hV (hT.atp 0 rfl) (ci := 4) rfl) rfl hl.1 rfl (Nat.le_of_ble_eq_true rfl) dJ2_add_2_7 ⟨Nat.le_refl 1, by show 0 + cnx n ≤ cnx n; omega⟩ (fun u q H locs hu hT _ _ => ?_)
    refine lv_astore_n (lv' := [(2, .ref q), (0, .ref b), (1, .ref x), (3, .int (nI n))]) hx hb dJ2_add_2_10 rfl hl (by decide) rfl (fun ls hl => ?_)
    refine W.widen (k := 1) (n := cnx n) (Nat.le_refl 1) (by omega) ?_
    exact tail q (cnx n) (fcut n f) _ _ ls (by unfold cnx; omega) (Nat.le_refl _) (fun i hi => by unfold fcut; rw [if_pos hi]) hl hT
set_option maxHeartbeats 4000000 in
theorem mJ2_add (l : Launch) (D : va_G) (d : Nat → ClassId) (sd : Nat) (b b2 cap : Nat) (f : Nat → Option Nat) (mc : Int32) (n x : Nat) (h0 : 0 < cap) (h1 : cap < 1024) (hn : n ≤ cap) (sz : Nat) : Met l yJ2_add (ws_ yJ2_add cJ2_add 2 (some .boolean)) ({ frames := 7, cells := 1, slots := cnx cap, locals := 210 } : Room) (GPc D d sd [.ref b, .ref x] (wL d b b2 mc n cap f) (fun P => ELs P cap f ∧ EX x P) sz) (NQi D 1 (addP n cap f x) (Fadd d b (mc + 1) n) (wL d b b2 mc n cap f) sz) 1 (cnx cap) (va_A (wL d b b2 mc n cap f) sz) := by
  refine Met.ofW (cc := cJ2_add) (maxL := 2) (ret := (some .boolean)) plJ2 rfl ?_
  intro p e s m args below meth c s₁ B hml hv
  obtain ⟨C, hX, hR, hT, hr, hlocks, hargs, rfl⟩ := g_enter (own := RJ2) B hml rfl hv
  have hx := C.1
  have hb := C.2.1
  have hV := hX.1
  have hA : ∀ q, s.heap.size ≤ q → va_A (wL d b b2 mc n cap f) s.heap.size q := fun q h => by rw [va_A_map]; exact Or.inr h
  show W p l e ({ frames := 7, cells := 1, slots := cnx cap, locals := 210 } : Room) s m args below meth c s.heap [] 0 0 (MQ below (NQi D 1 (addP n cap f x) (Fadd d b (mc + 1) n) (wL d b b2 mc n cap f) s.heap.size) args s 1 (cnx cap) (va_A (wL d b b2 mc n cap f) s.heap.size)) _
  refine W.eq (by rw [hargs]) (t_in (vs := [.ref b, .ref x]) (n := 2) (Nat.le_of_ble_eq_true rfl) (fun ls hl => ?_))
  have hl : lv_has ls 2 [(0, .ref b), (1, .ref x)] := hl
  refine lv_aload_n hx hb dJ2_add_0 rfl (lv_at hl 0 rfl) ?_
  refine lv_dup hx hb dJ2_add_1 rfl ?_
  refine va_get (D := D) (ci := 4) (v := .int mc) (C := RJ2) (T := TJ2) (N := 3) (ref := "java/util/ArrayList") (index := 63) hx hb C.2.2.2.2 in_J2 C.2.2.2.1 hV (at1 (hT.atp 0 rfl)) 0 rfl rfl 0 (by decide) (C.2.2.2.2 _ q187) (fun x h => u_same (C.2.2.2.2 _ q188) x h) rfl dJ2_add_2 ?_
  refine lv_iconst (v := 1) hx hb dJ2_add_5 (by decide) ?_
  refine lv_iadd hx hb dJ2_add_6 ?_
  refine va_put (D := D) (ci := 4) (v := .int (mc + 1)) (ty := .int) (C := RJ2) (T := TJ2) (N := 3) (ref := "java/util/ArrayList") (index := 63) hx hb C.2.2.2.2 in_J2 tyJ2 tyJ2_ok nmJ2 C.2.2.2.1 hV hT.1 hT.2.1 hT.2.2 0 rfl rfl 0 (by decide) (C.2.2.2.2 _ q187) (fun x h => u_same (C.2.2.2.2 _ q188) x h) rfl (by decide +kernel) rfl rfl (Nat.le_of_ble_eq_true rfl) dJ2_add_7 (fun H locs hP hD hS => ?_)
  have hT : TH D (va_A (wL d b b2 mc n cap f) s.heap.size) s.heap (wL d b b2 (mc + 1) n cap f) H locs := ⟨hP, hD, hS⟩
  refine lv_aload_n hx hb dJ2_add_10 rfl (lv_at hl 0 rfl) ?_
  refine lv_aload_n hx hb dJ2_add_11 rfl (lv_at hl 1 rfl) ?_
  refine lv_aload_n hx hb dJ2_add_12 rfl (lv_at hl 0 rfl) ?_
  refine r_get C hV (hT.atp 0 rfl) (ci := 4) rfl in_J2 1 (by decide) q184 rfl dJ2_add_13 ?_
  refine lv_aload_n hx hb dJ2_add_16 rfl (lv_at hl 0 rfl) ?_
  refine r_get C hV (hT.atp 0 rfl) (ci := 4) rfl in_J2 2 (by decide) q185 rfl dJ2_add_17 ?_
  have hB : ∀ q, va_A (wL d b b2 (mc + 1) n cap f) H.size q → va_A (wL d b b2 mc n cap f) s.heap.size q := A_sub hT.2.2.1 (fun q hq => by
    have : q.1 ∈ (wL d b b2 (mc + 1) n cap f).map Prod.fst := List.mem_map.mpr ⟨q, hq, rfl⟩
    exact this)
  refine n_vcallv (vs := [.ref x, .ref b2, .int (nI n)]) (rest := []) C hX hT hA (Cutn.all hT.2.1) (Ro := fun P => ELs P cap f ∧ EX x P) ⟨hR.1.mono (fun _ _ h => h.step hT.2.2 hB), by obtain ⟨ci, fs, h3, h4⟩ := hR.2; exact ⟨ci, fs, h3, h4.step hT.2.2 hB⟩⟩ (fun sz => mJ2_add_2 l D d sd b b2 cap f (mc + 1) n x h0 h1 hn sz) (cwV 3 C.2.2.2.2 (lw_V q621 q623 qs11 q124 q624) rfl rfl rfl hdJ2_add_2 ⟨Nat.le_of_ble_eq_true rfl, Nat.le_of_ble_eq_true rfl⟩) (g_recv hV (hT.atp 0 rfl) (ci := 4) rfl) rfl hl.1 rfl (Nat.le_of_ble_eq_true rfl) dJ2_add_20 ⟨Nat.le_refl 1, by show 0 + cnx cap ≤ cnx cap; omega⟩ (fun u H locs hu hT _ _ => ?_)
  have hT : TH D (va_A (wL d b b2 mc n cap f) s.heap.size) s.heap (Fadd d b (mc + 1) n u) H _ := hT
  refine lv_iconst (v := 1) hx hb dJ2_add_23 (by decide) ?_
  refine W.widen (k := 1) (n := cnx cap) (Nat.le_refl 1) (by omega) ?_
  refine W.zret C.1 C.2.1 hr (v := 1) (by decide) (fun t0 ht hW => ⟨⟨1, u, rfl, ⟨rfl, hu⟩, ?_⟩, hT.2.2.F ht⟩) hT.2.2.2.2 dJ2_add_24 hlocks
  exact ⟨by show va_P D db_cls (Fadd d b (mc + 1) n u) t0.heap; rw [ht]; exact hT.1, hT.2.1⟩
