set_option maxRecDepth 100000
/-! ===== newStates: an array of new States ===== -/
def rLS (k : Nat) (sb : Nat → Nat → Nat) : Nat → Option Nat := fun i => if i < k then some (sb i 0) else none
def wLS (d : Nat → ClassId) (n k : Nat) (sb : Nat → Nat → Nat) (q : Nat) : va_W := (q, .inl (d 4, n, .inr (.inr (.inr (.inr (rLS k sb)))))) :: (List.range k).flatMap (fun i => wS d (sb i) ss0)
def wNS (d : Nat → ClassId) (n : Nat) (sb : Nat → Nat → Nat) (q : Nat) : va_W := (q, .inl (d 4, n, .inr (.inr (.inr (.inr (fun i => some (sb i 0))))))) :: (List.range n).flatMap (fun i => wS d (sb i) ss0)
theorem wNS_eq (d : Nat → ClassId) (n : Nat) (sb : Nat → Nat → Nat) (q : Nat) : wNS d n sb q = [(q, .inl (d 4, n, .inr (.inr (.inr (.inr (fun i => some (sb i 0)))))))] ++ (List.range n).flatMap (fun i => wS d (sb i) ss0) := rfl
theorem at_ext {D : va_G} {q n : Nat} {cA : ClassId} {f g : Nat → Option Nat} {H : Heap} (h : va_at D db_cls (q, .inl (cA, n, .inr (.inr (.inr (.inr f))))) H) (hfg : ∀ i, i < n → f i = g i) : va_at D db_cls (q, .inl (cA, n, .inr (.inr (.inr (.inr g))))) H := by
  have h1 : H[q]? = some (vp_cell cA (n, .inr (.inr (.inr (.inr f))))) := h
  show H[q]? = some (vp_cell cA (n, .inr (.inr (.inr (.inr g)))))
  rw [h1, vp_cell_q, vp_cell_q]
  unfold arrV
  congr 2
  congr 1
  funext j
  exact congrArg va_rf (hfg j.val j.isLt)
theorem wNS_of {D : va_G} {A : Nat → Prop} {H0 H : Heap} {locs : List Loc} {d : Nat → ClassId} {n q : Nat} {sb : Nat → Nat → Nat} (hT : TH D A H0 (wLS d n n sb q) H locs) : TH D A H0 (wNS d n sb q) H locs := by
  refine ⟨P_of (fun x hx => ?_), va_D_fst (by rfl) hT.2.1, hT.2.2⟩
  rcases List.mem_cons.mp hx with h | h
  · subst h
    exact at_ext (hT.at List.mem_cons_self) (fun i hi => by unfold rLS; rw [if_pos hi])
  · exact hT.at (List.mem_cons_of_mem _ h)
theorem rLS_step (k v : Nat) (u : Nat → Nat) (hu : u 0 = v) (sb : Nat → Nat → Nat) : va_up (rLS k sb) k (some v) = rLS (k + 1) (fun i => if i = k then u else sb i) := by
  funext i
  unfold rLS va_up
  by_cases h : i = k
  · subst h; simp [hu]
  · by_cases h2 : i < k
    · rw [if_neg h]; show (if i < k then some (sb i 0) else none) = if i < k + 1 then some ((if i = k then u else sb i) 0) else none
      rw [if_pos h2, if_pos (by omega), if_neg h]
    · rw [if_neg h]; show (if i < k then some (sb i 0) else none) = if i < k + 1 then some ((if i = k then u else sb i) 0) else none
      rw [if_neg h2, if_neg (by omega)]
theorem fLS_step (d : Nat → ClassId) (k : Nat) (u : Nat → Nat) (sb : Nat → Nat → Nat) : (List.range (k + 1)).flatMap (fun i => wS d ((fun i => if i = k then u else sb i) i) ss0) = (List.range k).flatMap (fun i => wS d (sb i) ss0) ++ wS d u ss0 := by
  rw [List.range_succ, List.flatMap_append]
  congr 1
  · rw [List.flatMap_def, List.flatMap_def]
    congr 1
    apply List.map_congr_left
    intro i hi
    have := List.mem_range.mp hi
    have h : ¬ i = k := by omega
    simp [h]
  · simp
theorem nI_succ' {k : Nat} : nI k + 1 = nI (k + 1) := nI_1 k
theorem hdX0_newStates : yX0_newStates.cls ≠ "java/lang/invoke/MethodHandle" ∧ yX0_newStates.cls ≠ "java/lang/invoke/VarHandle" ∧ (parseMethodDescriptor yX0_newStates.desc).map (fun d => d.parameters.length) = some 1 := by decide +kernel
set_option maxHeartbeats 8000000 in
theorem mX0_newStates (l : Launch) (D : va_G) (d : Nat → ClassId) (sd : Nat) (n : Nat) (hn : n ≤ 20) (sz : Nat) : Met l yX0_newStates (ws_ yX0_newStates cX0_newStates 3 (some (.array (.object "DutyBeats$State")))) ({ frames := 8, cells := 1 + 8 * n, slots := n + 57 * n, locals := 400 } : Room) (GPc D d sd [.int (nI n)] [] (fun _ => True) sz) (NQr D (fun _ : Nat → Nat → Nat => True) (fun sb q => wNS d n sb q) [] sz) (1 + 8 * n) (n + 57 * n) (va_A [] sz) := by
  refine Met.ofW (cc := cX0_newStates) (maxL := 3) (ret := (some (.array (.object "DutyBeats$State")))) plX0 rfl ?_
  intro p e s m args below meth c s₁ B hml hv
  obtain ⟨C, hX, hR, hT, hr, hlocks, hargs, rfl⟩ := g_enter (own := RX0) B hml rfl hv
  have hx := C.1
  have hb := C.2.1
  have hV := hX.1
  have hA : ∀ q, s.heap.size ≤ q → va_A [] s.heap.size q := fun q h => by rw [va_A_map]; exact Or.inr h
  show W p l e ({ frames := 8, cells := 1 + 8 * n, slots := n + 57 * n, locals := 400 } : Room) s m args below meth c s.heap [] 0 0 (MQ below (NQr D (fun _ : Nat → Nat → Nat => True) (fun sb q => wNS d n sb q) [] s.heap.size) args s (1 + 8 * n) (n + 57 * n) (va_A [] s.heap.size)) _
  refine W.eq (by rw [hargs]) (t_in (vs := [.int (nI n)]) (n := 3) (Nat.le_of_ble_eq_true rfl) (fun ls hl => ?_))
  have hl : lv_has ls 3 [(0, .int (nI n))] := hl
  have hcl : (nI n).toNatClampNeg = n := nI_clamp (by omega)
  have hnn : ¬ nI n < 0 := nI_pos (by omega)
  refine lv_iload_n hx hb dX0_newStates_0 rfl (lv_at hl 0 rfl) ?_
  refine n_newq (t0 := 4) (N' := n) C hV hT hA q221 (hX.2.1.ao q330) rfl hnn hcl (by omega) (by show 0 + 1 ≤ 1 + 8 * n; omega) (by show 0 + n ≤ n + 57 * n; omega) dX0_newStates_1 (fun q H hT => ?_)
  refine lv_astore_n (lv' := [(1, .ref q), (0, .int (nI n))]) hx hb dX0_newStates_4 rfl hl (by decide) rfl (fun ls hl => ?_)
  refine lv_iconst (v := 0) hx hb dX0_newStates_5 (by decide) ?_
  refine lv_istore_n (lv' := [(2, .int 0), (1, .ref q), (0, .int (nI n))]) hx hb dX0_newStates_6 rfl hl (by decide) rfl (fun ls hl => ?_)
  have loop : ∀ (r k : Nat), k + r = n → ∀ (sb : Nat → Nat → Nat) (H : Heap) (locs : List Loc) (ls : Array Slot), lv_has ls 3 [(2, .int (nI k)), (1, .ref q), (0, .int (nI n))] → TH D (va_A [] s.heap.size) s.heap (wLS d n k sb q) H locs →
      W p l e ({ frames := 8, cells := 1 + 8 * n, slots := n + 57 * n, locals := 400 } : Room) s m args below meth c H locs (1 + 8 * k) (n + 57 * k) (MQ below (NQr D (fun _ : Nat → Nat → Nat => True) (fun sb q => wNS d n sb q) [] s.heap.size) args s (1 + 8 * n) (n + 57 * n) (va_A [] s.heap.size)) (F0 m 7 ls []) := by
    intro r
    induction r with
    | zero =>
      intro k hk sb H locs ls hl hT
      have hk : k = n := by omega
      subst hk
      refine lv_iload_n hx hb dX0_newStates_7 rfl (lv_at hl 0 rfl) ?_
      refine lv_iload_n hx hb dX0_newStates_8 rfl (lv_at hl 2 rfl) ?_
      refine lv_icmp_ge (tgt := 28) hx hb dX0_newStates_9 (by decide) (fun hc => ?_) (fun hc => ?_)
      · refine lv_aload_n hx hb dX0_newStates_28 rfl (lv_at hl 1 rfl) ?_
        have hT := wNS_of hT
        exact n_aret (fun sb q => wNS d k sb q) sb C hT trivial (fun q hq => hq) (D_nd hT.2.1) hr (Or.inr ⟨_, rfl⟩) hlocks dX0_newStates_29
      · exact absurd (Int32.le_refl _) hc
    | succ r ih =>
      intro k hk sb H locs ls hl hT
      have hkn : k < n := by omega
      refine lv_iload_n hx hb dX0_newStates_7 rfl (lv_at hl 0 rfl) ?_
      refine lv_iload_n hx hb dX0_newStates_8 rfl (lv_at hl 2 rfl) ?_
      refine lv_icmp_ge (tgt := 28) hx hb dX0_newStates_9 (by decide) (fun hc => ?_) (fun hc => ?_)
      · exact absurd hc (nI_ge hkn (by omega))
      refine lv_aload_n hx hb dX0_newStates_12 rfl (lv_at hl 1 rfl) ?_
      refine lv_iload_n hx hb dX0_newStates_13 rfl (lv_at hl 0 rfl) ?_
      refine n_new (ci := 2) (fs := [.null, .null, .null, .null, .null, .null, .null, .int 0, .int 0]) C hV hT hA in_X2 tyX2_ok rfl q221 q222 q125 (fun j hj => match j, hj with | 0, _ => rfl | 1, _ => rfl | 2, _ => rfl | 3, _ => rfl | 4, _ => rfl | 5, _ => rfl | 6, _ => rfl | 7, _ => rfl | 8, _ => rfl | j + 9, hj => absurd hj (by omega)) (by show 1 + 8 * k + 1 ≤ 1 + 8 * n; omega) (by show n + 57 * k + 9 ≤ n + 57 * n; omega) dX0_newStates_14 (fun v H hT => ?_)
      refine lv_dup hx hb dX0_newStates_17 rfl ?_
      refine n_callnN (vs := []) (rest := [.ref v, .int (nI k), .ref q]) C hX hT hA (Cutn.app (wr := wLS d n k sb q) (wc := [(v, .inr (2, [.null, .null, .null, .null, .null, .null, .null, .int 0, .int 0]))]) hT.2.1) trivial (fun sz => mX2_init l D d sd v sz) ⟨va_cnB 0 C.2.2.2.2 (lw_meth q225) rfl rfl rfl (hX.2.1 _ q223 rfl) (C.2.2.2.2 _ q125) hdX2_init ⟨Nat.le_of_ble_eq_true rfl, Nat.le_of_ble_eq_true rfl⟩, rfl, C.2.2.2.2 _ q224⟩ rfl hl.1 rfl (Nat.le_of_ble_eq_true rfl) dX0_newStates_18 ⟨by show 1 + 8 * k + 1 + 7 ≤ 1 + 8 * n; omega, by show n + 57 * k + 9 + 48 ≤ n + 57 * n; omega⟩ (fun u H locs hu hT _ _ => ?_)
      have hin : vp_in (nI k) n := by
        rintro (h | h)
        · exact nI_pos (by omega) h
        · rw [nI_clamp (by omega)] at h; omega
      obtain ⟨qk, hqk⟩ := List.getElem?_of_mem (List.mem_append_right (wLS d n k sb q) (show (u 0, Sum.inr (2, sfs u ss0)) ∈ wS d u ss0 from List.mem_cons_self))
      have hqk : (wLS d n k sb q ++ wS d u ss0)[qk]? = some (v, .inr (2, sfs u ss0)) := by rw [hqk, hu]
      refine va_astq hx hb hV hT.1 hT.2.1 hT.2.2 0 4 qk 2 rfl rfl hqk rfl hin dX0_newStates_21 (fun H locs hP hD hS => ?_)
      have hT : TH D (va_A [] s.heap.size) s.heap (wLS d n (k + 1) (fun i => if i = k then u else sb i) q) H locs := by
        have e : wLS d n (k + 1) (fun i => if i = k then u else sb i) q = (wLS d n k sb q ++ wS d u ss0).set 0 (q, .inl (d 4, n, .inr (.inr (.inr (.inr (va_up (rLS k sb) (nI k).toNatClampNeg (some v))))))) := by
          rw [nI_clamp (by omega), rLS_step k v u hu sb]
          show (q, _) :: _ = (q, _) :: _
          rw [fLS_step]
          rfl
        rw [e]
        exact ⟨hP, hD, hS⟩
      refine lv_iinc (v := nI (k + 1)) (lv' := [(2, .int (nI (k + 1))), (1, .ref q), (0, .int (nI n))]) hx hb dX0_newStates_22 hl (k := 0) rfl (nI_1 k) (by decide) rfl (fun ls hl => ?_)
      refine lv_goto (tgt := 7) hx hb dX0_newStates_25 (by decide) ?_
      refine W.widen (k := 1 + 8 * (k + 1)) (n := n + 57 * (k + 1)) (by omega) (by omega) ?_
      exact ih (k + 1) (by omega) _ H locs ls hl hT
  refine W.widen (k := 1 + 8 * 0) (n := n + 57 * 0) (by omega) (by omega) ?_
  have e0 : rLS 0 (fun _ _ => 0) = fun _ => none := by funext i; simp [rLS]
  exact loop n 0 (by omega) (fun _ _ => 0) H _ ls hl (by
    show TH D _ _ ((q, .inl (d 4, n, .inr (.inr (.inr (.inr (rLS 0 (fun _ _ => 0))))))) :: []) H _
    rw [e0]
    exact hT)
theorem n_vret2 {p : Program} {l : Launch} {e : Env} {R : Room} {s : State} {m : MethodId} {args : Array Value} {below : List Frame} {meth : Method} {c : Code} {H : Heap} {locs : List Loc} {cells slots nL pc : Nat} {cc : ByteArray} {ls : Array Slot} {D : va_G} {own : String} {ws ws0 wp : va_W} {σ : Type} {post : σ → Prop} (F : σ → va_W) (u : σ) (C : CallFix p m c cc nL s args lw_all own) (hT : TH D (va_A ws0 s.heap.size) s.heap ws H locs) (hpost : post u) (hP : ∀ q ∈ F u, va_at D db_cls q H) (hn : (F u).map Prod.fst = wp.map Prod.fst) (hp : wp.Perm ws) (hr : meth.sig.returnType = none) (hlocks : meth.locks = false) (hdg : decode cc pc = .ok (.return_, 1)) : W p l e R s m args below meth c H locs cells slots (MQ below (NQv D post F ws0 s.heap.size) args s cells slots (va_A ws0 s.heap.size)) (F0 m pc ls []) := by
  refine W.vret C.1 C.2.1 hr (fun t0 ht hW => ⟨⟨u, rfl, hpost, by subst ht; exact P_of hP, D_of ?_ (fun q hq => ?_)⟩, hT.2.2.F ht⟩) hT.2.2.2.2 hdg hlocks
  · rw [hn]; exact (hp.map Prod.fst).nodup_iff.mpr (D_nd hT.2.1)
  · have h1 : q.1 ∈ wp.map Prod.fst := by rw [← hn]; exact List.mem_map.mpr ⟨q, hq, rfl⟩
    obtain ⟨x, hx, hxq⟩ := List.mem_map.mp ((hp.map Prod.fst).mem_iff.mp h1)
    obtain ⟨k, hk⟩ := List.getElem?_of_mem hx
    rw [← hxq]
    exact hT.2.1.2 k x hk
