set_option maxRecDepth 100000
def fX2_begin_J105 (N : Nat) (j : JS) (K : SS → Option (SS)) (kb : SS → Int32 → Option (SS)) (t : SS) (x2 : Int32) (s0 : Int32) (s1 : Int32) : Option (SS) :=
  (ix s1 6 (lett (ssA t 2 (s1).toNatClampNeg s0) fun t_105 => (ix x2 6 (lett (ssA t_105 3 (x2).toNatClampNeg (0 : Int32)) fun t_112 => (ix x2 6 (lett (ssA t_112 4 (x2).toNatClampNeg (0 : Int32)) fun t_119 => (ix x2 6 (lett (ssA t_119 5 (x2).toNatClampNeg (-1000 : Int32)) fun t_128 => (lett (x2 + (1 : Int32)) fun x2_129 => (kb t_128 x2_129))))))))))
def fX2_begin_J77 (N : Nat) (j : JS) (K : SS → Option (SS)) (kb : SS → Int32 → Option (SS)) (t : SS) (x2 : Int32) (x3 : Int32) (s0 : Int32) (s1 : Int32) : Option (SS) :=
  (ix s1 6 (lett (ssA t 1 (s1).toNatClampNeg s0) fun t_77 => (if x3 = 0 then (fX2_begin_J105 N j K kb t_77 x2 (0 : Int32) x2) else (ix x2 (j.1 0).toNatClampNeg (fX2_begin_J105 N j K kb t_77 x2 (j.2 12 (x2).toNatClampNeg) x2)))))
def fX2_begin_J49 (N : Nat) (j : JS) (K : SS → Option (SS)) (kb : SS → Int32 → Option (SS)) (t : SS) (x2 : Int32) (x3 : Int32) (s0 : Int32) (s1 : Int32) : Option (SS) :=
  (ix s1 6 (lett (ssA t 0 (s1).toNatClampNeg s0) fun t_49 => (if x3 = 0 then (fX2_begin_J77 N j K kb t_49 x2 x3 (0 : Int32) x2) else (ix x2 (j.1 0).toNatClampNeg (fX2_begin_J77 N j K kb t_49 x2 x3 (j.2 11 (x2).toNatClampNeg) x2)))))
def fX2_begin_J21 (N : Nat) (j : JS) (K : SS → Option (SS)) (kb : SS → Int32 → Option (SS)) (t : SS) (x2 : Int32) (s0 : Int32) : Option (SS) :=
  (if s0 = 0 then (fX2_begin_J49 N j K kb t x2 s0 (0 : Int32) x2) else (ix x2 (j.1 0).toNatClampNeg (fX2_begin_J49 N j K kb t x2 s0 (j.2 10 (x2).toNatClampNeg) x2)))
def fX2_begin_B2 (N : Nat) (j : JS) (K : SS → Option (SS)) (kb : SS → Int32 → Option (SS)) (t : SS) (x2 : Int32) : Option (SS) :=
  (if (6 : Int32) ≤ x2 then (K t) else ((fX1_roads N j).bind fun w_10 => (if w_10 ≤ x2 then (fX2_begin_J21 N j K kb t x2 (0 : Int32)) else (fX2_begin_J21 N j K kb t x2 (1 : Int32)))))
def fX2_begin_L2 (N : Nat) (j : JS) (K : SS → Option (SS)) : Nat → SS → Int32 → Option (SS)
  | 0 => fun _ _ => none
  | n + 1 => fun t x2 => fX2_begin_B2 N j K (fX2_begin_L2 N j K n) t x2
def fX2_begin_B137 (N : Nat) (j : JS) (K : SS → Option (SS)) (kb : SS → Int32 → Option (SS)) (t : SS) (x2 : Int32) : Option (SS) :=
  (if (12 : Int32) ≤ x2 then (K t) else (ix x2 12 (ix x2 12 (lett (ssA t 6 (x2).toNatClampNeg (j.2 2 (x2).toNatClampNeg)) fun t_154 => (lett (x2 + (1 : Int32)) fun x2_155 => (kb t_154 x2_155))))))
def fX2_begin_L137 (N : Nat) (j : JS) (K : SS → Option (SS)) : Nat → SS → Int32 → Option (SS)
  | 0 => fun _ _ => none
  | n + 1 => fun t x2 => fX2_begin_B137 N j K (fX2_begin_L137 N j K n) t x2
def fX2_begin (N : Nat) (j : JS) (t0 : SS) : Option (SS) :=
  (fX2_begin_L2 N j (fun t => (fX2_begin_L137 N j (fun t => (lett (ssI t 7 (0 : Int32)) fun t_163 => (lett (ssI t_163 8 (0 : Int32)) fun t_168 => (some t_168)))) N t (0 : Int32))) N t0 (0 : Int32))
theorem hdX2_begin : yX2_begin.cls = RX2 ∧ yX2_begin.cls ≠ "java/lang/invoke/MethodHandle" ∧ yX2_begin.cls ≠ "java/lang/invoke/VarHandle" ∧ (parseMethodDescriptor yX2_begin.desc).map (fun d => d.parameters.length) = some 1 := by decide +kernel
set_option maxHeartbeats 4000000 in
theorem mX2_begin (l : Launch) (D : va_G) (d : Nat → ClassId) (sd : Nat) (b : Nat → Nat) (ja : Nat → Nat) (N : Nat) (j : JS) (t0 : SS) (w : SS) (hf : fX2_begin N j t0 = some w) (sz : Nat) : Met l yX2_begin (ws_ yX2_begin cX2_begin 4 none) (rm_ 3 64) (GPc D d sd [.ref (b 0), .ref (ja 0)] (wS d b t0) (JAt d ja j) sz) (GQv D (wS d b w) (wS d b t0) sz) 0 0 (va_A (wS d b t0) sz) := by
  refine Met.ofW (cc := cX2_begin) (maxL := 4) (ret := none) plX2 rfl ?_
  intro p e s m args below meth c s₁ B hml hv
  obtain ⟨C, hX, hR, hT, hr, hlocks, hargs, rfl⟩ := g_enter (own := RX2) B hml rfl hv
  have hx := C.1
  have hb := C.2.1
  have hV := hX.1
  obtain ⟨A, hA0⟩ : ∃ A, A = va_A (wS d b t0) s.heap.size := ⟨_, rfl⟩
  rw [← hA0] at hX hR hT
  show W p l e (rm_ 3 64) s m args below meth c s.heap [] 0 0 (MQ below (GQv D (wS d b w) (wS d b t0) s.heap.size) args s 0 0 (va_A (wS d b t0) s.heap.size)) _
  rw [← hA0]
  have hJ := hR
  have hL2 : ∀ (K : SS → Option (SS)), (∀ (t : SS) (H : Heap) (locs : List Loc) (ls : Array Slot), TH D A s.heap (wS d b t) H locs → lv_has ls 4 [(0, .ref (b 0)), (1, .ref (ja 0))] → K t = some w → W p l e (rm_ 3 64) s m args below meth c H locs 0 0 (MQ below (GQv D (wS d b w) (wS d b t0) s.heap.size) args s 0 0 A) (F0 m 135 ls [])) → ∀ (n : Nat) (t : SS) (x2 : Int32) (H : Heap) (locs : List Loc) (ls : Array Slot), TH D A s.heap (wS d b t) H locs → lv_has ls 4 [(0, .ref (b 0)), (1, .ref (ja 0)), (2, .int x2)] → fX2_begin_L2 N j K n t x2 = some w → W p l e (rm_ 3 64) s m args below meth c H locs 0 0 (MQ below (GQv D (wS d b w) (wS d b t0) s.heap.size) args s 0 0 A) (F0 m 2 ls []) := by
    intro K hE n
    induction n with
    | zero =>
      intro t x2 H locs ls hT hl hf
      cases hf
    | succ n ih =>
      have hJ105 : ∀ (t : SS) (x2 : Int32) (s0 : Int32) (s1 : Int32) (H : Heap) (locs : List Loc) (ls : Array Slot), TH D A s.heap (wS d b t) H locs → lv_has ls 4 [(0, .ref (b 0)), (1, .ref (ja 0)), (2, .int x2)] → fX2_begin_J105 N j K (fX2_begin_L2 N j K n) t x2 s0 s1 = some w → W p l e (rm_ 3 64) s m args below meth c H locs 0 0 (MQ below (GQv D (wS d b w) (wS d b t0) s.heap.size) args s 0 0 A) (F0 m 105 ls [.int s0, .int s1, .ref (b 3)]) := by
        intro t x2 s0 s1 H locs ls hT hl hf
        unfold fX2_begin_J105 at hf
        obtain ⟨hi, hf⟩ := ix_e hf
        obtain ⟨t_105, et⟩ : ∃ y, y = (ssA t 2 (s1).toNatClampNeg s0) := ⟨_, rfl⟩
        have hf := lett_e et hf
        refine w_ist (ws1 := (wS d b t_105)) C hV hT 3 _ rfl hi rfl (by rw [et]; exact upd_set hT.2.1 rfl (sast_2 d b t _ _)) dX2_begin_105 (fun H locs hT => ?_)
        refine lv_aload_n hx hb dX2_begin_106 rfl (lv_at hl 0 rfl) ?_
        refine r_get C hV (hT.atp 0 rfl) (ci := 2) rfl in_X2 3 (by decide) q233 rfl dX2_begin_107 ?_
        refine lv_iload_n hx hb dX2_begin_110 rfl (lv_at hl 2 rfl) ?_
        refine lv_iconst (v := 0) hx hb dX2_begin_111 (by decide) ?_
        obtain ⟨hi, hf⟩ := ix_e hf
        obtain ⟨t_112, et⟩ : ∃ y, y = (ssA t_105 3 (x2).toNatClampNeg (0 : Int32)) := ⟨_, rfl⟩
        have hf := lett_e et hf
        refine w_ist (ws1 := (wS d b t_112)) C hV hT 4 _ rfl hi rfl (by rw [et]; exact upd_set hT.2.1 rfl (sast_3 d b t_105 _ _)) dX2_begin_112 (fun H locs hT => ?_)
        refine lv_aload_n hx hb dX2_begin_113 rfl (lv_at hl 0 rfl) ?_
        refine r_get C hV (hT.atp 0 rfl) (ci := 2) rfl in_X2 4 (by decide) q235 rfl dX2_begin_114 ?_
        refine lv_iload_n hx hb dX2_begin_117 rfl (lv_at hl 2 rfl) ?_
        refine lv_iconst (v := 0) hx hb dX2_begin_118 (by decide) ?_
        obtain ⟨hi, hf⟩ := ix_e hf
        obtain ⟨t_119, et⟩ : ∃ y, y = (ssA t_112 4 (x2).toNatClampNeg (0 : Int32)) := ⟨_, rfl⟩
        have hf := lett_e et hf
        refine w_ist (ws1 := (wS d b t_119)) C hV hT 5 _ rfl hi rfl (by rw [et]; exact upd_set hT.2.1 rfl (sast_4 d b t_112 _ _)) dX2_begin_119 (fun H locs hT => ?_)
        refine lv_aload_n hx hb dX2_begin_120 rfl (lv_at hl 0 rfl) ?_
        refine r_get C hV (hT.atp 0 rfl) (ci := 2) rfl in_X2 5 (by decide) q237 rfl dX2_begin_121 ?_
        refine lv_iload_n hx hb dX2_begin_124 rfl (lv_at hl 2 rfl) ?_
        refine lv_sipush (v := -1000) hx hb dX2_begin_125 (by decide) ?_
        obtain ⟨hi, hf⟩ := ix_e hf
        obtain ⟨t_128, et⟩ : ∃ y, y = (ssA t_119 5 (x2).toNatClampNeg (-1000 : Int32)) := ⟨_, rfl⟩
        have hf := lett_e et hf
        refine w_ist (ws1 := (wS d b t_128)) C hV hT 6 _ rfl hi rfl (by rw [et]; exact upd_set hT.2.1 rfl (sast_5 d b t_119 _ _)) dX2_begin_128 (fun H locs hT => ?_)
        obtain ⟨x2_129, ex⟩ : ∃ y : Int32, y = (x2 + (1 : Int32)) := ⟨_, rfl⟩
        have hf := lett_e ex hf
        refine lv_iinc (v := x2_129) (lv' := [(2, .int x2_129), (0, .ref (b 0)), (1, .ref (ja 0))]) hx hb dX2_begin_129 hl (k := 2) rfl (by rw [ex]; rfl) (by decide) rfl (fun ls hl => ?_)
        refine lv_goto (tgt := 2) hx hb dX2_begin_132 (by decide) ?_
        exact ih t_128 x2_129 _ _ _ hT (lv_sub hl [1, 2, 0] rfl) hf
      have hJ77 : ∀ (t : SS) (x2 : Int32) (x3 : Int32) (s0 : Int32) (s1 : Int32) (H : Heap) (locs : List Loc) (ls : Array Slot), TH D A s.heap (wS d b t) H locs → lv_has ls 4 [(0, .ref (b 0)), (1, .ref (ja 0)), (2, .int x2), (3, .int x3)] → fX2_begin_J77 N j K (fX2_begin_L2 N j K n) t x2 x3 s0 s1 = some w → W p l e (rm_ 3 64) s m args below meth c H locs 0 0 (MQ below (GQv D (wS d b w) (wS d b t0) s.heap.size) args s 0 0 A) (F0 m 77 ls [.int s0, .int s1, .ref (b 2)]) := by
        intro t x2 x3 s0 s1 H locs ls hT hl hf
        unfold fX2_begin_J77 at hf
        obtain ⟨hi, hf⟩ := ix_e hf
        obtain ⟨t_77, et⟩ : ∃ y, y = (ssA t 1 (s1).toNatClampNeg s0) := ⟨_, rfl⟩
        have hf := lett_e et hf
        refine w_ist (ws1 := (wS d b t_77)) C hV hT 2 _ rfl hi rfl (by rw [et]; exact upd_set hT.2.1 rfl (sast_1 d b t _ _)) dX2_begin_77 (fun H locs hT => ?_)
        refine lv_aload_n hx hb dX2_begin_78 rfl (lv_at hl 0 rfl) ?_
        refine r_get C hV (hT.atp 0 rfl) (ci := 2) rfl in_X2 2 (by decide) q231 rfl dX2_begin_79 ?_
        refine lv_iload_n hx hb dX2_begin_82 rfl (lv_at hl 2 rfl) ?_
        refine lv_iload_n hx hb dX2_begin_83 rfl (lv_at hl 3 rfl) ?_
        refine lv_if_eq (tgt := 104) hx hb dX2_begin_84 (by decide) (fun hc => ?_) (fun hc => ?_)
        · have hf := ite_t hc hf
          refine lv_iconst (v := 0) hx hb dX2_begin_104 (by decide) ?_
          exact hJ105 t_77 x2 (0 : Int32) x2 _ _ _ hT (lv_sub hl [0, 1, 2] rfl) hf
        · have hf := ite_f hc hf
          refine lv_aload_n hx hb dX2_begin_87 rfl (lv_at hl 1 rfl) ?_
          refine r_getN C hV hX.2.1 (hJ.1.at hT.2.2) (ci := 3) rfl in_X1 0 (by decide) q197 rfl dX2_begin_88 ?_
          refine lv_iload_n hx hb dX2_begin_91 rfl (lv_at hl 2 rfl) ?_
          obtain ⟨hi, hf⟩ := ix_e hf
          obtain ⟨cap, f, hcap, hel, hfx, hr_92⟩ := hJ.road hi
          refine g_callq (vs := [.int x2]) (rest := [.int x2, .ref (b 3)]) C hX hT (A_new hA0) (Cut.none _) (Ro := LRo d (ja 1) (ja 2) (j.1 5) (j.1 0) cap f) ⟨hJ.2.1.step hT.2.2 (Anil (A_new hA0) hT.2.2.1), hel.step hT.2.2 (Anil (A_new hA0) hT.2.2.1)⟩ (fun sz => mJ2_get l D d sd (ja 1) (ja 2) (j.1 5) (j.1 0) cap f x2 _ hi hcap hfx sz) (cwV 1 C.2.2.2.2 (lw_V q696 q697 q698 q124 q699) rfl rfl rfl hdJ2_get ⟨Nat.le_of_ble_eq_true rfl, Nat.le_of_ble_eq_true rfl⟩) (g_recv hV (hJ.2.1.at hT.2.2) (ci := 4) rfl) rfl hl.1 rfl (Nat.le_of_ble_eq_true rfl) dX2_begin_92 ⟨Nat.zero_le _, Nat.zero_le _⟩ (fun H locs hT => ?_)
          refine g_cast C hV (hr_92.at hT.2.2) (ci := 7) rfl q708 dX2_begin_95 ?_
          refine r_getN C hV hX.2.1 (hr_92.at hT.2.2) (ci := 7) rfl in_X6 2 (by decide) q609 rfl dX2_begin_98 ?_
          refine lv_goto (tgt := 105) hx hb dX2_begin_101 (by decide) ?_
          exact hJ105 t_77 x2 (j.2 12 (x2).toNatClampNeg) x2 _ _ _ hT (lv_sub hl [0, 1, 2] rfl) hf
      have hJ49 : ∀ (t : SS) (x2 : Int32) (x3 : Int32) (s0 : Int32) (s1 : Int32) (H : Heap) (locs : List Loc) (ls : Array Slot), TH D A s.heap (wS d b t) H locs → lv_has ls 4 [(0, .ref (b 0)), (1, .ref (ja 0)), (2, .int x2), (3, .int x3)] → fX2_begin_J49 N j K (fX2_begin_L2 N j K n) t x2 x3 s0 s1 = some w → W p l e (rm_ 3 64) s m args below meth c H locs 0 0 (MQ below (GQv D (wS d b w) (wS d b t0) s.heap.size) args s 0 0 A) (F0 m 49 ls [.int s0, .int s1, .ref (b 1)]) := by
        intro t x2 x3 s0 s1 H locs ls hT hl hf
        unfold fX2_begin_J49 at hf
        obtain ⟨hi, hf⟩ := ix_e hf
        obtain ⟨t_49, et⟩ : ∃ y, y = (ssA t 0 (s1).toNatClampNeg s0) := ⟨_, rfl⟩
        have hf := lett_e et hf
        refine w_ist (ws1 := (wS d b t_49)) C hV hT 1 _ rfl hi rfl (by rw [et]; exact upd_set hT.2.1 rfl (sast_0 d b t _ _)) dX2_begin_49 (fun H locs hT => ?_)
        refine lv_aload_n hx hb dX2_begin_50 rfl (lv_at hl 0 rfl) ?_
        refine r_get C hV (hT.atp 0 rfl) (ci := 2) rfl in_X2 1 (by decide) q229 rfl dX2_begin_51 ?_
        refine lv_iload_n hx hb dX2_begin_54 rfl (lv_at hl 2 rfl) ?_
        refine lv_iload_n hx hb dX2_begin_55 rfl (lv_at hl 3 rfl) ?_
        refine lv_if_eq (tgt := 76) hx hb dX2_begin_56 (by decide) (fun hc => ?_) (fun hc => ?_)
        · have hf := ite_t hc hf
          refine lv_iconst (v := 0) hx hb dX2_begin_76 (by decide) ?_
          exact hJ77 t_49 x2 x3 (0 : Int32) x2 _ _ _ hT hl hf
        · have hf := ite_f hc hf
          refine lv_aload_n hx hb dX2_begin_59 rfl (lv_at hl 1 rfl) ?_
          refine r_getN C hV hX.2.1 (hJ.1.at hT.2.2) (ci := 3) rfl in_X1 0 (by decide) q197 rfl dX2_begin_60 ?_
          refine lv_iload_n hx hb dX2_begin_63 rfl (lv_at hl 2 rfl) ?_
          obtain ⟨hi, hf⟩ := ix_e hf
          obtain ⟨cap, f, hcap, hel, hfx, hr_64⟩ := hJ.road hi
          refine g_callq (vs := [.int x2]) (rest := [.int x2, .ref (b 2)]) C hX hT (A_new hA0) (Cut.none _) (Ro := LRo d (ja 1) (ja 2) (j.1 5) (j.1 0) cap f) ⟨hJ.2.1.step hT.2.2 (Anil (A_new hA0) hT.2.2.1), hel.step hT.2.2 (Anil (A_new hA0) hT.2.2.1)⟩ (fun sz => mJ2_get l D d sd (ja 1) (ja 2) (j.1 5) (j.1 0) cap f x2 _ hi hcap hfx sz) (cwV 1 C.2.2.2.2 (lw_V q696 q697 q698 q124 q699) rfl rfl rfl hdJ2_get ⟨Nat.le_of_ble_eq_true rfl, Nat.le_of_ble_eq_true rfl⟩) (g_recv hV (hJ.2.1.at hT.2.2) (ci := 4) rfl) rfl hl.1 rfl (Nat.le_of_ble_eq_true rfl) dX2_begin_64 ⟨Nat.zero_le _, Nat.zero_le _⟩ (fun H locs hT => ?_)
          refine g_cast C hV (hr_64.at hT.2.2) (ci := 7) rfl q708 dX2_begin_67 ?_
          refine r_getN C hV hX.2.1 (hr_64.at hT.2.2) (ci := 7) rfl in_X6 1 (by decide) q607 rfl dX2_begin_70 ?_
          refine lv_goto (tgt := 77) hx hb dX2_begin_73 (by decide) ?_
          exact hJ77 t_49 x2 x3 (j.2 11 (x2).toNatClampNeg) x2 _ _ _ hT hl hf
      have hJ21 : ∀ (t : SS) (x2 : Int32) (s0 : Int32) (H : Heap) (locs : List Loc) (ls : Array Slot), TH D A s.heap (wS d b t) H locs → lv_has ls 4 [(0, .ref (b 0)), (1, .ref (ja 0)), (2, .int x2)] → fX2_begin_J21 N j K (fX2_begin_L2 N j K n) t x2 s0 = some w → W p l e (rm_ 3 64) s m args below meth c H locs 0 0 (MQ below (GQv D (wS d b w) (wS d b t0) s.heap.size) args s 0 0 A) (F0 m 21 ls [.int s0]) := by
        intro t x2 s0 H locs ls hT hl hf
        unfold fX2_begin_J21 at hf
        refine lv_istore_n (lv' := [(3, .int s0), (0, .ref (b 0)), (1, .ref (ja 0)), (2, .int x2)]) hx hb dX2_begin_21 rfl hl (by decide) rfl (fun ls hl => ?_)
        refine lv_aload_n hx hb dX2_begin_22 rfl (lv_at hl 1 rfl) ?_
        refine r_get C hV (hT.atp 0 rfl) (ci := 2) rfl in_X2 0 (by decide) q227 rfl dX2_begin_23 ?_
        refine lv_iload_n hx hb dX2_begin_26 rfl (lv_at hl 3 rfl) ?_
        refine lv_iload_n hx hb dX2_begin_27 rfl (lv_at hl 0 rfl) ?_
        refine lv_if_eq (tgt := 48) hx hb dX2_begin_28 (by decide) (fun hc => ?_) (fun hc => ?_)
        · have hf := ite_t hc hf
          refine lv_iconst (v := 0) hx hb dX2_begin_48 (by decide) ?_
          exact hJ49 t x2 s0 (0 : Int32) x2 _ _ _ hT (lv_sub hl [1, 2, 3, 0] rfl) hf
        · have hf := ite_f hc hf
          refine lv_aload_n hx hb dX2_begin_31 rfl (lv_at hl 2 rfl) ?_
          refine r_getN C hV hX.2.1 (hJ.1.at hT.2.2) (ci := 3) rfl in_X1 0 (by decide) q197 rfl dX2_begin_32 ?_
          refine lv_iload_n hx hb dX2_begin_35 rfl (lv_at hl 3 rfl) ?_
          obtain ⟨hi, hf⟩ := ix_e hf
          obtain ⟨cap, f, hcap, hel, hfx, hr_36⟩ := hJ.road hi
          refine g_callq (vs := [.int x2]) (rest := [.int x2, .ref (b 1)]) C hX hT (A_new hA0) (Cut.none _) (Ro := LRo d (ja 1) (ja 2) (j.1 5) (j.1 0) cap f) ⟨hJ.2.1.step hT.2.2 (Anil (A_new hA0) hT.2.2.1), hel.step hT.2.2 (Anil (A_new hA0) hT.2.2.1)⟩ (fun sz => mJ2_get l D d sd (ja 1) (ja 2) (j.1 5) (j.1 0) cap f x2 _ hi hcap hfx sz) (cwV 1 C.2.2.2.2 (lw_V q696 q697 q698 q124 q699) rfl rfl rfl hdJ2_get ⟨Nat.le_of_ble_eq_true rfl, Nat.le_of_ble_eq_true rfl⟩) (g_recv hV (hJ.2.1.at hT.2.2) (ci := 4) rfl) rfl hl.1 rfl (Nat.le_of_ble_eq_true rfl) dX2_begin_36 ⟨Nat.zero_le _, Nat.zero_le _⟩ (fun H locs hT => ?_)
          refine g_cast C hV (hr_36.at hT.2.2) (ci := 7) rfl q708 dX2_begin_39 ?_
          refine r_getN C hV hX.2.1 (hr_36.at hT.2.2) (ci := 7) rfl in_X6 0 (by decide) q605 rfl dX2_begin_42 ?_
          refine lv_goto (tgt := 49) hx hb dX2_begin_45 (by decide) ?_
          exact hJ49 t x2 s0 (j.2 10 (x2).toNatClampNeg) x2 _ _ _ hT (lv_sub hl [1, 2, 3, 0] rfl) hf
      intro t x2 H locs ls hT hl hf
      replace hf : fX2_begin_B2 N j K (fX2_begin_L2 N j K n) t x2 = some w := hf
      unfold fX2_begin_B2 at hf
      refine lv_iload_n hx hb dX2_begin_2 rfl (lv_at hl 2 rfl) ?_
      refine lv_bipush (v := 6) hx hb dX2_begin_3 (by decide) ?_
      refine lv_icmp_ge (tgt := 135) hx hb dX2_begin_5 (by decide) (fun hc => ?_) (fun hc => ?_)
      · have hf := ite_t hc hf
        exact hE t _ _ _ hT (lv_sub hl [0, 1] rfl) hf
      · have hf := ite_f hc hf
        refine lv_iload_n hx hb dX2_begin_8 rfl (lv_at hl 2 rfl) ?_
        refine lv_aload_n hx hb dX2_begin_9 rfl (lv_at hl 1 rfl) ?_
        obtain ⟨w_10, h_10, hf⟩ := bind_e hf
        refine g_calli (vs := []) (rest := [.int x2]) C hX hT (A_new hA0) (Cut.none _) (hJ.step hT.2.2 (Anil (A_new hA0) hT.2.2.1)) (fun sz => mX1_roads l D d sd ja N j _ h_10 sz) (cwV 0 C.2.2.2.2 (lw_V q695 q584 q585 q121 q586) rfl rfl rfl hdX1_roads ⟨Nat.le_of_ble_eq_true rfl, Nat.le_of_ble_eq_true rfl⟩) (g_recv hV (hJ.1.at hT.2.2) (ci := 3) rfl) rfl hl.1 rfl (Nat.le_of_ble_eq_true rfl) dX2_begin_10 ⟨Nat.zero_le _, Nat.zero_le _⟩ (fun H locs hT => ?_)
        refine lv_icmp_ge (tgt := 20) hx hb dX2_begin_13 (by decide) (fun hc => ?_) (fun hc => ?_)
        · have hf := ite_t hc hf
          refine lv_iconst (v := 0) hx hb dX2_begin_20 (by decide) ?_
          exact hJ21 t x2 (0 : Int32) _ _ _ hT hl hf
        · have hf := ite_f hc hf
          refine lv_iconst (v := 1) hx hb dX2_begin_16 (by decide) ?_
          refine lv_goto (tgt := 21) hx hb dX2_begin_17 (by decide) ?_
          exact hJ21 t x2 (1 : Int32) _ _ _ hT hl hf
  have hL137 : ∀ (K : SS → Option (SS)), (∀ (t : SS) (H : Heap) (locs : List Loc) (ls : Array Slot), TH D A s.heap (wS d b t) H locs → lv_has ls 4 [(0, .ref (b 0))] → K t = some w → W p l e (rm_ 3 64) s m args below meth c H locs 0 0 (MQ below (GQv D (wS d b w) (wS d b t0) s.heap.size) args s 0 0 A) (F0 m 161 ls [])) → ∀ (n : Nat) (t : SS) (x2 : Int32) (H : Heap) (locs : List Loc) (ls : Array Slot), TH D A s.heap (wS d b t) H locs → lv_has ls 4 [(0, .ref (b 0)), (1, .ref (ja 0)), (2, .int x2)] → fX2_begin_L137 N j K n t x2 = some w → W p l e (rm_ 3 64) s m args below meth c H locs 0 0 (MQ below (GQv D (wS d b w) (wS d b t0) s.heap.size) args s 0 0 A) (F0 m 137 ls []) := by
    intro K hE n
    induction n with
    | zero =>
      intro t x2 H locs ls hT hl hf
      cases hf
    | succ n ih =>
      intro t x2 H locs ls hT hl hf
      replace hf : fX2_begin_B137 N j K (fX2_begin_L137 N j K n) t x2 = some w := hf
      unfold fX2_begin_B137 at hf
      refine lv_iload_n hx hb dX2_begin_137 rfl (lv_at hl 2 rfl) ?_
      refine lv_bipush (v := 12) hx hb dX2_begin_138 (by decide) ?_
      refine lv_icmp_ge (tgt := 161) hx hb dX2_begin_140 (by decide) (fun hc => ?_) (fun hc => ?_)
      · have hf := ite_t hc hf
        exact hE t _ _ _ hT (lv_sub hl [0] rfl) hf
      · have hf := ite_f hc hf
        refine lv_aload_n hx hb dX2_begin_143 rfl (lv_at hl 0 rfl) ?_
        refine r_get C hV (hT.atp 0 rfl) (ci := 2) rfl in_X2 6 (by decide) q239 rfl dX2_begin_144 ?_
        refine lv_iload_n hx hb dX2_begin_147 rfl (lv_at hl 2 rfl) ?_
        refine lv_aload_n hx hb dX2_begin_148 rfl (lv_at hl 1 rfl) ?_
        refine r_getN C hV hX.2.1 (hJ.1.at hT.2.2) (ci := 3) rfl in_X1 2 (by decide) q203 rfl dX2_begin_149 ?_
        refine lv_iload_n hx hb dX2_begin_152 rfl (lv_at hl 2 rfl) ?_
        obtain ⟨hi, hf⟩ := ix_e hf
        refine r_ild C hV (hJ.2.2.2.1.at hT.2.2) _ hi rfl dX2_begin_153 ?_
        obtain ⟨hi, hf⟩ := ix_e hf
        obtain ⟨t_154, et⟩ : ∃ y, y = (ssA t 6 (x2).toNatClampNeg (j.2 2 (x2).toNatClampNeg)) := ⟨_, rfl⟩
        have hf := lett_e et hf
        refine w_ist (ws1 := (wS d b t_154)) C hV hT 7 _ rfl hi rfl (by rw [et]; exact upd_set hT.2.1 rfl (sast_6 d b t _ _)) dX2_begin_154 (fun H locs hT => ?_)
        obtain ⟨x2_155, ex⟩ : ∃ y : Int32, y = (x2 + (1 : Int32)) := ⟨_, rfl⟩
        have hf := lett_e ex hf
        refine lv_iinc (v := x2_155) (lv' := [(2, .int x2_155), (0, .ref (b 0)), (1, .ref (ja 0))]) hx hb dX2_begin_155 hl (k := 2) rfl (by rw [ex]; rfl) (by decide) rfl (fun ls hl => ?_)
        refine lv_goto (tgt := 137) hx hb dX2_begin_158 (by decide) ?_
        exact ih t_154 x2_155 _ _ _ hT (lv_sub hl [1, 2, 0] rfl) hf
  refine W.eq (by rw [hargs]) (t_in (vs := [.ref (b 0), .ref (ja 0)]) (n := 4) (Nat.le_of_ble_eq_true rfl) (fun ls hl => ?_))
  have hl : lv_has ls 4 [(0, .ref (b 0)), (1, .ref (ja 0))] := hl
  unfold fX2_begin at hf
  refine lv_iconst (v := 0) hx hb dX2_begin_0 (by decide) ?_
  refine lv_istore_n (lv' := [(2, .int (0 : Int32)), (0, .ref (b 0)), (1, .ref (ja 0))]) hx hb dX2_begin_1 rfl hl (by decide) rfl (fun ls hl => ?_)
  refine hL2 _ (fun t H locs ls hT hl hf => ?_) N t0 (0 : Int32) _ _ _ hT (lv_sub hl [1, 2, 0] rfl) hf
  refine lv_iconst (v := 0) hx hb dX2_begin_135 (by decide) ?_
  refine lv_istore_n (lv' := [(2, .int (0 : Int32)), (0, .ref (b 0)), (1, .ref (ja 0))]) hx hb dX2_begin_136 rfl hl (by decide) rfl (fun ls hl => ?_)
  refine hL137 _ (fun t H locs ls hT hl hf => ?_) N t (0 : Int32) _ _ _ hT (lv_sub hl [1, 2, 0] rfl) hf
  refine lv_aload_n hx hb dX2_begin_161 rfl (lv_at hl 0 rfl) ?_
  refine lv_iconst (v := 0) hx hb dX2_begin_162 (by decide) ?_
  obtain ⟨t_163, et⟩ : ∃ y, y = (ssI t 7 (0 : Int32)) := ⟨_, rfl⟩
  have hf := lett_e et hf
  refine w_put C hV hT (ws1 := (wS d b t_163)) 0 rfl rfl in_X2 tyX2_ok nmX2 7 (by decide) q241 (by rw [et]; exact upd_set hT.2.1 rfl (sset_7 d b t _)) rfl rfl rfl rfl (Nat.le_of_ble_eq_true rfl) dX2_begin_163 (fun H locs hT => ?_)
  refine lv_aload_n hx hb dX2_begin_166 rfl (lv_at hl 0 rfl) ?_
  refine lv_iconst (v := 0) hx hb dX2_begin_167 (by decide) ?_
  obtain ⟨t_168, et⟩ : ∃ y, y = (ssI t_163 8 (0 : Int32)) := ⟨_, rfl⟩
  have hf := lett_e et hf
  refine w_put C hV hT (ws1 := (wS d b t_168)) 0 rfl rfl in_X2 tyX2_ok nmX2 8 (by decide) q243 (by rw [et]; exact upd_set hT.2.1 rfl (sset_8 d b t_163 _)) rfl rfl rfl rfl (Nat.le_of_ble_eq_true rfl) dX2_begin_168 (fun H locs hT => ?_)
  exact f_vret (wS d b) hA0 C hT hf hr hlocks dX2_begin_171
