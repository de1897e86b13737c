set_option maxRecDepth 100000
def fX0_longest_B75 (N : Nat) (j : JS) (r : RS) (K : CS → Int32 → Int32 → Int32 → Int32 → Int32 → Int32 → Option (Int32 × CS)) (kb : CS → Int32 → Int32 → Int32 → Int32 → Int32 → Int32 → Int32 → Option (Int32 × CS)) (t : CS) (x1 : Int32) (x2 : Int32) (x3 : Int32) (x4 : Int32) (x5 : Int32) (x6 : Int32) (x7 : Int32) : Option (Int32 × CS) :=
  ((fX1_roads N j).bind fun w_81 => (if w_81 ≤ x7 then (K t x1 x2 x3 x4 x5 x6) else (ix x7 6 (if x3 < ((t.2.2.2 1).1 0 (x7).toNatClampNeg) then (ix x7 6 (lett ((t.2.2.2 1).1 0 (x7).toNatClampNeg) fun x3_114 => (lett (((t.2.2.2 1).2 8) - (1 : Int32)) fun x4_124 => (lett (x7 + (1 : Int32)) fun x7_130 => (kb t x1 x2 x3_114 x4_124 x7 x6 x7_130))))) else (lett (x7 + (1 : Int32)) fun x7_130 => (kb t x1 x2 x3 x4 x5 x6 x7_130))))))
def fX0_longest_L75 (N : Nat) (j : JS) (r : RS) (K : CS → Int32 → Int32 → Int32 → Int32 → Int32 → Int32 → Option (Int32 × CS)) : Nat → CS → Int32 → Int32 → Int32 → Int32 → Int32 → Int32 → Int32 → Option (Int32 × CS)
  | 0 => fun _ _ _ _ _ _ _ _ => none
  | n + 1 => fun t x1 x2 x3 x4 x5 x6 x7 => fX0_longest_B75 N j r K (fX0_longest_L75 N j r K n) t x1 x2 x3 x4 x5 x6 x7
def fX0_longest_B57 (N : Nat) (j : JS) (r : RS) (K : CS → Int32 → Int32 → Int32 → Int32 → Option (Int32 × CS)) (kb : CS → Int32 → Int32 → Int32 → Int32 → Int32 → Int32 → Option (Int32 × CS)) (t : CS) (x1 : Int32) (x2 : Int32) (x3 : Int32) (x4 : Int32) (x5 : Int32) (x6 : Int32) : Option (Int32 × CS) :=
  (if x1 ≤ x6 then (K t x2 x3 x4 x5) else ((fX0_goesOn N j r 1 t ).bind fun w_68 => (fX0_longest_L75 N j r (fun t x1 x2 x3 x4 x5 x6 => (lett (x6 + (1 : Int32)) fun x6_136 => (kb t x1 x2 x3 x4 x5 x6_136))) N w_68.2 x1 x2 x3 x4 x5 x6 (0 : Int32))))
def fX0_longest_L57 (N : Nat) (j : JS) (r : RS) (K : CS → Int32 → Int32 → Int32 → Int32 → Option (Int32 × CS)) : Nat → CS → Int32 → Int32 → Int32 → Int32 → Int32 → Int32 → Option (Int32 × CS)
  | 0 => fun _ _ _ _ _ _ _ => none
  | n + 1 => fun t x1 x2 x3 x4 x5 x6 => fX0_longest_B57 N j r K (fX0_longest_L57 N j r K n) t x1 x2 x3 x4 x5 x6
def fX0_longest (N : Nat) (j : JS) (r : RS) (t0 : CS) (x1 : Int32) (x2 : Int32) : Option (Int32 × CS) :=
  ((fX0_isJunction N j r  t0 ).bind fun w_1 => (if w_1.1 = 0 then (some ((-1 : Int32), w_1.2)) else ((fX0_in N (x1).toInt64 (1 : Int64) (100 : Int64)).bind fun w_13 => (if w_13 = 0 then (some ((-1 : Int32), w_1.2)) else ((fX0_in N (x2).toInt64 (0 : Int64) (2 : Int64)).bind fun w_25 => (if ¬ w_25 = 0 then ((fX2_copyFrom N (w_1.2.2.2.2 0) (w_1.2.2.2.2 1) ).bind fun w_51 => (lett (csS w_1.2 1 w_51) fun t_51 => (fX0_longest_L57 N j r (fun t x2 x3 x4 x5 => (if ¬ x2 = 0 then (if ¬ x2 = (1 : Int32) then (some (x5, t)) else (some (x4, t))) else (some ((jmax (0 : Int32) x3), t)))) N t_51 x1 x2 (-1 : Int32) (-2 : Int32) (-2 : Int32) (0 : Int32)))) else (some ((-1 : Int32), w_1.2))))))))
theorem hdX0_longest : yX0_longest.cls = RX0 ∧ yX0_longest.cls ≠ "java/lang/invoke/MethodHandle" ∧ yX0_longest.cls ≠ "java/lang/invoke/VarHandle" ∧ (parseMethodDescriptor yX0_longest.desc).map (fun d => d.parameters.length) = some 2 := by decide +kernel
set_option maxHeartbeats 4000000 in
theorem mX0_longest (l : Launch) (D : va_G) (d : Nat → ClassId) (sd : Nat) (a : Nat → Nat) (ja : Nat → Nat) (N : Nat) (j : JS) (r : RS) (t0 : CS) (x1 : Int32) (x2 : Int32) (w : Int32 × CS) (hf : fX0_longest N j r t0 x1 x2 = some w) (sz : Nat) : Met l yX0_longest (ws_ yX0_longest cX0_longest 8 (some .int)) (rm_ 264 8092) (GPc D d sd [.ref (a 32), .int x1, .int x2] (wC d a ja t0) (fun P => JAt d ja j P ∧ RAt d (a 3) r P) sz) (GQi D w.1 (wC d a ja w.2) (wC d a ja t0) sz) 0 0 (va_A (wC d a ja t0) sz) := by
  refine Met.ofW (cc := cX0_longest) (maxL := 8) (ret := (some .int)) plX0 rfl ?_
  intro p e s m args below meth c s₁ B hml hv
  obtain ⟨C, hX, hR, hT, hr, hlocks, hargs, rfl⟩ := g_enter (own := RX0) B hml rfl hv
  have hx := C.1
  have hb := C.2.1
  have hV := hX.1
  obtain ⟨A, hA0⟩ : ∃ A, A = va_A (wC d a ja t0) s.heap.size := ⟨_, rfl⟩
  rw [← hA0] at hX hR hT
  show W p l e (rm_ 264 8092) s m args below meth c s.heap [] 0 0 (MQ below (GQi D w.1 (wC d a ja w.2) (wC d a ja t0) s.heap.size) args s 0 0 (va_A (wC d a ja t0) s.heap.size)) _
  rw [← hA0]
  have hJ := hR.1
  obtain ⟨rmc, rel, rcap, rf, hrl, hrel, hrc, hrg⟩ := hR.2.unpack
  have hL57 : ∀ (K : CS → Int32 → Int32 → Int32 → Int32 → Option (Int32 × CS)), (∀ (t : CS) (x2 : Int32) (x3 : Int32) (x4 : Int32) (x5 : Int32) (H : Heap) (locs : List Loc) (ls : Array Slot), TH D A s.heap (wC d a ja t) H locs → lv_has ls 8 [(2, .int x2), (3, .int x3), (4, .int x4), (5, .int x5)] → K t x2 x3 x4 x5 = some w → W p l e (rm_ 264 8092) s m args below meth c H locs 0 0 (MQ below (GQi D w.1 (wC d a ja w.2) (wC d a ja t0) s.heap.size) args s 0 0 A) (F0 m 142 ls [])) → ∀ (n : Nat) (t : CS) (x1 : Int32) (x2 : Int32) (x3 : Int32) (x4 : Int32) (x5 : Int32) (x6 : Int32) (H : Heap) (locs : List Loc) (ls : Array Slot), TH D A s.heap (wC d a ja t) H locs → lv_has ls 8 [(0, .ref (a 32)), (1, .int x1), (2, .int x2), (3, .int x3), (4, .int x4), (5, .int x5), (6, .int x6)] → fX0_longest_L57 N j r K n t x1 x2 x3 x4 x5 x6 = some w → W p l e (rm_ 264 8092) s m args below meth c H locs 0 0 (MQ below (GQi D w.1 (wC d a ja w.2) (wC d a ja t0) s.heap.size) args s 0 0 A) (F0 m 57 ls []) := by
    intro K hE n
    induction n with
    | zero =>
      intro t x1 x2 x3 x4 x5 x6 H locs ls hT hl hf
      cases hf
    | succ n ih =>
      have hL75 : ∀ (K : CS → Int32 → Int32 → Int32 → Int32 → Int32 → Int32 → Option (Int32 × CS)), (∀ (t : CS) (x1 : Int32) (x2 : Int32) (x3 : Int32) (x4 : Int32) (x5 : Int32) (x6 : Int32) (H : Heap) (locs : List Loc) (ls : Array Slot), TH D A s.heap (wC d a ja t) H locs → lv_has ls 8 [(0, .ref (a 32)), (1, .int x1), (2, .int x2), (3, .int x3), (4, .int x4), (5, .int x5), (6, .int x6)] → K t x1 x2 x3 x4 x5 x6 = some w → W p l e (rm_ 264 8092) s m args below meth c H locs 0 0 (MQ below (GQi D w.1 (wC d a ja w.2) (wC d a ja t0) s.heap.size) args s 0 0 A) (F0 m 136 ls [])) → ∀ (n : Nat) (t : CS) (x1 : Int32) (x2 : Int32) (x3 : Int32) (x4 : Int32) (x5 : Int32) (x6 : Int32) (x7 : Int32) (H : Heap) (locs : List Loc) (ls : Array Slot), TH D A s.heap (wC d a ja t) H locs → lv_has ls 8 [(0, .ref (a 32)), (1, .int x1), (2, .int x2), (3, .int x3), (4, .int x4), (5, .int x5), (6, .int x6), (7, .int x7)] → fX0_longest_L75 N j r K n t x1 x2 x3 x4 x5 x6 x7 = some w → W p l e (rm_ 264 8092) s m args below meth c H locs 0 0 (MQ below (GQi D w.1 (wC d a ja w.2) (wC d a ja t0) s.heap.size) args s 0 0 A) (F0 m 75 ls []) := by
        intro K hE n
        induction n with
        | zero =>
          intro t x1 x2 x3 x4 x5 x6 x7 H locs ls hT hl hf
          cases hf
        | succ n ih =>
          intro t x1 x2 x3 x4 x5 x6 x7 H locs ls hT hl hf
          replace hf : fX0_longest_B75 N j r K (fX0_longest_L75 N j r K n) t x1 x2 x3 x4 x5 x6 x7 = some w := hf
          unfold fX0_longest_B75 at hf
          refine lv_iload hx hb dX0_longest_75 (lv_at hl 7 rfl) ?_
          refine lv_aload_n hx hb dX0_longest_77 rfl (lv_at hl 0 rfl) ?_
          refine r_get C hV (hT.atp 0 rfl) (ci := 1) rfl in_X0 0 (by decide) q334 rfl dX0_longest_78 ?_
          obtain ⟨w_81, h_81, hf⟩ := bind_e hf
          refine g_calli (vs := []) (rest := [.int x7]) C hX hT (A_new hA0) (Cut.none _) (hJ.step hT.2.2 (Anil (A_new hA0) hT.2.2.1)) (fun sz => mX1_roads l D d sd ja N j _ h_81 sz) (cwV 0 C.2.2.2.2 (lw_V q709 q584 q585 q121 q586) rfl rfl rfl hdX1_roads ⟨Nat.le_of_ble_eq_true rfl, Nat.le_of_ble_eq_true rfl⟩) (g_recv hV (hJ.1.at hT.2.2) (ci := 3) rfl) rfl hl.1 rfl (Nat.le_of_ble_eq_true rfl) dX0_longest_81 ⟨Nat.zero_le _, Nat.zero_le _⟩ (fun H locs hT => ?_)
          refine lv_icmp_ge (tgt := 136) hx hb dX0_longest_84 (by decide) (fun hc => ?_) (fun hc => ?_)
          · have hf := ite_t hc hf
            exact hE t x1 x2 x3 x4 x5 x6 _ _ _ hT (lv_sub hl [0, 1, 2, 3, 4, 5, 6] rfl) hf
          · have hf := ite_f hc hf
            refine lv_aload_n hx hb dX0_longest_87 rfl (lv_at hl 0 rfl) ?_
            refine r_get C hV (hT.atp 0 rfl) (ci := 1) rfl in_X0 2 (by decide) q337 rfl dX0_longest_88 ?_
            refine r_getN C hV hX.2.1 (hT.ats (i := 1) (by decide) 0 rfl) (ci := 2) rfl in_X2 0 (by decide) q228 rfl dX0_longest_91 ?_
            refine lv_iload hx hb dX0_longest_94 (lv_at hl 7 rfl) ?_
            obtain ⟨hi, hf⟩ := ix_e hf
            refine r_ild C hV (hT.ats (i := 1) (by decide) 1 rfl) _ hi rfl dX0_longest_96 ?_
            refine lv_iload_n hx hb dX0_longest_97 rfl (lv_at hl 3 rfl) ?_
            refine lv_icmp_gt (tgt := 104) hx hb dX0_longest_98 (by decide) (fun hc => ?_) (fun hc => ?_)
            · have hf := ite_t hc hf
              refine lv_aload_n hx hb dX0_longest_104 rfl (lv_at hl 0 rfl) ?_
              refine r_get C hV (hT.atp 0 rfl) (ci := 1) rfl in_X0 2 (by decide) q337 rfl dX0_longest_105 ?_
              refine r_getN C hV hX.2.1 (hT.ats (i := 1) (by decide) 0 rfl) (ci := 2) rfl in_X2 0 (by decide) q228 rfl dX0_longest_108 ?_
              refine lv_iload hx hb dX0_longest_111 (lv_at hl 7 rfl) ?_
              obtain ⟨hi, hf⟩ := ix_e hf
              refine r_ild C hV (hT.ats (i := 1) (by decide) 1 rfl) _ hi rfl dX0_longest_113 ?_
              refine lv_topi (fun x3_114 ex => ?_)
              have hf := lett_e ex hf
              refine lv_istore_n (lv' := [(3, .int x3_114), (0, .ref (a 32)), (1, .int x1), (2, .int x2), (4, .int x4), (5, .int x5), (6, .int x6), (7, .int x7)]) hx hb dX0_longest_114 rfl hl (by decide) rfl (fun ls hl => ?_)
              refine lv_aload_n hx hb dX0_longest_115 rfl (lv_at hl 1 rfl) ?_
              refine r_get C hV (hT.atp 0 rfl) (ci := 1) rfl in_X0 2 (by decide) q337 rfl dX0_longest_116 ?_
              refine r_getN C hV hX.2.1 (hT.ats (i := 1) (by decide) 0 rfl) (ci := 2) rfl in_X2 8 (by decide) q244 rfl dX0_longest_119 ?_
              refine lv_iconst (v := 1) hx hb dX0_longest_122 (by decide) ?_
              refine lv_isub hx hb dX0_longest_123 ?_
              refine lv_topi (fun x4_124 ex => ?_)
              have hf := lett_e ex hf
              refine lv_istore (lv' := [(4, .int x4_124), (3, .int x3_114), (0, .ref (a 32)), (1, .int x1), (2, .int x2), (5, .int x5), (6, .int x6), (7, .int x7)]) hx hb dX0_longest_124 hl (by decide) rfl (fun ls hl => ?_)
              refine lv_iload hx hb dX0_longest_126 (lv_at hl 7 rfl) ?_
              refine lv_istore (lv' := [(5, .int x7), (4, .int x4_124), (3, .int x3_114), (0, .ref (a 32)), (1, .int x1), (2, .int x2), (6, .int x6), (7, .int x7)]) hx hb dX0_longest_128 hl (by decide) rfl (fun ls hl => ?_)
              obtain ⟨x7_130, ex⟩ : ∃ y : Int32, y = (x7 + (1 : Int32)) := ⟨_, rfl⟩
              have hf := lett_e ex hf
              refine lv_iinc (v := x7_130) (lv' := [(7, .int x7_130), (5, .int x7), (4, .int x4_124), (3, .int x3_114), (0, .ref (a 32)), (1, .int x1), (2, .int x2), (6, .int x6)]) hx hb dX0_longest_130 hl (k := 7) rfl (by rw [ex]; rfl) (by decide) rfl (fun ls hl => ?_)
              refine lv_goto (tgt := 75) hx hb dX0_longest_133 (by decide) ?_
              exact ih t x1 x2 x3_114 x4_124 x7 x6 x7_130 _ _ _ hT (lv_sub hl [4, 5, 6, 3, 2, 1, 7, 0] rfl) hf
            · have hf := ite_f hc hf
              refine lv_goto (tgt := 130) hx hb dX0_longest_101 (by decide) ?_
              obtain ⟨x7_130, ex⟩ : ∃ y : Int32, y = (x7 + (1 : Int32)) := ⟨_, rfl⟩
              have hf := lett_e ex hf
              refine lv_iinc (v := x7_130) (lv' := [(7, .int x7_130), (0, .ref (a 32)), (1, .int x1), (2, .int x2), (3, .int x3), (4, .int x4), (5, .int x5), (6, .int x6)]) hx hb dX0_longest_130 hl (k := 7) rfl (by rw [ex]; rfl) (by decide) rfl (fun ls hl => ?_)
              refine lv_goto (tgt := 75) hx hb dX0_longest_133 (by decide) ?_
              exact ih t x1 x2 x3 x4 x5 x6 x7_130 _ _ _ hT (lv_sub hl [1, 2, 3, 4, 5, 6, 7, 0] rfl) hf
      intro t x1 x2 x3 x4 x5 x6 H locs ls hT hl hf
      replace hf : fX0_longest_B57 N j r K (fX0_longest_L57 N j r K n) t x1 x2 x3 x4 x5 x6 = some w := hf
      unfold fX0_longest_B57 at hf
      refine lv_iload hx hb dX0_longest_57 (lv_at hl 6 rfl) ?_
      refine lv_iload_n hx hb dX0_longest_59 rfl (lv_at hl 1 rfl) ?_
      refine lv_icmp_ge (tgt := 142) hx hb dX0_longest_60 (by decide) (fun hc => ?_) (fun hc => ?_)
      · have hf := ite_t hc hf
        exact hE t x2 x3 x4 x5 _ _ _ hT (lv_sub hl [2, 3, 4, 5] rfl) hf
      · have hf := ite_f hc hf
        refine lv_aload_n hx hb dX0_longest_63 rfl (lv_at hl 0 rfl) ?_
        refine lv_aload_n hx hb dX0_longest_64 rfl (lv_at hl 0 rfl) ?_
        refine r_get C hV (hT.atp 0 rfl) (ci := 1) rfl in_X0 2 (by decide) q337 rfl dX0_longest_65 ?_
        obtain ⟨w_68, h_68, hf⟩ := bind_e hf
        refine g_calli (vs := [.ref (sa a 1 0)]) (rest := []) C hX hT (A_new hA0) (Cut.all (D_nd hT.2.1) ((wC_fst d a ja _).trans (wC_fst d a ja t).symm)) (Ro := (fun P => JAt d ja j P ∧ RAt d (a 3) r P)) ⟨hJ.step hT.2.2 (A_full hA0 hT.2.2.1), hR.2.step hT.2.2 (A_full hA0 hT.2.2.1)⟩ (fun sz => mX0_goesOn l D d sd a ja N j r 1 t  _ h_68 (by decide) sz) (cwV 1 C.2.2.2.2 (lw_V q932 q934 qs30 q120 q935) rfl rfl rfl hdX0_goesOn ⟨Nat.le_of_ble_eq_true rfl, Nat.le_of_ble_eq_true rfl⟩) (g_recv hV (hT.atp 0 rfl) (ci := 1) rfl) rfl hl.1 rfl (Nat.le_of_ble_eq_true rfl) dX0_longest_68 ⟨Nat.zero_le _, Nat.zero_le _⟩ (fun H locs hT => ?_)
        refine lv_pop hx hb dX0_longest_71 rfl ?_
        refine lv_iconst (v := 0) hx hb dX0_longest_72 (by decide) ?_
        refine lv_istore (lv' := [(7, .int (0 : Int32)), (0, .ref (a 32)), (1, .int x1), (2, .int x2), (3, .int x3), (4, .int x4), (5, .int x5), (6, .int x6)]) hx hb dX0_longest_73 hl (by decide) rfl (fun ls hl => ?_)
        refine hL75 _ (fun t x1 x2 x3 x4 x5 x6 H locs ls hT hl hf => ?_) N w_68.2 x1 x2 x3 x4 x5 x6 (0 : Int32) _ _ _ hT (lv_sub hl [1, 2, 3, 4, 5, 6, 7, 0] rfl) hf
        obtain ⟨x6_136, ex⟩ : ∃ y : Int32, y = (x6 + (1 : Int32)) := ⟨_, rfl⟩
        have hf := lett_e ex hf
        refine lv_iinc (v := x6_136) (lv' := [(6, .int x6_136), (0, .ref (a 32)), (1, .int x1), (2, .int x2), (3, .int x3), (4, .int x4), (5, .int x5)]) hx hb dX0_longest_136 hl (k := 6) rfl (by rw [ex]; rfl) (by decide) rfl (fun ls hl => ?_)
        refine lv_goto (tgt := 57) hx hb dX0_longest_139 (by decide) ?_
        exact ih t x1 x2 x3 x4 x5 x6_136 _ _ _ hT (lv_sub hl [1, 2, 3, 4, 5, 6, 0] rfl) hf
  refine W.eq (by rw [hargs]) (t_in (vs := [.ref (a 32), .int x1, .int x2]) (n := 8) (Nat.le_of_ble_eq_true rfl) (fun ls hl => ?_))
  have hl : lv_has ls 8 [(0, .ref (a 32)), (1, .int x1), (2, .int x2)] := hl
  unfold fX0_longest at hf
  refine lv_aload_n hx hb dX0_longest_0 rfl (lv_at hl 0 rfl) ?_
  obtain ⟨w_1, h_1, hf⟩ := bind_e hf
  refine g_calli (vs := []) (rest := []) C hX hT (A_new hA0) (Cut.all (D_nd hT.2.1) ((wC_fst d a ja _).trans (wC_fst d a ja t0).symm)) (Ro := (fun P => JAt d ja j P ∧ RAt d (a 3) r P)) ⟨hJ.step hT.2.2 (A_full hA0 hT.2.2.1), hR.2.step hT.2.2 (A_full hA0 hT.2.2.1)⟩ (fun sz => mX0_isJunction l D d sd a ja N j r  t0  _ h_1 sz) (cwV 0 C.2.2.2.2 (lw_V q923 q925 qs28 q120 q926) rfl rfl rfl hdX0_isJunction ⟨Nat.le_of_ble_eq_true rfl, Nat.le_of_ble_eq_true rfl⟩) (g_recv hV (hT.atp 0 rfl) (ci := 1) rfl) rfl hl.1 rfl (Nat.le_of_ble_eq_true rfl) dX0_longest_1 ⟨Nat.zero_le _, Nat.zero_le _⟩ (fun H locs hT => ?_)
  refine lv_if_eq (tgt := 31) hx hb dX0_longest_4 (by decide) (fun hc => ?_) (fun hc => ?_)
  · have hf := ite_t hc hf
    refine lv_iconst (v := -1) hx hb dX0_longest_31 (by decide) ?_
    exact f_iret (wC d a ja) hA0 C hT hf hr hlocks dX0_longest_32
  · have hf := ite_f hc hf
    refine lv_iload_n hx hb dX0_longest_7 rfl (lv_at hl 1 rfl) ?_
    refine lv_i2l hx hb dX0_longest_8 rfl ?_
    refine lv_lconst (v := 1) hx hb dX0_longest_9 (by decide) ?_
    refine g_ldc2 (v := 100) C q1051 dX0_longest_10 ?_
    obtain ⟨w_13, h_13, hf⟩ := bind_e hf
    refine s_calli (vs := [.long (x1).toInt64, .long (1 : Int64), .long (100 : Int64)]) (rest := []) C (A_new hA0) hT (fun sz => mX0_in l N (x1).toInt64 (1 : Int64) (100 : Int64) _ h_13 sz) (va_cwS 3 C.2.2.2.2 (lw_S q885 q518 q120 q519) rfl rfl rfl hdX0_in ⟨Nat.le_of_ble_eq_true rfl, Nat.le_of_ble_eq_true rfl⟩) rfl hl.1 rfl (Nat.le_of_ble_eq_true rfl) dX0_longest_13 ⟨Nat.zero_le _, Nat.zero_le _⟩ (fun H locs hT => ?_)
    refine lv_if_eq (tgt := 31) hx hb dX0_longest_16 (by decide) (fun hc => ?_) (fun hc => ?_)
    · have hf := ite_t hc hf
      refine lv_iconst (v := -1) hx hb dX0_longest_31 (by decide) ?_
      exact f_iret (wC d a ja) hA0 C hT hf hr hlocks dX0_longest_32
    · have hf := ite_f hc hf
      refine lv_iload_n hx hb dX0_longest_19 rfl (lv_at hl 2 rfl) ?_
      refine lv_i2l hx hb dX0_longest_20 rfl ?_
      refine lv_lconst (v := 0) hx hb dX0_longest_21 (by decide) ?_
      refine g_ldc2 (v := 2) C q1050 dX0_longest_22 ?_
      obtain ⟨w_25, h_25, hf⟩ := bind_e hf
      refine s_calli (vs := [.long (x2).toInt64, .long (0 : Int64), .long (2 : Int64)]) (rest := []) C (A_new hA0) hT (fun sz => mX0_in l N (x2).toInt64 (0 : Int64) (2 : Int64) _ h_25 sz) (va_cwS 3 C.2.2.2.2 (lw_S q885 q518 q120 q519) rfl rfl rfl hdX0_in ⟨Nat.le_of_ble_eq_true rfl, Nat.le_of_ble_eq_true rfl⟩) rfl hl.1 rfl (Nat.le_of_ble_eq_true rfl) dX0_longest_25 ⟨Nat.zero_le _, Nat.zero_le _⟩ (fun H locs hT => ?_)
      refine lv_if_ne (tgt := 33) hx hb dX0_longest_28 (by decide) (fun hc => ?_) (fun hc => ?_)
      · have hf := ite_t hc hf
        refine lv_iconst (v := -1) hx hb dX0_longest_33 (by decide) ?_
        refine lv_istore_n (lv' := [(3, .int (-1 : Int32)), (0, .ref (a 32)), (1, .int x1), (2, .int x2)]) hx hb dX0_longest_34 rfl hl (by decide) rfl (fun ls hl => ?_)
        refine lv_bipush (v := -2) hx hb dX0_longest_35 (by decide) ?_
        refine lv_istore (lv' := [(4, .int (-2 : Int32)), (3, .int (-1 : Int32)), (0, .ref (a 32)), (1, .int x1), (2, .int x2)]) hx hb dX0_longest_37 hl (by decide) rfl (fun ls hl => ?_)
        refine lv_bipush (v := -2) hx hb dX0_longest_39 (by decide) ?_
        refine lv_istore (lv' := [(5, .int (-2 : Int32)), (4, .int (-2 : Int32)), (3, .int (-1 : Int32)), (0, .ref (a 32)), (1, .int x1), (2, .int x2)]) hx hb dX0_longest_41 hl (by decide) rfl (fun ls hl => ?_)
        refine lv_aload_n hx hb dX0_longest_43 rfl (lv_at hl 3 rfl) ?_
        refine r_get C hV (hT.atp 0 rfl) (ci := 1) rfl in_X0 2 (by decide) q337 rfl dX0_longest_44 ?_
        refine lv_aload_n hx hb dX0_longest_47 rfl (lv_at hl 3 rfl) ?_
        refine r_get C hV (hT.atp 0 rfl) (ci := 1) rfl in_X0 1 (by decide) q336 rfl dX0_longest_48 ?_
        obtain ⟨w_51, h_51, hf⟩ := bind_e hf
        refine g_callv (vs := [.ref (sa a 0 0)]) (rest := []) C hX hT (A_new hA0) (wC_cutS hT.2.1 (by decide) _) (wC_frz hT (by decide) (by decide) ((by decide)) (w_1.2.2.2.2 1)) (fun sz => mX2_copyFrom l D d sd (sa a 1) (sa a 0) N (w_1.2.2.2.2 0) (w_1.2.2.2.2 1)  _ h_51 sz) (cwV 1 C.2.2.2.2 (lw_V q915 q916 q917 q125 q918) rfl rfl rfl hdX2_copyFrom ⟨Nat.le_of_ble_eq_true rfl, Nat.le_of_ble_eq_true rfl⟩) (g_recv hV (hT.ats (i := 1) (by decide) 0 rfl) (ci := 2) rfl) rfl hl.1 rfl (Nat.le_of_ble_eq_true rfl) dX0_longest_51 ⟨Nat.zero_le _, Nat.zero_le _⟩ (fun H locs hT => ?_)
        obtain ⟨t_51, et⟩ : ∃ y, y = (csS w_1.2 1 w_51) := ⟨_, rfl⟩
        rw [← et] at hT
        have hf := lett_e et hf
        refine lv_iconst (v := 0) hx hb dX0_longest_54 (by decide) ?_
        refine lv_istore (lv' := [(6, .int (0 : Int32)), (5, .int (-2 : Int32)), (4, .int (-2 : Int32)), (3, .int (-1 : Int32)), (0, .ref (a 32)), (1, .int x1), (2, .int x2)]) hx hb dX0_longest_55 hl (by decide) rfl (fun ls hl => ?_)
        refine hL57 _ (fun t x2 x3 x4 x5 H locs ls hT hl hf => ?_) N t_51 x1 x2 (-1 : Int32) (-2 : Int32) (-2 : Int32) (0 : Int32) _ _ _ hT (lv_sub hl [4, 5, 6, 3, 2, 1, 0] rfl) hf
        refine lv_iload_n hx hb dX0_longest_142 rfl (lv_at hl 0 rfl) ?_
        refine lv_if_ne (tgt := 154) hx hb dX0_longest_143 (by decide) (fun hc => ?_) (fun hc => ?_)
        · have hf := ite_t hc hf
          refine lv_iload_n hx hb dX0_longest_154 rfl (lv_at hl 0 rfl) ?_
          refine lv_iconst (v := 1) hx hb dX0_longest_155 (by decide) ?_
          refine lv_icmp_ne (tgt := 164) hx hb dX0_longest_156 (by decide) (fun hc => ?_) (fun hc => ?_)
          · have hf := ite_t hc hf
            refine lv_iload hx hb dX0_longest_164 (lv_at hl 3 rfl) ?_
            exact f_iret (wC d a ja) hA0 C hT hf hr hlocks dX0_longest_166
          · have hf := ite_f (fun q => q hc) hf
            refine lv_iload hx hb dX0_longest_159 (lv_at hl 2 rfl) ?_
            refine lv_goto (tgt := 166) hx hb dX0_longest_161 (by decide) ?_
            exact f_iret (wC d a ja) hA0 C hT hf hr hlocks dX0_longest_166
        · have hf := ite_f (fun q => q hc) hf
          refine lv_iconst (v := 0) hx hb dX0_longest_146 (by decide) ?_
          refine lv_iload_n hx hb dX0_longest_147 rfl (lv_at hl 1 rfl) ?_
          refine g_max C hl.1 q1022 q639 q138 q640 (Nat.le_of_ble_eq_true rfl) (Nat.le_of_ble_eq_true rfl) ⟨Nat.zero_le _, Nat.zero_le _⟩ dX0_longest_148 ?_
          refine lv_goto (tgt := 166) hx hb dX0_longest_151 (by decide) ?_
          exact f_iret (wC d a ja) hA0 C hT hf hr hlocks dX0_longest_166
      · have hf := ite_f (fun q => q hc) hf
        refine lv_iconst (v := -1) hx hb dX0_longest_31 (by decide) ?_
        exact f_iret (wC d a ja) hA0 C hT hf hr hlocks dX0_longest_32
def fX0_chord_B23 (N : Nat) (j : JS) (r : RS) (K : CS → Int32 → Int32 → Option (Int32 × CS)) (kb : CS → Int32 → Int32 → Int32 → Option (Int32 × CS)) (t : CS) (x1 : Int32) (x2 : Int32) (x3 : Int32) : Option (Int32 × CS) :=
  ((fX1_roads N j).bind fun w_29 => (if ((1 : Int32) <<< (w_29 &&& 31)) ≤ x3 then (K t x1 x2) else ((fX2_sound N (t.2.2.2 0) x3).bind fun w_41 => (lett (csS t 0 w_41.2) fun t_41 => ((fX2_sound N (t_41.2.2.2 0) x2).bind fun w_49 => (lett (csS t_41 0 w_49.2) fun t_49 => (lett (w_41.1 - w_49.1) fun x4_53 => ((fX1_areFree N j x3).bind fun w_60 => (if w_60 = 0 then (lett (x3 + (1 : Int32)) fun x3_92 => (kb t_49 x1 x2 x3_92)) else (if x4_53 < 0 then (lett (x3 + (1 : Int32)) fun x3_92 => (kb t_49 x1 x2 x3_92)) else (if ¬ x4_53 = 0 then (lett (x3 + (1 : Int32)) fun x3_92 => (kb t_49 x1 x3 x3_92)) else ((fJ14_bitCount N x3).bind fun w_77 => ((fJ14_bitCount N x2).bind fun w_81 => (if w_77 < w_81 then (lett (x3 + (1 : Int32)) fun x3_92 => (kb t_49 x1 x3 x3_92)) else (lett (x3 + (1 : Int32)) fun x3_92 => (kb t_49 x1 x2 x3_92))))))))))))))))
def fX0_chord_L23 (N : Nat) (j : JS) (r : RS) (K : CS → Int32 → Int32 → Option (Int32 × CS)) : Nat → CS → Int32 → Int32 → Int32 → Option (Int32 × CS)
  | 0 => fun _ _ _ _ => none
  | n + 1 => fun t x1 x2 x3 => fX0_chord_B23 N j r K (fX0_chord_L23 N j r K n) t x1 x2 x3
def fX0_chord (N : Nat) (j : JS) (r : RS) (t0 : CS) (x1 : Int32) : Option (Int32 × CS) :=
  ((fX0_isJunction N j r  t0 ).bind fun w_1 => (if w_1.1 = 0 then (some ((-1 : Int32), w_1.2)) else ((fX0_in N (x1).toInt64 (0 : Int64) (1 : Int64)).bind fun w_11 => (if ¬ w_11 = 0 then (fX0_chord_L23 N j r (fun t x1 x2 => (if ¬ x1 = 0 then (some (x2, t)) else ((fX2_sound N (t.2.2.2 0) x2).bind fun w_107 => (lett (csS t 0 w_107.2) fun t_107 => (some (w_107.1, t_107)))))) N w_1.2 x1 (0 : Int32) (1 : Int32)) else (some ((-1 : Int32), w_1.2))))))
theorem hdX0_chord : yX0_chord.cls = RX0 ∧ yX0_chord.cls ≠ "java/lang/invoke/MethodHandle" ∧ yX0_chord.cls ≠ "java/lang/invoke/VarHandle" ∧ (parseMethodDescriptor yX0_chord.desc).map (fun d => d.parameters.length) = some 1 := by decide +kernel
set_option maxHeartbeats 4000000 in
theorem mX0_chord (l : Launch) (D : va_G) (d : Nat → ClassId) (sd : Nat) (a : Nat → Nat) (ja : Nat → Nat) (N : Nat) (j : JS) (r : RS) (t0 : CS) (x1 : Int32) (w : Int32 × CS) (hf : fX0_chord N j r t0 x1 = some w) (sz : Nat) : Met l yX0_chord (ws_ yX0_chord cX0_chord 5 (some .int)) (rm_ 3 62) (GPc D d sd [.ref (a 32), .int x1] (wC d a ja t0) (fun P => JAt d ja j P ∧ RAt d (a 3) r P) sz) (GQi D w.1 (wC d a ja w.2) (wC d a ja t0) sz) 0 0 (va_A (wC d a ja t0) sz) := by
  refine Met.ofW (cc := cX0_chord) (maxL := 5) (ret := (some .int)) plX0 rfl ?_
  intro p e s m args below meth c s₁ B hml hv
  obtain ⟨C, hX, hR, hT, hr, hlocks, hargs, rfl⟩ := g_enter (own := RX0) B hml rfl hv
  have hx := C.1
  have hb := C.2.1
  have hV := hX.1
  obtain ⟨A, hA0⟩ : ∃ A, A = va_A (wC d a ja t0) s.heap.size := ⟨_, rfl⟩
  rw [← hA0] at hX hR hT
  show W p l e (rm_ 3 62) s m args below meth c s.heap [] 0 0 (MQ below (GQi D w.1 (wC d a ja w.2) (wC d a ja t0) s.heap.size) args s 0 0 (va_A (wC d a ja t0) s.heap.size)) _
  rw [← hA0]
  have hJ := hR.1
  obtain ⟨rmc, rel, rcap, rf, hrl, hrel, hrc, hrg⟩ := hR.2.unpack
  have hL23 : ∀ (K : CS → Int32 → Int32 → Option (Int32 × CS)), (∀ (t : CS) (x1 : Int32) (x2 : Int32) (H : Heap) (locs : List Loc) (ls : Array Slot), TH D A s.heap (wC d a ja t) H locs → lv_has ls 5 [(0, .ref (a 32)), (1, .int x1), (2, .int x2)] → K t x1 x2 = some w → W p l e (rm_ 3 62) s m args below meth c H locs 0 0 (MQ below (GQi D w.1 (wC d a ja w.2) (wC d a ja t0) s.heap.size) args s 0 0 A) (F0 m 98 ls [])) → ∀ (n : Nat) (t : CS) (x1 : Int32) (x2 : Int32) (x3 : Int32) (H : Heap) (locs : List Loc) (ls : Array Slot), TH D A s.heap (wC d a ja t) H locs → lv_has ls 5 [(0, .ref (a 32)), (1, .int x1), (2, .int x2), (3, .int x3)] → fX0_chord_L23 N j r K n t x1 x2 x3 = some w → W p l e (rm_ 3 62) s m args below meth c H locs 0 0 (MQ below (GQi D w.1 (wC d a ja w.2) (wC d a ja t0) s.heap.size) args s 0 0 A) (F0 m 23 ls []) := by
    intro K hE n
    induction n with
    | zero =>
      intro t x1 x2 x3 H locs ls hT hl hf
      cases hf
    | succ n ih =>
      intro t x1 x2 x3 H locs ls hT hl hf
      replace hf : fX0_chord_B23 N j r K (fX0_chord_L23 N j r K n) t x1 x2 x3 = some w := hf
      unfold fX0_chord_B23 at hf
      refine lv_iload_n hx hb dX0_chord_23 rfl (lv_at hl 3 rfl) ?_
      refine lv_iconst (v := 1) hx hb dX0_chord_24 (by decide) ?_
      refine lv_aload_n hx hb dX0_chord_25 rfl (lv_at hl 0 rfl) ?_
      refine r_get C hV (hT.atp 0 rfl) (ci := 1) rfl in_X0 0 (by decide) q334 rfl dX0_chord_26 ?_
      obtain ⟨w_29, h_29, hf⟩ := bind_e hf
      refine g_calli (vs := []) (rest := [.int (1 : Int32), .int x3]) C hX hT (A_new hA0) (Cut.none _) (hJ.step hT.2.2 (Anil (A_new hA0) hT.2.2.1)) (fun sz => mX1_roads l D d sd ja N j _ h_29 sz) (cwV 0 C.2.2.2.2 (lw_V q709 q584 q585 q121 q586) rfl rfl rfl hdX1_roads ⟨Nat.le_of_ble_eq_true rfl, Nat.le_of_ble_eq_true rfl⟩) (g_recv hV (hJ.1.at hT.2.2) (ci := 3) rfl) rfl hl.1 rfl (Nat.le_of_ble_eq_true rfl) dX0_chord_29 ⟨Nat.zero_le _, Nat.zero_le _⟩ (fun H locs hT => ?_)
      refine lv_ishl hx hb dX0_chord_32 ?_
      refine lv_icmp_ge (tgt := 98) hx hb dX0_chord_33 (by decide) (fun hc => ?_) (fun hc => ?_)
      · have hf := ite_t hc hf
        exact hE t x1 x2 _ _ _ hT (lv_sub hl [0, 1, 2] rfl) hf
      · have hf := ite_f hc hf
        refine lv_aload_n hx hb dX0_chord_36 rfl (lv_at hl 0 rfl) ?_
        refine r_get C hV (hT.atp 0 rfl) (ci := 1) rfl in_X0 1 (by decide) q336 rfl dX0_chord_37 ?_
        refine lv_iload_n hx hb dX0_chord_40 rfl (lv_at hl 3 rfl) ?_
        obtain ⟨w_41, h_41, hf⟩ := bind_e hf
        refine g_calli (vs := [.int x3]) (rest := []) C hX hT (A_new hA0) (wC_cutS hT.2.1 (by decide) _) trivial (fun sz => mX2_sound l D d sd (sa a 0) N (t.2.2.2 0) x3 _ h_41 sz) (cwV 1 C.2.2.2.2 (lw_V q964 q965 q966 q125 q967) rfl rfl rfl hdX2_sound ⟨Nat.le_of_ble_eq_true rfl, Nat.le_of_ble_eq_true rfl⟩) (g_recv hV (hT.ats (i := 0) (by decide) 0 rfl) (ci := 2) rfl) rfl hl.1 rfl (Nat.le_of_ble_eq_true rfl) dX0_chord_41 ⟨Nat.zero_le _, Nat.zero_le _⟩ (fun H locs hT => ?_)
        obtain ⟨t_41, et⟩ : ∃ y, y = (csS t 0 w_41.2) := ⟨_, rfl⟩
        rw [← et] at hT
        have hf := lett_e et hf
        refine lv_aload_n hx hb dX0_chord_44 rfl (lv_at hl 0 rfl) ?_
        refine r_get C hV (hT.atp 0 rfl) (ci := 1) rfl in_X0 1 (by decide) q336 rfl dX0_chord_45 ?_
        refine lv_iload_n hx hb dX0_chord_48 rfl (lv_at hl 2 rfl) ?_
        obtain ⟨w_49, h_49, hf⟩ := bind_e hf
        refine g_calli (vs := [.int x2]) (rest := [.int w_41.1]) C hX hT (A_new hA0) (wC_cutS hT.2.1 (by decide) _) trivial (fun sz => mX2_sound l D d sd (sa a 0) N (t_41.2.2.2 0) x2 _ h_49 sz) (cwV 1 C.2.2.2.2 (lw_V q964 q965 q966 q125 q967) rfl rfl rfl hdX2_sound ⟨Nat.le_of_ble_eq_true rfl, Nat.le_of_ble_eq_true rfl⟩) (g_recv hV (hT.ats (i := 0) (by decide) 0 rfl) (ci := 2) rfl) rfl hl.1 rfl (Nat.le_of_ble_eq_true rfl) dX0_chord_49 ⟨Nat.zero_le _, Nat.zero_le _⟩ (fun H locs hT => ?_)
        obtain ⟨t_49, et⟩ : ∃ y, y = (csS t_41 0 w_49.2) := ⟨_, rfl⟩
        rw [← et] at hT
        have hf := lett_e et hf
        refine lv_isub hx hb dX0_chord_52 ?_
        refine lv_topi (fun x4_53 ex => ?_)
        have hf := lett_e ex hf
        refine lv_istore (lv' := [(4, .int x4_53), (0, .ref (a 32)), (1, .int x1), (2, .int x2), (3, .int x3)]) hx hb dX0_chord_53 hl (by decide) rfl (fun ls hl => ?_)
        refine lv_aload_n hx hb dX0_chord_55 rfl (lv_at hl 1 rfl) ?_
        refine r_get C hV (hT.atp 0 rfl) (ci := 1) rfl in_X0 0 (by decide) q334 rfl dX0_chord_56 ?_
        refine lv_iload_n hx hb dX0_chord_59 rfl (lv_at hl 4 rfl) ?_
        obtain ⟨w_60, h_60, hf⟩ := bind_e hf
        refine g_calli (vs := [.int x3]) (rest := []) C hX hT (A_new hA0) (Cut.none _) (hJ.step hT.2.2 (Anil (A_new hA0) hT.2.2.1)) (fun sz => mX1_areFree l D d sd ja N j x3 _ h_60 sz) (cwV 1 C.2.2.2.2 (lw_V q1072 q1073 q1074 q121 q1075) rfl rfl rfl hdX1_areFree ⟨Nat.le_of_ble_eq_true rfl, Nat.le_of_ble_eq_true rfl⟩) (g_recv hV (hJ.1.at hT.2.2) (ci := 3) rfl) rfl hl.1 rfl (Nat.le_of_ble_eq_true rfl) dX0_chord_60 ⟨Nat.zero_le _, Nat.zero_le _⟩ (fun H locs hT => ?_)
        refine lv_if_eq (tgt := 92) hx hb dX0_chord_63 (by decide) (fun hc => ?_) (fun hc => ?_)
        · have hf := ite_t hc hf
          obtain ⟨x3_92, ex⟩ : ∃ y : Int32, y = (x3 + (1 : Int32)) := ⟨_, rfl⟩
          have hf := lett_e ex hf
          refine lv_iinc (v := x3_92) (lv' := [(3, .int x3_92), (4, .int x4_53), (0, .ref (a 32)), (1, .int x1), (2, .int x2)]) hx hb dX0_chord_92 hl (k := 4) rfl (by rw [ex]; rfl) (by decide) rfl (fun ls hl => ?_)
          refine lv_goto (tgt := 23) hx hb dX0_chord_95 (by decide) ?_
          exact ih t_49 x1 x2 x3_92 _ _ _ hT (lv_sub hl [2, 3, 4, 0] rfl) hf
        · have hf := ite_f hc hf
          refine lv_iload hx hb dX0_chord_66 (lv_at hl 0 rfl) ?_
          refine lv_if_lt (tgt := 92) hx hb dX0_chord_68 (by decide) (fun hc => ?_) (fun hc => ?_)
          · have hf := ite_t hc hf
            obtain ⟨x3_92, ex⟩ : ∃ y : Int32, y = (x3 + (1 : Int32)) := ⟨_, rfl⟩
            have hf := lett_e ex hf
            refine lv_iinc (v := x3_92) (lv' := [(3, .int x3_92), (4, .int x4_53), (0, .ref (a 32)), (1, .int x1), (2, .int x2)]) hx hb dX0_chord_92 hl (k := 4) rfl (by rw [ex]; rfl) (by decide) rfl (fun ls hl => ?_)
            refine lv_goto (tgt := 23) hx hb dX0_chord_95 (by decide) ?_
            exact ih t_49 x1 x2 x3_92 _ _ _ hT (lv_sub hl [2, 3, 4, 0] rfl) hf
          · have hf := ite_f hc hf
            refine lv_iload hx hb dX0_chord_71 (lv_at hl 0 rfl) ?_
            refine lv_if_ne (tgt := 90) hx hb dX0_chord_73 (by decide) (fun hc => ?_) (fun hc => ?_)
            · have hf := ite_t hc hf
              refine lv_iload_n hx hb dX0_chord_90 rfl (lv_at hl 4 rfl) ?_
              refine lv_istore_n (lv' := [(2, .int x3), (4, .int x4_53), (0, .ref (a 32)), (1, .int x1), (3, .int x3)]) hx hb dX0_chord_91 rfl hl (by decide) rfl (fun ls hl => ?_)
              obtain ⟨x3_92, ex⟩ : ∃ y : Int32, y = (x3 + (1 : Int32)) := ⟨_, rfl⟩
              have hf := lett_e ex hf
              refine lv_iinc (v := x3_92) (lv' := [(3, .int x3_92), (2, .int x3), (4, .int x4_53), (0, .ref (a 32)), (1, .int x1)]) hx hb dX0_chord_92 hl (k := 4) rfl (by rw [ex]; rfl) (by decide) rfl (fun ls hl => ?_)
              refine lv_goto (tgt := 23) hx hb dX0_chord_95 (by decide) ?_
              exact ih t_49 x1 x3 x3_92 _ _ _ hT (lv_sub hl [3, 4, 1, 0] rfl) hf
            · have hf := ite_f (fun q => q hc) hf
              refine lv_iload_n hx hb dX0_chord_76 rfl (lv_at hl 4 rfl) ?_
              obtain ⟨w_77, h_77, hf⟩ := bind_e hf
              refine s_calli (vs := [.int x3]) (rest := []) C (A_new hA0) hT (fun sz => mJ14_bitCount l N x3 _ h_77 sz) (va_cwS 1 C.2.2.2.2 (lw_S q958 q959 q152 q960) rfl rfl rfl hdJ14_bitCount ⟨Nat.le_of_ble_eq_true rfl, Nat.le_of_ble_eq_true rfl⟩) rfl hl.1 rfl (Nat.le_of_ble_eq_true rfl) dX0_chord_77 ⟨Nat.zero_le _, Nat.zero_le _⟩ (fun H locs hT => ?_)
              refine lv_iload_n hx hb dX0_chord_80 rfl (lv_at hl 3 rfl) ?_
              obtain ⟨w_81, h_81, hf⟩ := bind_e hf
              refine s_calli (vs := [.int x2]) (rest := [.int w_77]) C (A_new hA0) hT (fun sz => mJ14_bitCount l N x2 _ h_81 sz) (va_cwS 1 C.2.2.2.2 (lw_S q958 q959 q152 q960) rfl rfl rfl hdJ14_bitCount ⟨Nat.le_of_ble_eq_true rfl, Nat.le_of_ble_eq_true rfl⟩) rfl hl.1 rfl (Nat.le_of_ble_eq_true rfl) dX0_chord_81 ⟨Nat.zero_le _, Nat.zero_le _⟩ (fun H locs hT => ?_)
              refine lv_icmp_lt (tgt := 90) hx hb dX0_chord_84 (by decide) (fun hc => ?_) (fun hc => ?_)
              · have hf := ite_t hc hf
                refine lv_iload_n hx hb dX0_chord_90 rfl (lv_at hl 4 rfl) ?_
                refine lv_istore_n (lv' := [(2, .int x3), (4, .int x4_53), (0, .ref (a 32)), (1, .int x1), (3, .int x3)]) hx hb dX0_chord_91 rfl hl (by decide) rfl (fun ls hl => ?_)
                obtain ⟨x3_92, ex⟩ : ∃ y : Int32, y = (x3 + (1 : Int32)) := ⟨_, rfl⟩
                have hf := lett_e ex hf
                refine lv_iinc (v := x3_92) (lv' := [(3, .int x3_92), (2, .int x3), (4, .int x4_53), (0, .ref (a 32)), (1, .int x1)]) hx hb dX0_chord_92 hl (k := 4) rfl (by rw [ex]; rfl) (by decide) rfl (fun ls hl => ?_)
                refine lv_goto (tgt := 23) hx hb dX0_chord_95 (by decide) ?_
                exact ih t_49 x1 x3 x3_92 _ _ _ hT (lv_sub hl [3, 4, 1, 0] rfl) hf
              · have hf := ite_f hc hf
                refine lv_goto (tgt := 92) hx hb dX0_chord_87 (by decide) ?_
                obtain ⟨x3_92, ex⟩ : ∃ y : Int32, y = (x3 + (1 : Int32)) := ⟨_, rfl⟩
                have hf := lett_e ex hf
                refine lv_iinc (v := x3_92) (lv' := [(3, .int x3_92), (4, .int x4_53), (0, .ref (a 32)), (1, .int x1), (2, .int x2)]) hx hb dX0_chord_92 hl (k := 4) rfl (by rw [ex]; rfl) (by decide) rfl (fun ls hl => ?_)
                refine lv_goto (tgt := 23) hx hb dX0_chord_95 (by decide) ?_
                exact ih t_49 x1 x2 x3_92 _ _ _ hT (lv_sub hl [2, 3, 4, 0] rfl) hf
  refine W.eq (by rw [hargs]) (t_in (vs := [.ref (a 32), .int x1]) (n := 5) (Nat.le_of_ble_eq_true rfl) (fun ls hl => ?_))
  have hl : lv_has ls 5 [(0, .ref (a 32)), (1, .int x1)] := hl
  unfold fX0_chord at hf
  refine lv_aload_n hx hb dX0_chord_0 rfl (lv_at hl 0 rfl) ?_
  obtain ⟨w_1, h_1, hf⟩ := bind_e hf
  refine g_calli (vs := []) (rest := []) C hX hT (A_new hA0) (Cut.all (D_nd hT.2.1) ((wC_fst d a ja _).trans (wC_fst d a ja t0).symm)) (Ro := (fun P => JAt d ja j P ∧ RAt d (a 3) r P)) ⟨hJ.step hT.2.2 (A_full hA0 hT.2.2.1), hR.2.step hT.2.2 (A_full hA0 hT.2.2.1)⟩ (fun sz => mX0_isJunction l D d sd a ja N j r  t0  _ h_1 sz) (cwV 0 C.2.2.2.2 (lw_V q923 q925 qs28 q120 q926) rfl rfl rfl hdX0_isJunction ⟨Nat.le_of_ble_eq_true rfl, Nat.le_of_ble_eq_true rfl⟩) (g_recv hV (hT.atp 0 rfl) (ci := 1) rfl) rfl hl.1 rfl (Nat.le_of_ble_eq_true rfl) dX0_chord_1 ⟨Nat.zero_le _, Nat.zero_le _⟩ (fun H locs hT => ?_)
  refine lv_if_eq (tgt := 17) hx hb dX0_chord_4 (by decide) (fun hc => ?_) (fun hc => ?_)
  · have hf := ite_t hc hf
    refine lv_iconst (v := -1) hx hb dX0_chord_17 (by decide) ?_
    exact f_iret (wC d a ja) hA0 C hT hf hr hlocks dX0_chord_18
  · have hf := ite_f hc hf
    refine lv_iload_n hx hb dX0_chord_7 rfl (lv_at hl 1 rfl) ?_
    refine lv_i2l hx hb dX0_chord_8 rfl ?_
    refine lv_lconst (v := 0) hx hb dX0_chord_9 (by decide) ?_
    refine lv_lconst (v := 1) hx hb dX0_chord_10 (by decide) ?_
    obtain ⟨w_11, h_11, hf⟩ := bind_e hf
    refine s_calli (vs := [.long (x1).toInt64, .long (0 : Int64), .long (1 : Int64)]) (rest := []) C (A_new hA0) hT (fun sz => mX0_in l N (x1).toInt64 (0 : Int64) (1 : Int64) _ h_11 sz) (va_cwS 3 C.2.2.2.2 (lw_S q885 q518 q120 q519) rfl rfl rfl hdX0_in ⟨Nat.le_of_ble_eq_true rfl, Nat.le_of_ble_eq_true rfl⟩) rfl hl.1 rfl (Nat.le_of_ble_eq_true rfl) dX0_chord_11 ⟨Nat.zero_le _, Nat.zero_le _⟩ (fun H locs hT => ?_)
    refine lv_if_ne (tgt := 19) hx hb dX0_chord_14 (by decide) (fun hc => ?_) (fun hc => ?_)
    · have hf := ite_t hc hf
      refine lv_iconst (v := 0) hx hb dX0_chord_19 (by decide) ?_
      refine lv_istore_n (lv' := [(2, .int (0 : Int32)), (0, .ref (a 32)), (1, .int x1)]) hx hb dX0_chord_20 rfl hl (by decide) rfl (fun ls hl => ?_)
      refine lv_iconst (v := 1) hx hb dX0_chord_21 (by decide) ?_
      refine lv_istore_n (lv' := [(3, .int (1 : Int32)), (2, .int (0 : Int32)), (0, .ref (a 32)), (1, .int x1)]) hx hb dX0_chord_22 rfl hl (by decide) rfl (fun ls hl => ?_)
      refine hL23 _ (fun t x1 x2 H locs ls hT hl hf => ?_) N w_1.2 x1 (0 : Int32) (1 : Int32) _ _ _ hT (lv_sub hl [2, 3, 1, 0] rfl) hf
      refine lv_iload_n hx hb dX0_chord_98 rfl (lv_at hl 1 rfl) ?_
      refine lv_if_ne (tgt := 113) hx hb dX0_chord_99 (by decide) (fun hc => ?_) (fun hc => ?_)
      · have hf := ite_t hc hf
        refine lv_iload_n hx hb dX0_chord_113 rfl (lv_at hl 2 rfl) ?_
        exact f_iret (wC d a ja) hA0 C hT hf hr hlocks dX0_chord_114
      · have hf := ite_f (fun q => q hc) hf
        refine lv_aload_n hx hb dX0_chord_102 rfl (lv_at hl 0 rfl) ?_
        refine r_get C hV (hT.atp 0 rfl) (ci := 1) rfl in_X0 1 (by decide) q336 rfl dX0_chord_103 ?_
        refine lv_iload_n hx hb dX0_chord_106 rfl (lv_at hl 2 rfl) ?_
        obtain ⟨w_107, h_107, hf⟩ := bind_e hf
        refine g_calli (vs := [.int x2]) (rest := []) C hX hT (A_new hA0) (wC_cutS hT.2.1 (by decide) _) trivial (fun sz => mX2_sound l D d sd (sa a 0) N (t.2.2.2 0) x2 _ h_107 sz) (cwV 1 C.2.2.2.2 (lw_V q964 q965 q966 q125 q967) rfl rfl rfl hdX2_sound ⟨Nat.le_of_ble_eq_true rfl, Nat.le_of_ble_eq_true rfl⟩) (g_recv hV (hT.ats (i := 0) (by decide) 0 rfl) (ci := 2) rfl) rfl hl.1 rfl (Nat.le_of_ble_eq_true rfl) dX0_chord_107 ⟨Nat.zero_le _, Nat.zero_le _⟩ (fun H locs hT => ?_)
        obtain ⟨t_107, et⟩ : ∃ y, y = (csS t 0 w_107.2) := ⟨_, rfl⟩
        rw [← et] at hT
        have hf := lett_e et hf
        refine lv_goto (tgt := 114) hx hb dX0_chord_110 (by decide) ?_
        exact f_iret (wC d a ja) hA0 C hT hf hr hlocks dX0_chord_114
    · have hf := ite_f (fun q => q hc) hf
      refine lv_iconst (v := -1) hx hb dX0_chord_17 (by decide) ?_
      exact f_iret (wC d a ja) hA0 C hT hf hr hlocks dX0_chord_18
def fX0_waitedIn (N : Nat) (j : JS) (r : RS) (t0 : CS) (x1 : Int32) : Option (Int32 × CS) :=
  ((fX0_goesTill N j r  t0 x1).bind fun w_2 => ((fX2_sumOf N 6 ((w_2.2.2.2 1).1 4)).bind fun w_12 => (some (w_12, w_2))))
theorem hdX0_waitedIn : yX0_waitedIn.cls = RX0 ∧ yX0_waitedIn.cls ≠ "java/lang/invoke/MethodHandle" ∧ yX0_waitedIn.cls ≠ "java/lang/invoke/VarHandle" ∧ (parseMethodDescriptor yX0_waitedIn.desc).map (fun d => d.parameters.length) = some 1 := by decide +kernel
set_option maxHeartbeats 4000000 in
theorem mX0_waitedIn (l : Launch) (D : va_G) (d : Nat → ClassId) (sd : Nat) (a : Nat → Nat) (ja : Nat → Nat) (N : Nat) (j : JS) (r : RS) (t0 : CS) (x1 : Int32) (w : Int32 × CS) (hf : fX0_waitedIn N j r t0 x1 = some w) (sz : Nat) : Met l yX0_waitedIn (ws_ yX0_waitedIn cX0_waitedIn 2 (some .int)) (rm_ 265 8114) (GPc D d sd [.ref (a 32), .int x1] (wC d a ja t0) (fun P => JAt d ja j P ∧ RAt d (a 3) r P) sz) (GQi D w.1 (wC d a ja w.2) (wC d a ja t0) sz) 0 0 (va_A (wC d a ja t0) sz) := by
  refine Met.ofW (cc := cX0_waitedIn) (maxL := 2) (ret := (some .int)) plX0 rfl ?_
  intro p e s m args below meth c s₁ B hml hv
  obtain ⟨C, hX, hR, hT, hr, hlocks, hargs, rfl⟩ := g_enter (own := RX0) B hml rfl hv
  have hx := C.1
  have hb := C.2.1
  have hV := hX.1
  obtain ⟨A, hA0⟩ : ∃ A, A = va_A (wC d a ja t0) s.heap.size := ⟨_, rfl⟩
  rw [← hA0] at hX hR hT
  show W p l e (rm_ 265 8114) s m args below meth c s.heap [] 0 0 (MQ below (GQi D w.1 (wC d a ja w.2) (wC d a ja t0) s.heap.size) args s 0 0 (va_A (wC d a ja t0) s.heap.size)) _
  rw [← hA0]
  have hJ := hR.1
  obtain ⟨rmc, rel, rcap, rf, hrl, hrel, hrc, hrg⟩ := hR.2.unpack
  refine W.eq (by rw [hargs]) (t_in (vs := [.ref (a 32), .int x1]) (n := 2) (Nat.le_of_ble_eq_true rfl) (fun ls hl => ?_))
  have hl : lv_has ls 2 [(0, .ref (a 32)), (1, .int x1)] := hl
  unfold fX0_waitedIn at hf
  refine lv_aload_n hx hb dX0_waitedIn_0 rfl (lv_at hl 0 rfl) ?_
  refine lv_iload_n hx hb dX0_waitedIn_1 rfl (lv_at hl 1 rfl) ?_
  obtain ⟨w_2, h_2, hf⟩ := bind_e hf
  refine g_callv (vs := [.int x1]) (rest := []) C hX hT (A_new hA0) (Cut.all (D_nd hT.2.1) ((wC_fst d a ja _).trans (wC_fst d a ja t0).symm)) (Ro := (fun P => JAt d ja j P ∧ RAt d (a 3) r P)) ⟨hJ.step hT.2.2 (A_full hA0 hT.2.2.1), hR.2.step hT.2.2 (A_full hA0 hT.2.2.1)⟩ (fun sz => mX0_goesTill l D d sd a ja N j r  t0 x1 _ h_2 sz) (cwV 1 C.2.2.2.2 (lw_V q1052 q1054 qs34 q120 q1055) rfl rfl rfl hdX0_goesTill ⟨Nat.le_of_ble_eq_true rfl, Nat.le_of_ble_eq_true rfl⟩) (g_recv hV (hT.atp 0 rfl) (ci := 1) rfl) rfl hl.1 rfl (Nat.le_of_ble_eq_true rfl) dX0_waitedIn_2 ⟨Nat.zero_le _, Nat.zero_le _⟩ (fun H locs hT => ?_)
  refine lv_aload_n hx hb dX0_waitedIn_5 rfl (lv_at hl 0 rfl) ?_
  refine r_get C hV (hT.atp 0 rfl) (ci := 1) rfl in_X0 2 (by decide) q337 rfl dX0_waitedIn_6 ?_
  refine r_getN C hV hX.2.1 (hT.ats (i := 1) (by decide) 0 rfl) (ci := 2) rfl in_X2 4 (by decide) q236 rfl dX0_waitedIn_9 ?_
  obtain ⟨w_12, h_12, hf⟩ := bind_e hf
  refine g_scalli (vs := [.ref (sa a 1 5)]) (rest := []) C hX hT (A_new hA0) (Cut.none _) (hT.frz (wC_mem (i := 1) (by decide) (List.mem_of_getElem? (i := 5) rfl))) (fun sz => mX2_sumOf l D d sd (sa a 1 5) N 6 ((w_2.2.2.2 1).1 4) _ h_12 sz) (va_cwS 1 C.2.2.2.2 (lw_S q974 q975 q125 q976) rfl rfl rfl hdX2_sumOf ⟨Nat.le_of_ble_eq_true rfl, Nat.le_of_ble_eq_true rfl⟩) rfl hl.1 rfl (Nat.le_of_ble_eq_true rfl) dX0_waitedIn_12 ⟨Nat.zero_le _, Nat.zero_le _⟩ (fun H locs hT => ?_)
  exact f_iret (wC d a ja) hA0 C hT hf hr hlocks dX0_waitedIn_15
def fX0_bestScore_B76 (N : Nat) (j : JS) (r : RS) (K : CS → Int32 → Int32 → Int32 → Int32 → Int32 → Int32 → Option (Int32 × CS)) (kb : CS → Int32 → Int32 → Int32 → Int32 → Int32 → Int32 → Int32 → Option (Int32 × CS)) (t : CS) (x1 : Int32) (x2 : Int32) (x3 : Int32) (x4 : Int32) (x5 : Int32) (x6 : Int32) (x7 : Int32) : Option (Int32 × CS) :=
  ((fX1_roads N j).bind fun w_82 => (if w_82 ≤ x7 then (K t x1 x2 x3 x4 x5 x6) else ((fX2_copyFrom N (t.2.2.2 0) (t.2.2.2 1) ).bind fun w_96 => (lett (csS t 1 w_96) fun t_96 => (ix x6 12 (ix x6 12 (lett (csS t_96 1 (ssA (t_96.2.2.2 1) 6 (x6).toNatClampNeg (((t_96.2.2.2 1).1 6 (x6).toNatClampNeg) ^^^ ((1 : Int32) <<< (x7 &&& 31))))) fun t_115 => ((fX0_waitedIn N j r  t_115 x1).bind fun w_118 => (if w_118.1 < x3 then (lett (x7 + (1 : Int32)) fun x7_143 => (kb w_118.2 x1 x2 w_118.1 x6 x7 x6 x7_143)) else (lett (x7 + (1 : Int32)) fun x7_143 => (kb w_118.2 x1 x2 x3 x4 x5 x6 x7_143)))))))))))
def fX0_bestScore_L76 (N : Nat) (j : JS) (r : RS) (K : CS → Int32 → Int32 → Int32 → Int32 → Int32 → Int32 → Option (Int32 × CS)) : Nat → CS → Int32 → Int32 → Int32 → Int32 → Int32 → Int32 → Int32 → Option (Int32 × CS)
  | 0 => fun _ _ _ _ _ _ _ _ => none
  | n + 1 => fun t x1 x2 x3 x4 x5 x6 x7 => fX0_bestScore_B76 N j r K (fX0_bestScore_L76 N j r K n) t x1 x2 x3 x4 x5 x6 x7
def fX0_bestScore_B61 (N : Nat) (j : JS) (r : RS) (K : CS → Int32 → Int32 → Int32 → Int32 → Option (Int32 × CS)) (kb : CS → Int32 → Int32 → Int32 → Int32 → Int32 → Int32 → Option (Int32 × CS)) (t : CS) (x1 : Int32) (x2 : Int32) (x3 : Int32) (x4 : Int32) (x5 : Int32) (x6 : Int32) : Option (Int32 × CS) :=
  (if (j.1 3) ≤ x6 then (K t x2 x3 x4 x5) else (fX0_bestScore_L76 N j r (fun t x1 x2 x3 x4 x5 x6 => (lett (x6 + (1 : Int32)) fun x6_149 => (kb t x1 x2 x3 x4 x5 x6_149))) N t x1 x2 x3 x4 x5 x6 (0 : Int32)))
def fX0_bestScore_L61 (N : Nat) (j : JS) (r : RS) (K : CS → Int32 → Int32 → Int32 → Int32 → Option (Int32 × CS)) : Nat → CS → Int32 → Int32 → Int32 → Int32 → Int32 → Int32 → Option (Int32 × CS)
  | 0 => fun _ _ _ _ _ _ _ => none
  | n + 1 => fun t x1 x2 x3 x4 x5 x6 => fX0_bestScore_B61 N j r K (fX0_bestScore_L61 N j r K n) t x1 x2 x3 x4 x5 x6
def fX0_bestScore (N : Nat) (j : JS) (r : RS) (t0 : CS) (x1 : Int32) (x2 : Int32) : Option (Int32 × CS) :=
  ((fX0_isJunction N j r  t0 ).bind fun w_1 => (if w_1.1 = 0 then (some ((-1 : Int32), w_1.2)) else ((fX0_in N (x1).toInt64 (1 : Int64) (30 : Int64)).bind fun w_13 => (if w_13 = 0 then (some ((-1 : Int32), w_1.2)) else ((fX0_in N (x2).toInt64 (0 : Int64) (2 : Int64)).bind fun w_25 => (if ¬ w_25 = 0 then ((fX2_copyFrom N (w_1.2.2.2.2 0) (w_1.2.2.2.2 1) ).bind fun w_41 => (lett (csS w_1.2 1 w_41) fun t_41 => ((fX0_waitedIn N j r  t_41 x1).bind fun w_46 => (fX0_bestScore_L61 N j r (fun t x2 x3 x4 x5 => (if ¬ x2 = 0 then (if ¬ x2 = (1 : Int32) then (some (x5, t)) else (some (x4, t))) else (some (x3, t)))) N w_46.2 x1 x2 w_46.1 (-2 : Int32) (-2 : Int32) (0 : Int32))))) else (some ((-1 : Int32), w_1.2))))))))
theorem hdX0_bestScore : yX0_bestScore.cls = RX0 ∧ yX0_bestScore.cls ≠ "java/lang/invoke/MethodHandle" ∧ yX0_bestScore.cls ≠ "java/lang/invoke/VarHandle" ∧ (parseMethodDescriptor yX0_bestScore.desc).map (fun d => d.parameters.length) = some 2 := by decide +kernel
set_option maxHeartbeats 4000000 in
theorem mX0_bestScore (l : Launch) (D : va_G) (d : Nat → ClassId) (sd : Nat) (a : Nat → Nat) (ja : Nat → Nat) (N : Nat) (j : JS) (r : RS) (t0 : CS) (x1 : Int32) (x2 : Int32) (w : Int32 × CS) (hf : fX0_bestScore N j r t0 x1 x2 = some w) (sz : Nat) : Met l yX0_bestScore (ws_ yX0_bestScore cX0_bestScore 9 (some .int)) (rm_ 266 8135) (GPc D d sd [.ref (a 32), .int x1, .int x2] (wC d a ja t0) (fun P => JAt d ja j P ∧ RAt d (a 3) r P) sz) (GQi D w.1 (wC d a ja w.2) (wC d a ja t0) sz) 0 0 (va_A (wC d a ja t0) sz) := by
  refine Met.ofW (cc := cX0_bestScore) (maxL := 9) (ret := (some .int)) plX0 rfl ?_
  intro p e s m args below meth c s₁ B hml hv
  obtain ⟨C, hX, hR, hT, hr, hlocks, hargs, rfl⟩ := g_enter (own := RX0) B hml rfl hv
  have hx := C.1
  have hb := C.2.1
  have hV := hX.1
  obtain ⟨A, hA0⟩ : ∃ A, A = va_A (wC d a ja t0) s.heap.size := ⟨_, rfl⟩
  rw [← hA0] at hX hR hT
  show W p l e (rm_ 266 8135) s m args below meth c s.heap [] 0 0 (MQ below (GQi D w.1 (wC d a ja w.2) (wC d a ja t0) s.heap.size) args s 0 0 (va_A (wC d a ja t0) s.heap.size)) _
  rw [← hA0]
  have hJ := hR.1
  obtain ⟨rmc, rel, rcap, rf, hrl, hrel, hrc, hrg⟩ := hR.2.unpack
  have hL61 : ∀ (K : CS → Int32 → Int32 → Int32 → Int32 → Option (Int32 × CS)), (∀ (t : CS) (x2 : Int32) (x3 : Int32) (x4 : Int32) (x5 : Int32) (H : Heap) (locs : List Loc) (ls : Array Slot), TH D A s.heap (wC d a ja t) H locs → lv_has ls 9 [(2, .int x2), (3, .int x3), (4, .int x4), (5, .int x5)] → K t x2 x3 x4 x5 = some w → W p l e (rm_ 266 8135) s m args below meth c H locs 0 0 (MQ below (GQi D w.1 (wC d a ja w.2) (wC d a ja t0) s.heap.size) args s 0 0 A) (F0 m 155 ls [])) → ∀ (n : Nat) (t : CS) (x1 : Int32) (x2 : Int32) (x3 : Int32) (x4 : Int32) (x5 : Int32) (x6 : Int32) (H : Heap) (locs : List Loc) (ls : Array Slot), TH D A s.heap (wC d a ja t) H locs → lv_has ls 9 [(0, .ref (a 32)), (1, .int x1), (2, .int x2), (3, .int x3), (4, .int x4), (5, .int x5), (6, .int x6)] → fX0_bestScore_L61 N j r K n t x1 x2 x3 x4 x5 x6 = some w → W p l e (rm_ 266 8135) s m args below meth c H locs 0 0 (MQ below (GQi D w.1 (wC d a ja w.2) (wC d a ja t0) s.heap.size) args s 0 0 A) (F0 m 61 ls []) := by
    intro K hE n
    induction n with
    | zero =>
      intro t x1 x2 x3 x4 x5 x6 H locs ls hT hl hf
      cases hf
    | succ n ih =>
      have hL76 : ∀ (K : CS → Int32 → Int32 → Int32 → Int32 → Int32 → Int32 → Option (Int32 × CS)), (∀ (t : CS) (x1 : Int32) (x2 : Int32) (x3 : Int32) (x4 : Int32) (x5 : Int32) (x6 : Int32) (H : Heap) (locs : List Loc) (ls : Array Slot), TH D A s.heap (wC d a ja t) H locs → lv_has ls 9 [(0, .ref (a 32)), (1, .int x1), (2, .int x2), (3, .int x3), (4, .int x4), (5, .int x5), (6, .int x6)] → K t x1 x2 x3 x4 x5 x6 = some w → W p l e (rm_ 266 8135) s m args below meth c H locs 0 0 (MQ below (GQi D w.1 (wC d a ja w.2) (wC d a ja t0) s.heap.size) args s 0 0 A) (F0 m 149 ls [])) → ∀ (n : Nat) (t : CS) (x1 : Int32) (x2 : Int32) (x3 : Int32) (x4 : Int32) (x5 : Int32) (x6 : Int32) (x7 : Int32) (H : Heap) (locs : List Loc) (ls : Array Slot), TH D A s.heap (wC d a ja t) H locs → lv_has ls 9 [(0, .ref (a 32)), (1, .int x1), (2, .int x2), (3, .int x3), (4, .int x4), (5, .int x5), (6, .int x6), (7, .int x7)] → fX0_bestScore_L76 N j r K n t x1 x2 x3 x4 x5 x6 x7 = some w → W p l e (rm_ 266 8135) s m args below meth c H locs 0 0 (MQ below (GQi D w.1 (wC d a ja w.2) (wC d a ja t0) s.heap.size) args s 0 0 A) (F0 m 76 ls []) := by
        intro K hE n
        induction n with
        | zero =>
          intro t x1 x2 x3 x4 x5 x6 x7 H locs ls hT hl hf
          cases hf
        | succ n ih =>
          intro t x1 x2 x3 x4 x5 x6 x7 H locs ls hT hl hf
          replace hf : fX0_bestScore_B76 N j r K (fX0_bestScore_L76 N j r K n) t x1 x2 x3 x4 x5 x6 x7 = some w := hf
          unfold fX0_bestScore_B76 at hf
          refine lv_iload hx hb dX0_bestScore_76 (lv_at hl 7 rfl) ?_
          refine lv_aload_n hx hb dX0_bestScore_78 rfl (lv_at hl 0 rfl) ?_
          refine r_get C hV (hT.atp 0 rfl) (ci := 1) rfl in_X0 0 (by decide) q334 rfl dX0_bestScore_79 ?_
          obtain ⟨w_82, h_82, hf⟩ := bind_e hf
          refine g_calli (vs := []) (rest := [.int x7]) C hX hT (A_new hA0) (Cut.none _) (hJ.step hT.2.2 (Anil (A_new hA0) hT.2.2.1)) (fun sz => mX1_roads l D d sd ja N j _ h_82 sz) (cwV 0 C.2.2.2.2 (lw_V q709 q584 q585 q121 q586) rfl rfl rfl hdX1_roads ⟨Nat.le_of_ble_eq_true rfl, Nat.le_of_ble_eq_true rfl⟩) (g_recv hV (hJ.1.at hT.2.2) (ci := 3) rfl) rfl hl.1 rfl (Nat.le_of_ble_eq_true rfl) dX0_bestScore_82 ⟨Nat.zero_le _, Nat.zero_le _⟩ (fun H locs hT => ?_)
          refine lv_icmp_ge (tgt := 149) hx hb dX0_bestScore_85 (by decide) (fun hc => ?_) (fun hc => ?_)
          · have hf := ite_t hc hf
            exact hE t x1 x2 x3 x4 x5 x6 _ _ _ hT (lv_sub hl [0, 1, 2, 3, 4, 5, 6] rfl) hf
          · have hf := ite_f hc hf
            refine lv_aload_n hx hb dX0_bestScore_88 rfl (lv_at hl 0 rfl) ?_
            refine r_get C hV (hT.atp 0 rfl) (ci := 1) rfl in_X0 2 (by decide) q337 rfl dX0_bestScore_89 ?_
            refine lv_aload_n hx hb dX0_bestScore_92 rfl (lv_at hl 0 rfl) ?_
            refine r_get C hV (hT.atp 0 rfl) (ci := 1) rfl in_X0 1 (by decide) q336 rfl dX0_bestScore_93 ?_
            obtain ⟨w_96, h_96, hf⟩ := bind_e hf
            refine g_callv (vs := [.ref (sa a 0 0)]) (rest := []) C hX hT (A_new hA0) (wC_cutS hT.2.1 (by decide) _) (wC_frz hT (by decide) (by decide) ((by decide)) (t.2.2.2 1)) (fun sz => mX2_copyFrom l D d sd (sa a 1) (sa a 0) N (t.2.2.2 0) (t.2.2.2 1)  _ h_96 sz) (cwV 1 C.2.2.2.2 (lw_V q915 q916 q917 q125 q918) rfl rfl rfl hdX2_copyFrom ⟨Nat.le_of_ble_eq_true rfl, Nat.le_of_ble_eq_true rfl⟩) (g_recv hV (hT.ats (i := 1) (by decide) 0 rfl) (ci := 2) rfl) rfl hl.1 rfl (Nat.le_of_ble_eq_true rfl) dX0_bestScore_96 ⟨Nat.zero_le _, Nat.zero_le _⟩ (fun H locs hT => ?_)
            obtain ⟨t_96, et⟩ : ∃ y, y = (csS t 1 w_96) := ⟨_, rfl⟩
            rw [← et] at hT
            have hf := lett_e et hf
            refine lv_aload_n hx hb dX0_bestScore_99 rfl (lv_at hl 0 rfl) ?_
            refine r_get C hV (hT.atp 0 rfl) (ci := 1) rfl in_X0 2 (by decide) q337 rfl dX0_bestScore_100 ?_
            refine r_getN C hV hX.2.1 (hT.ats (i := 1) (by decide) 0 rfl) (ci := 2) rfl in_X2 6 (by decide) q240 rfl dX0_bestScore_103 ?_
            refine lv_iload hx hb dX0_bestScore_106 (lv_at hl 6 rfl) ?_
            refine lv_dup2_11 hx hb dX0_bestScore_108 rfl rfl ?_
            obtain ⟨hi, hf⟩ := ix_e hf
            refine r_ild C hV (hT.ats (i := 1) (by decide) 7 rfl) _ hi rfl dX0_bestScore_109 ?_
            refine lv_iconst (v := 1) hx hb dX0_bestScore_110 (by decide) ?_
            refine lv_iload hx hb dX0_bestScore_111 (lv_at hl 7 rfl) ?_
            refine lv_ishl hx hb dX0_bestScore_113 ?_
            refine lv_ixor hx hb dX0_bestScore_114 ?_
            obtain ⟨hi, hf⟩ := ix_e hf
            obtain ⟨p0, hp0⟩ := wC_pos (d := d) (a := a) (ja := ja) (c := t_96) (i := 1) (by decide) 7 rfl
            obtain ⟨t_115, et⟩ : ∃ y, y = (csS t_96 1 (ssA (t_96.2.2.2 1) 6 (x6).toNatClampNeg (((t_96.2.2.2 1).1 6 (x6).toNatClampNeg) ^^^ ((1 : Int32) <<< (x7 &&& 31))))) := ⟨_, rfl⟩
            have hf := lett_e et hf
            refine w_ist (ws1 := (wC d a ja t_115)) C hV hT p0 _ hp0 hi rfl (by rw [et]; exact wC_updS hT.2.1 (by decide) _ rfl (sast_6 d (sa a 1) (t_96.2.2.2 1) _ _)) dX0_bestScore_115 (fun H locs hT => ?_)
            refine lv_aload_n hx hb dX0_bestScore_116 rfl (lv_at hl 0 rfl) ?_
            refine lv_iload_n hx hb dX0_bestScore_117 rfl (lv_at hl 1 rfl) ?_
            obtain ⟨w_118, h_118, hf⟩ := bind_e hf
            refine g_calli (vs := [.int x1]) (rest := []) C hX hT (A_new hA0) (Cut.all (D_nd hT.2.1) ((wC_fst d a ja _).trans (wC_fst d a ja t_115).symm)) (Ro := (fun P => JAt d ja j P ∧ RAt d (a 3) r P)) ⟨hJ.step hT.2.2 (A_full hA0 hT.2.2.1), hR.2.step hT.2.2 (A_full hA0 hT.2.2.1)⟩ (fun sz => mX0_waitedIn l D d sd a ja N j r  t_115 x1 _ h_118 sz) (cwV 1 C.2.2.2.2 (lw_V q1091 q1093 qs35 q120 q1094) rfl rfl rfl hdX0_waitedIn ⟨Nat.le_of_ble_eq_true rfl, Nat.le_of_ble_eq_true rfl⟩) (g_recv hV (hT.atp 0 rfl) (ci := 1) rfl) rfl hl.1 rfl (Nat.le_of_ble_eq_true rfl) dX0_bestScore_118 ⟨Nat.zero_le _, Nat.zero_le _⟩ (fun H locs hT => ?_)
            refine lv_istore (lv' := [(8, .int w_118.1), (0, .ref (a 32)), (1, .int x1), (2, .int x2), (3, .int x3), (4, .int x4), (5, .int x5), (6, .int x6), (7, .int x7)]) hx hb dX0_bestScore_121 hl (by decide) rfl (fun ls hl => ?_)
            refine lv_iload hx hb dX0_bestScore_123 (lv_at hl 0 rfl) ?_
            refine lv_iload_n hx hb dX0_bestScore_125 rfl (lv_at hl 4 rfl) ?_
            refine lv_icmp_lt (tgt := 132) hx hb dX0_bestScore_126 (by decide) (fun hc => ?_) (fun hc => ?_)
            · have hf := ite_t hc hf
              refine lv_iload hx hb dX0_bestScore_132 (lv_at hl 0 rfl) ?_
              refine lv_istore_n (lv' := [(3, .int w_118.1), (8, .int w_118.1), (0, .ref (a 32)), (1, .int x1), (2, .int x2), (4, .int x4), (5, .int x5), (6, .int x6), (7, .int x7)]) hx hb dX0_bestScore_134 rfl hl (by decide) rfl (fun ls hl => ?_)
              refine lv_iload hx hb dX0_bestScore_135 (lv_at hl 7 rfl) ?_
              refine lv_istore (lv' := [(4, .int x6), (3, .int w_118.1), (8, .int w_118.1), (0, .ref (a 32)), (1, .int x1), (2, .int x2), (5, .int x5), (6, .int x6), (7, .int x7)]) hx hb dX0_bestScore_137 hl (by decide) rfl (fun ls hl => ?_)
              refine lv_iload hx hb dX0_bestScore_139 (lv_at hl 8 rfl) ?_
              refine lv_istore (lv' := [(5, .int x7), (4, .int x6), (3, .int w_118.1), (8, .int w_118.1), (0, .ref (a 32)), (1, .int x1), (2, .int x2), (6, .int x6), (7, .int x7)]) hx hb dX0_bestScore_141 hl (by decide) rfl (fun ls hl => ?_)
              obtain ⟨x7_143, ex⟩ : ∃ y : Int32, y = (x7 + (1 : Int32)) := ⟨_, rfl⟩
              have hf := lett_e ex hf
              refine lv_iinc (v := x7_143) (lv' := [(7, .int x7_143), (5, .int x7), (4, .int x6), (3, .int w_118.1), (8, .int w_118.1), (0, .ref (a 32)), (1, .int x1), (2, .int x2), (6, .int x6)]) hx hb dX0_bestScore_143 hl (k := 8) rfl (by rw [ex]; rfl) (by decide) rfl (fun ls hl => ?_)
              refine lv_goto (tgt := 76) hx hb dX0_bestScore_146 (by decide) ?_
              exact ih w_118.2 x1 x2 w_118.1 x6 x7 x6 x7_143 _ _ _ hT (lv_sub hl [5, 6, 7, 3, 2, 1, 8, 0] rfl) hf
            · have hf := ite_f hc hf
              refine lv_goto (tgt := 143) hx hb dX0_bestScore_129 (by decide) ?_
              obtain ⟨x7_143, ex⟩ : ∃ y : Int32, y = (x7 + (1 : Int32)) := ⟨_, rfl⟩
              have hf := lett_e ex hf
              refine lv_iinc (v := x7_143) (lv' := [(7, .int x7_143), (8, .int w_118.1), (0, .ref (a 32)), (1, .int x1), (2, .int x2), (3, .int x3), (4, .int x4), (5, .int x5), (6, .int x6)]) hx hb dX0_bestScore_143 hl (k := 8) rfl (by rw [ex]; rfl) (by decide) rfl (fun ls hl => ?_)
              refine lv_goto (tgt := 76) hx hb dX0_bestScore_146 (by decide) ?_
              exact ih w_118.2 x1 x2 x3 x4 x5 x6 x7_143 _ _ _ hT (lv_sub hl [2, 3, 4, 5, 6, 7, 8, 0] rfl) hf
      intro t x1 x2 x3 x4 x5 x6 H locs ls hT hl hf
      replace hf : fX0_bestScore_B61 N j r K (fX0_bestScore_L61 N j r K n) t x1 x2 x3 x4 x5 x6 = some w := hf
      unfold fX0_bestScore_B61 at hf
      refine lv_iload hx hb dX0_bestScore_61 (lv_at hl 6 rfl) ?_
      refine lv_aload_n hx hb dX0_bestScore_63 rfl (lv_at hl 0 rfl) ?_
      refine r_get C hV (hT.atp 0 rfl) (ci := 1) rfl in_X0 0 (by decide) q334 rfl dX0_bestScore_64 ?_
      refine r_getN C hV hX.2.1 (hJ.1.at hT.2.2) (ci := 3) rfl in_X1 3 (by decide) q205 rfl dX0_bestScore_67 ?_
      refine lv_icmp_ge (tgt := 155) hx hb dX0_bestScore_70 (by decide) (fun hc => ?_) (fun hc => ?_)
      · have hf := ite_t hc hf
        exact hE t x2 x3 x4 x5 _ _ _ hT (lv_sub hl [2, 3, 4, 5] rfl) hf
      · have hf := ite_f hc hf
        refine lv_iconst (v := 0) hx hb dX0_bestScore_73 (by decide) ?_
        refine lv_istore (lv' := [(7, .int (0 : Int32)), (0, .ref (a 32)), (1, .int x1), (2, .int x2), (3, .int x3), (4, .int x4), (5, .int x5), (6, .int x6)]) hx hb dX0_bestScore_74 hl (by decide) rfl (fun ls hl => ?_)
        refine hL76 _ (fun t x1 x2 x3 x4 x5 x6 H locs ls hT hl hf => ?_) N t x1 x2 x3 x4 x5 x6 (0 : Int32) _ _ _ hT (lv_sub hl [1, 2, 3, 4, 5, 6, 7, 0] rfl) hf
        obtain ⟨x6_149, ex⟩ : ∃ y : Int32, y = (x6 + (1 : Int32)) := ⟨_, rfl⟩
        have hf := lett_e ex hf
        refine lv_iinc (v := x6_149) (lv' := [(6, .int x6_149), (0, .ref (a 32)), (1, .int x1), (2, .int x2), (3, .int x3), (4, .int x4), (5, .int x5)]) hx hb dX0_bestScore_149 hl (k := 6) rfl (by rw [ex]; rfl) (by decide) rfl (fun ls hl => ?_)
        refine lv_goto (tgt := 61) hx hb dX0_bestScore_152 (by decide) ?_
        exact ih t x1 x2 x3 x4 x5 x6_149 _ _ _ hT (lv_sub hl [1, 2, 3, 4, 5, 6, 0] rfl) hf
  refine W.eq (by rw [hargs]) (t_in (vs := [.ref (a 32), .int x1, .int x2]) (n := 9) (Nat.le_of_ble_eq_true rfl) (fun ls hl => ?_))
  have hl : lv_has ls 9 [(0, .ref (a 32)), (1, .int x1), (2, .int x2)] := hl
  unfold fX0_bestScore at hf
  refine lv_aload_n hx hb dX0_bestScore_0 rfl (lv_at hl 0 rfl) ?_
  obtain ⟨w_1, h_1, hf⟩ := bind_e hf
  refine g_calli (vs := []) (rest := []) C hX hT (A_new hA0) (Cut.all (D_nd hT.2.1) ((wC_fst d a ja _).trans (wC_fst d a ja t0).symm)) (Ro := (fun P => JAt d ja j P ∧ RAt d (a 3) r P)) ⟨hJ.step hT.2.2 (A_full hA0 hT.2.2.1), hR.2.step hT.2.2 (A_full hA0 hT.2.2.1)⟩ (fun sz => mX0_isJunction l D d sd a ja N j r  t0  _ h_1 sz) (cwV 0 C.2.2.2.2 (lw_V q923 q925 qs28 q120 q926) rfl rfl rfl hdX0_isJunction ⟨Nat.le_of_ble_eq_true rfl, Nat.le_of_ble_eq_true rfl⟩) (g_recv hV (hT.atp 0 rfl) (ci := 1) rfl) rfl hl.1 rfl (Nat.le_of_ble_eq_true rfl) dX0_bestScore_1 ⟨Nat.zero_le _, Nat.zero_le _⟩ (fun H locs hT => ?_)
  refine lv_if_eq (tgt := 31) hx hb dX0_bestScore_4 (by decide) (fun hc => ?_) (fun hc => ?_)
  · have hf := ite_t hc hf
    refine lv_iconst (v := -1) hx hb dX0_bestScore_31 (by decide) ?_
    exact f_iret (wC d a ja) hA0 C hT hf hr hlocks dX0_bestScore_32
  · have hf := ite_f hc hf
    refine lv_iload_n hx hb dX0_bestScore_7 rfl (lv_at hl 1 rfl) ?_
    refine lv_i2l hx hb dX0_bestScore_8 rfl ?_
    refine lv_lconst (v := 1) hx hb dX0_bestScore_9 (by decide) ?_
    refine g_ldc2 (v := 30) C q1090 dX0_bestScore_10 ?_
    obtain ⟨w_13, h_13, hf⟩ := bind_e hf
    refine s_calli (vs := [.long (x1).toInt64, .long (1 : Int64), .long (30 : Int64)]) (rest := []) C (A_new hA0) hT (fun sz => mX0_in l N (x1).toInt64 (1 : Int64) (30 : Int64) _ h_13 sz) (va_cwS 3 C.2.2.2.2 (lw_S q885 q518 q120 q519) rfl rfl rfl hdX0_in ⟨Nat.le_of_ble_eq_true rfl, Nat.le_of_ble_eq_true rfl⟩) rfl hl.1 rfl (Nat.le_of_ble_eq_true rfl) dX0_bestScore_13 ⟨Nat.zero_le _, Nat.zero_le _⟩ (fun H locs hT => ?_)
    refine lv_if_eq (tgt := 31) hx hb dX0_bestScore_16 (by decide) (fun hc => ?_) (fun hc => ?_)
    · have hf := ite_t hc hf
      refine lv_iconst (v := -1) hx hb dX0_bestScore_31 (by decide) ?_
      exact f_iret (wC d a ja) hA0 C hT hf hr hlocks dX0_bestScore_32
    · have hf := ite_f hc hf
      refine lv_iload_n hx hb dX0_bestScore_19 rfl (lv_at hl 2 rfl) ?_
      refine lv_i2l hx hb dX0_bestScore_20 rfl ?_
      refine lv_lconst (v := 0) hx hb dX0_bestScore_21 (by decide) ?_
      refine g_ldc2 (v := 2) C q1050 dX0_bestScore_22 ?_
      obtain ⟨w_25, h_25, hf⟩ := bind_e hf
      refine s_calli (vs := [.long (x2).toInt64, .long (0 : Int64), .long (2 : Int64)]) (rest := []) C (A_new hA0) hT (fun sz => mX0_in l N (x2).toInt64 (0 : Int64) (2 : Int64) _ h_25 sz) (va_cwS 3 C.2.2.2.2 (lw_S q885 q518 q120 q519) rfl rfl rfl hdX0_in ⟨Nat.le_of_ble_eq_true rfl, Nat.le_of_ble_eq_true rfl⟩) rfl hl.1 rfl (Nat.le_of_ble_eq_true rfl) dX0_bestScore_25 ⟨Nat.zero_le _, Nat.zero_le _⟩ (fun H locs hT => ?_)
      refine lv_if_ne (tgt := 33) hx hb dX0_bestScore_28 (by decide) (fun hc => ?_) (fun hc => ?_)
      · have hf := ite_t hc hf
        refine lv_aload_n hx hb dX0_bestScore_33 rfl (lv_at hl 0 rfl) ?_
        refine r_get C hV (hT.atp 0 rfl) (ci := 1) rfl in_X0 2 (by decide) q337 rfl dX0_bestScore_34 ?_
        refine lv_aload_n hx hb dX0_bestScore_37 rfl (lv_at hl 0 rfl) ?_
        refine r_get C hV (hT.atp 0 rfl) (ci := 1) rfl in_X0 1 (by decide) q336 rfl dX0_bestScore_38 ?_
        obtain ⟨w_41, h_41, hf⟩ := bind_e hf
        refine g_callv (vs := [.ref (sa a 0 0)]) (rest := []) C hX hT (A_new hA0) (wC_cutS hT.2.1 (by decide) _) (wC_frz hT (by decide) (by decide) ((by decide)) (w_1.2.2.2.2 1)) (fun sz => mX2_copyFrom l D d sd (sa a 1) (sa a 0) N (w_1.2.2.2.2 0) (w_1.2.2.2.2 1)  _ h_41 sz) (cwV 1 C.2.2.2.2 (lw_V q915 q916 q917 q125 q918) rfl rfl rfl hdX2_copyFrom ⟨Nat.le_of_ble_eq_true rfl, Nat.le_of_ble_eq_true rfl⟩) (g_recv hV (hT.ats (i := 1) (by decide) 0 rfl) (ci := 2) rfl) rfl hl.1 rfl (Nat.le_of_ble_eq_true rfl) dX0_bestScore_41 ⟨Nat.zero_le _, Nat.zero_le _⟩ (fun H locs hT => ?_)
        obtain ⟨t_41, et⟩ : ∃ y, y = (csS w_1.2 1 w_41) := ⟨_, rfl⟩
        rw [← et] at hT
        have hf := lett_e et hf
        refine lv_aload_n hx hb dX0_bestScore_44 rfl (lv_at hl 0 rfl) ?_
        refine lv_iload_n hx hb dX0_bestScore_45 rfl (lv_at hl 1 rfl) ?_
        obtain ⟨w_46, h_46, hf⟩ := bind_e hf
        refine g_calli (vs := [.int x1]) (rest := []) C hX hT (A_new hA0) (Cut.all (D_nd hT.2.1) ((wC_fst d a ja _).trans (wC_fst d a ja t_41).symm)) (Ro := (fun P => JAt d ja j P ∧ RAt d (a 3) r P)) ⟨hJ.step hT.2.2 (A_full hA0 hT.2.2.1), hR.2.step hT.2.2 (A_full hA0 hT.2.2.1)⟩ (fun sz => mX0_waitedIn l D d sd a ja N j r  t_41 x1 _ h_46 sz) (cwV 1 C.2.2.2.2 (lw_V q1091 q1093 qs35 q120 q1094) rfl rfl rfl hdX0_waitedIn ⟨Nat.le_of_ble_eq_true rfl, Nat.le_of_ble_eq_true rfl⟩) (g_recv hV (hT.atp 0 rfl) (ci := 1) rfl) rfl hl.1 rfl (Nat.le_of_ble_eq_true rfl) dX0_bestScore_46 ⟨Nat.zero_le _, Nat.zero_le _⟩ (fun H locs hT => ?_)
        refine lv_istore_n (lv' := [(3, .int w_46.1), (0, .ref (a 32)), (1, .int x1), (2, .int x2)]) hx hb dX0_bestScore_49 rfl hl (by decide) rfl (fun ls hl => ?_)
        refine lv_bipush (v := -2) hx hb dX0_bestScore_50 (by decide) ?_
        refine lv_istore (lv' := [(4, .int (-2 : Int32)), (3, .int w_46.1), (0, .ref (a 32)), (1, .int x1), (2, .int x2)]) hx hb dX0_bestScore_52 hl (by decide) rfl (fun ls hl => ?_)
        refine lv_bipush (v := -2) hx hb dX0_bestScore_54 (by decide) ?_
        refine lv_istore (lv' := [(5, .int (-2 : Int32)), (4, .int (-2 : Int32)), (3, .int w_46.1), (0, .ref (a 32)), (1, .int x1), (2, .int x2)]) hx hb dX0_bestScore_56 hl (by decide) rfl (fun ls hl => ?_)
        refine lv_iconst (v := 0) hx hb dX0_bestScore_58 (by decide) ?_
        refine lv_istore (lv' := [(6, .int (0 : Int32)), (5, .int (-2 : Int32)), (4, .int (-2 : Int32)), (3, .int w_46.1), (0, .ref (a 32)), (1, .int x1), (2, .int x2)]) hx hb dX0_bestScore_59 hl (by decide) rfl (fun ls hl => ?_)
        refine hL61 _ (fun t x2 x3 x4 x5 H locs ls hT hl hf => ?_) N w_46.2 x1 x2 w_46.1 (-2 : Int32) (-2 : Int32) (0 : Int32) _ _ _ hT (lv_sub hl [4, 5, 6, 3, 2, 1, 0] rfl) hf
        refine lv_iload_n hx hb dX0_bestScore_155 rfl (lv_at hl 0 rfl) ?_
        refine lv_if_ne (tgt := 163) hx hb dX0_bestScore_156 (by decide) (fun hc => ?_) (fun hc => ?_)
        · have hf := ite_t hc hf
          refine lv_iload_n hx hb dX0_bestScore_163 rfl (lv_at hl 0 rfl) ?_
          refine lv_iconst (v := 1) hx hb dX0_bestScore_164 (by decide) ?_
          refine lv_icmp_ne (tgt := 173) hx hb dX0_bestScore_165 (by decide) (fun hc => ?_) (fun hc => ?_)
          · have hf := ite_t hc hf
            refine lv_iload hx hb dX0_bestScore_173 (lv_at hl 3 rfl) ?_
            exact f_iret (wC d a ja) hA0 C hT hf hr hlocks dX0_bestScore_175
          · have hf := ite_f (fun q => q hc) hf
            refine lv_iload hx hb dX0_bestScore_168 (lv_at hl 2 rfl) ?_
            refine lv_goto (tgt := 175) hx hb dX0_bestScore_170 (by decide) ?_
            exact f_iret (wC d a ja) hA0 C hT hf hr hlocks dX0_bestScore_175
        · have hf := ite_f (fun q => q hc) hf
          refine lv_iload_n hx hb dX0_bestScore_159 rfl (lv_at hl 1 rfl) ?_
          refine lv_goto (tgt := 175) hx hb dX0_bestScore_160 (by decide) ?_
          exact f_iret (wC d a ja) hA0 C hT hf hr hlocks dX0_bestScore_175
      · have hf := ite_f (fun q => q hc) hf
        refine lv_iconst (v := -1) hx hb dX0_bestScore_31 (by decide) ?_
        exact f_iret (wC d a ja) hA0 C hT hf hr hlocks dX0_bestScore_32
def fX0_triesRow_B60 (N : Nat) (j : JS) (r : RS) (i1 : Nat) (K : CS → Option (CS)) (kb : CS → Int32 → Int32 → Option (CS)) (t : CS) (x2 : Int32) (x4 : Int32) : Option (CS) :=
  (if x2 ≤ x4 then (K t) else (ix x4 3 (ix x4 3 (lett (csA t 23 (x4).toNatClampNeg (t.2.1 22 (x4).toNatClampNeg)) fun t_79 => (lett (x4 + (1 : Int32)) fun x4_80 => (kb t_79 x2 x4_80))))))
def fX0_triesRow_L60 (N : Nat) (j : JS) (r : RS) (i1 : Nat) (K : CS → Option (CS)) : Nat → CS → Int32 → Int32 → Option (CS)
  | 0 => fun _ _ _ => none
  | n + 1 => fun t x2 x4 => fX0_triesRow_B60 N j r i1 K (fX0_triesRow_L60 N j r i1 K n) t x2 x4
def fX0_triesRow_J44 (N : Nat) (j : JS) (r : RS) (i1 : Nat) (t : CS) (x2 : Int32) (x3 : Int32) : Option (CS) :=
  (lett (csI t 24 x3) fun t_46 => (lett (csI t_46 25 ((t_46.2.2.2 i1).2 7)) fun t_54 => (fX0_triesRow_L60 N j r i1 (fun t => (some t)) N t_54 x2 (0 : Int32))))
def fX0_triesRow (N : Nat) (j : JS) (r : RS) (i1 : Nat) (t0 : CS) (x2 : Int32) : Option (CS) :=
  ((fX2_sumOf N 6 ((t0.2.2.2 i1).1 4)).bind fun w_4 => (if (t0.1 24) = (-1 : Int32) then (fX0_triesRow_J44 N j r i1 t0 x2 w_4) else (if (t0.1 24) < w_4 then (some t0) else (if ¬ w_4 = (t0.1 24) then (fX0_triesRow_J44 N j r i1 t0 x2 w_4) else (if (t0.1 25) < ((t0.2.2.2 i1).2 7) then (fX0_triesRow_J44 N j r i1 t0 x2 w_4) else (some t0))))))
theorem hdX0_triesRow : yX0_triesRow.cls = RX0 ∧ yX0_triesRow.cls ≠ "java/lang/invoke/MethodHandle" ∧ yX0_triesRow.cls ≠ "java/lang/invoke/VarHandle" ∧ (parseMethodDescriptor yX0_triesRow.desc).map (fun d => d.parameters.length) = some 2 := by decide +kernel
set_option maxHeartbeats 4000000 in
theorem mX0_triesRow (l : Launch) (D : va_G) (d : Nat → ClassId) (sd : Nat) (a : Nat → Nat) (ja : Nat → Nat) (N : Nat) (j : JS) (r : RS) (i1 : Nat) (t0 : CS) (x2 : Int32) (w : CS) (hf : fX0_triesRow N j r i1 t0 x2 = some w) (hi1 : i1 < 26) (sz : Nat) : Met l yX0_triesRow (ws_ yX0_triesRow cX0_triesRow 5 none) (rm_ 1 22) (GPc D d sd [.ref (a 32), .ref (sa a i1 0), .int x2] (wC d a ja t0) (fun P => JAt d ja j P ∧ RAt d (a 3) r P) sz) (GQv D (wC d a ja w) (wC d a ja t0) sz) 0 0 (va_A (wC d a ja t0) sz) := by
  refine Met.ofW (cc := cX0_triesRow) (maxL := 5) (ret := none) plX0 rfl ?_
  intro p e s m args below meth c s₁ B hml hv
  obtain ⟨C, hX, hR, hT, hr, hlocks, hargs, rfl⟩ := g_enter (own := RX0) B hml rfl hv
  have hx := C.1
  have hb := C.2.1
  have hV := hX.1
  obtain ⟨A, hA0⟩ : ∃ A, A = va_A (wC d a ja t0) s.heap.size := ⟨_, rfl⟩
  rw [← hA0] at hX hR hT
  show W p l e (rm_ 1 22) s m args below meth c s.heap [] 0 0 (MQ below (GQv D (wC d a ja w) (wC d a ja t0) s.heap.size) args s 0 0 (va_A (wC d a ja t0) s.heap.size)) _
  rw [← hA0]
  have hJ := hR.1
  obtain ⟨rmc, rel, rcap, rf, hrl, hrel, hrc, hrg⟩ := hR.2.unpack
  have hL60 : ∀ (K : CS → Option (CS)), (∀ (t : CS) (H : Heap) (locs : List Loc) (ls : Array Slot), TH D A s.heap (wC d a ja t) H locs → lv_has ls 5 [] → K t = some w → W p l e (rm_ 1 22) s m args below meth c H locs 0 0 (MQ below (GQv D (wC d a ja w) (wC d a ja t0) s.heap.size) args s 0 0 A) (F0 m 86 ls [])) → ∀ (n : Nat) (t : CS) (x2 : Int32) (x4 : Int32) (H : Heap) (locs : List Loc) (ls : Array Slot), TH D A s.heap (wC d a ja t) H locs → lv_has ls 5 [(0, .ref (a 32)), (2, .int x2), (4, .int x4)] → fX0_triesRow_L60 N j r i1 K n t x2 x4 = some w → W p l e (rm_ 1 22) s m args below meth c H locs 0 0 (MQ below (GQv D (wC d a ja w) (wC d a ja t0) s.heap.size) args s 0 0 A) (F0 m 60 ls []) := by
    intro K hE n
    induction n with
    | zero =>
      intro t x2 x4 H locs ls hT hl hf
      cases hf
    | succ n ih =>
      intro t x2 x4 H locs ls hT hl hf
      replace hf : fX0_triesRow_B60 N j r i1 K (fX0_triesRow_L60 N j r i1 K n) t x2 x4 = some w := hf
      unfold fX0_triesRow_B60 at hf
      refine lv_iload hx hb dX0_triesRow_60 (lv_at hl 2 rfl) ?_
      refine lv_iload_n hx hb dX0_triesRow_62 rfl (lv_at hl 1 rfl) ?_
      refine lv_icmp_ge (tgt := 86) hx hb dX0_triesRow_63 (by decide) (fun hc => ?_) (fun hc => ?_)
      · have hf := ite_t hc hf
        exact hE t _ _ _ hT (lv_sub hl [] rfl) hf
      · have hf := ite_f hc hf
        refine lv_aload_n hx hb dX0_triesRow_66 rfl (lv_at hl 0 rfl) ?_
        refine r_get C hV (hT.atp 0 rfl) (ci := 1) rfl in_X0 23 (by decide) q368 rfl dX0_triesRow_67 ?_
        refine lv_iload hx hb dX0_triesRow_70 (lv_at hl 2 rfl) ?_
        refine lv_aload_n hx hb dX0_triesRow_72 rfl (lv_at hl 0 rfl) ?_
        refine r_get C hV (hT.atp 0 rfl) (ci := 1) rfl in_X0 22 (by decide) q367 rfl dX0_triesRow_73 ?_
        refine lv_iload hx hb dX0_triesRow_76 (lv_at hl 2 rfl) ?_
        obtain ⟨hi, hf⟩ := ix_e hf
        refine r_ild C hV (hT.atp 9 rfl) _ hi rfl dX0_triesRow_78 ?_
        obtain ⟨hi, hf⟩ := ix_e hf
        obtain ⟨t_79, et⟩ : ∃ y, y = (csA t 23 (x4).toNatClampNeg (t.2.1 22 (x4).toNatClampNeg)) := ⟨_, rfl⟩
        have hf := lett_e et hf
        refine w_ist (ws1 := (wC d a ja t_79)) C hV hT 10 _ rfl hi rfl (by rw [et]; exact upd_set hT.2.1 rfl (cast_23 d a ja t _ _)) dX0_triesRow_79 (fun H locs hT => ?_)
        obtain ⟨x4_80, ex⟩ : ∃ y : Int32, y = (x4 + (1 : Int32)) := ⟨_, rfl⟩
        have hf := lett_e ex hf
        refine lv_iinc (v := x4_80) (lv' := [(4, .int x4_80), (0, .ref (a 32)), (2, .int x2)]) hx hb dX0_triesRow_80 hl (k := 2) rfl (by rw [ex]; rfl) (by decide) rfl (fun ls hl => ?_)
        refine lv_goto (tgt := 60) hx hb dX0_triesRow_83 (by decide) ?_
        exact ih t_79 x2 x4_80 _ _ _ hT (lv_sub hl [1, 2, 0] rfl) hf
  have hJ44 : ∀ (t : CS) (x2 : Int32) (x3 : Int32) (H : Heap) (locs : List Loc) (ls : Array Slot), TH D A s.heap (wC d a ja t) H locs → lv_has ls 5 [(0, .ref (a 32)), (1, .ref (sa a i1 0)), (2, .int x2), (3, .int x3)] → fX0_triesRow_J44 N j r i1 t x2 x3 = some w → W p l e (rm_ 1 22) s m args below meth c H locs 0 0 (MQ below (GQv D (wC d a ja w) (wC d a ja t0) s.heap.size) args s 0 0 A) (F0 m 44 ls []) := by
    intro t x2 x3 H locs ls hT hl hf
    unfold fX0_triesRow_J44 at hf
    refine lv_aload_n hx hb dX0_triesRow_44 rfl (lv_at hl 0 rfl) ?_
    refine lv_iload_n hx hb dX0_triesRow_45 rfl (lv_at hl 3 rfl) ?_
    obtain ⟨t_46, et⟩ : ∃ y, y = (csI t 24 x3) := ⟨_, rfl⟩
    have hf := lett_e et hf
    refine w_put C hV hT (ws1 := (wC d a ja t_46)) 0 rfl rfl in_X0 tyX0_ok nmX0 24 (by decide) q369 (by rw [et]; exact upd_set hT.2.1 rfl (cset_24 d a ja t _)) rfl rfl rfl rfl (Nat.le_of_ble_eq_true rfl) dX0_triesRow_46 (fun H locs hT => ?_)
    refine lv_aload_n hx hb dX0_triesRow_49 rfl (lv_at hl 0 rfl) ?_
    refine lv_aload_n hx hb dX0_triesRow_50 rfl (lv_at hl 1 rfl) ?_
    refine r_getN C hV hX.2.1 (hT.ats (i := i1) hi1 0 rfl) (ci := 2) rfl in_X2 7 (by decide) q242 rfl dX0_triesRow_51 ?_
    obtain ⟨t_54, et⟩ : ∃ y, y = (csI t_46 25 ((t_46.2.2.2 i1).2 7)) := ⟨_, rfl⟩
    have hf := lett_e et hf
    refine w_put C hV hT (ws1 := (wC d a ja t_54)) 0 rfl rfl in_X0 tyX0_ok nmX0 25 (by decide) q370 (by rw [et]; exact upd_set hT.2.1 rfl (cset_25 d a ja t_46 _)) rfl rfl rfl rfl (Nat.le_of_ble_eq_true rfl) dX0_triesRow_54 (fun H locs hT => ?_)
    refine lv_iconst (v := 0) hx hb dX0_triesRow_57 (by decide) ?_
    refine lv_istore (lv' := [(4, .int (0 : Int32)), (0, .ref (a 32)), (1, .ref (sa a i1 0)), (2, .int x2), (3, .int x3)]) hx hb dX0_triesRow_58 hl (by decide) rfl (fun ls hl => ?_)
    refine hL60 _ (fun t H locs ls hT hl hf => ?_) N t_54 x2 (0 : Int32) _ _ _ hT (lv_sub hl [1, 3, 0] rfl) hf
    exact f_vret (wC d a ja) hA0 C hT hf hr hlocks dX0_triesRow_86
  refine W.eq (by rw [hargs]) (t_in (vs := [.ref (a 32), .ref (sa a i1 0), .int x2]) (n := 5) (Nat.le_of_ble_eq_true rfl) (fun ls hl => ?_))
  have hl : lv_has ls 5 [(0, .ref (a 32)), (1, .ref (sa a i1 0)), (2, .int x2)] := hl
  unfold fX0_triesRow at hf
  refine lv_aload_n hx hb dX0_triesRow_0 rfl (lv_at hl 1 rfl) ?_
  refine r_getN C hV hX.2.1 (hT.ats (i := i1) hi1 0 rfl) (ci := 2) rfl in_X2 4 (by decide) q236 rfl dX0_triesRow_1 ?_
  obtain ⟨w_4, h_4, hf⟩ := bind_e hf
  refine g_scalli (vs := [.ref (sa a i1 5)]) (rest := []) C hX hT (A_new hA0) (Cut.none _) (hT.frz (wC_mem (i := i1) hi1 (List.mem_of_getElem? (i := 5) rfl))) (fun sz => mX2_sumOf l D d sd (sa a i1 5) N 6 ((t0.2.2.2 i1).1 4) _ h_4 sz) (va_cwS 1 C.2.2.2.2 (lw_S q974 q975 q125 q976) rfl rfl rfl hdX2_sumOf ⟨Nat.le_of_ble_eq_true rfl, Nat.le_of_ble_eq_true rfl⟩) rfl hl.1 rfl (Nat.le_of_ble_eq_true rfl) dX0_triesRow_4 ⟨Nat.zero_le _, Nat.zero_le _⟩ (fun H locs hT => ?_)
  refine lv_istore_n (lv' := [(3, .int w_4), (0, .ref (a 32)), (1, .ref (sa a i1 0)), (2, .int x2)]) hx hb dX0_triesRow_7 rfl hl (by decide) rfl (fun ls hl => ?_)
  refine lv_aload_n hx hb dX0_triesRow_8 rfl (lv_at hl 1 rfl) ?_
  refine r_get C hV (hT.atp 0 rfl) (ci := 1) rfl in_X0 24 (by decide) q369 rfl dX0_triesRow_9 ?_
  refine lv_iconst (v := -1) hx hb dX0_triesRow_12 (by decide) ?_
  refine lv_icmp_eq (tgt := 44) hx hb dX0_triesRow_13 (by decide) (fun hc => ?_) (fun hc => ?_)
  · have hf := ite_t hc hf
    exact hJ44 t0 x2 w_4 _ _ _ hT (lv_sub hl [1, 2, 3, 0] rfl) hf
  · have hf := ite_f hc hf
    refine lv_iload_n hx hb dX0_triesRow_16 rfl (lv_at hl 0 rfl) ?_
    refine lv_aload_n hx hb dX0_triesRow_17 rfl (lv_at hl 1 rfl) ?_
    refine r_get C hV (hT.atp 0 rfl) (ci := 1) rfl in_X0 24 (by decide) q369 rfl dX0_triesRow_18 ?_
    refine lv_icmp_gt (tgt := 43) hx hb dX0_triesRow_21 (by decide) (fun hc => ?_) (fun hc => ?_)
    · have hf := ite_t hc hf
      exact f_vret (wC d a ja) hA0 C hT hf hr hlocks dX0_triesRow_43
    · have hf := ite_f hc hf
      refine lv_iload_n hx hb dX0_triesRow_24 rfl (lv_at hl 0 rfl) ?_
      refine lv_aload_n hx hb dX0_triesRow_25 rfl (lv_at hl 1 rfl) ?_
      refine r_get C hV (hT.atp 0 rfl) (ci := 1) rfl in_X0 24 (by decide) q369 rfl dX0_triesRow_26 ?_
      refine lv_icmp_ne (tgt := 44) hx hb dX0_triesRow_29 (by decide) (fun hc => ?_) (fun hc => ?_)
      · have hf := ite_t hc hf
        exact hJ44 t0 x2 w_4 _ _ _ hT (lv_sub hl [1, 2, 3, 0] rfl) hf
      · have hf := ite_f (fun q => q hc) hf
        refine lv_aload_n hx hb dX0_triesRow_32 rfl (lv_at hl 2 rfl) ?_
        refine r_getN C hV hX.2.1 (hT.ats (i := i1) hi1 0 rfl) (ci := 2) rfl in_X2 7 (by decide) q242 rfl dX0_triesRow_33 ?_
        refine lv_aload_n hx hb dX0_triesRow_36 rfl (lv_at hl 1 rfl) ?_
        refine r_get C hV (hT.atp 0 rfl) (ci := 1) rfl in_X0 25 (by decide) q370 rfl dX0_triesRow_37 ?_
        refine lv_icmp_gt (tgt := 44) hx hb dX0_triesRow_40 (by decide) (fun hc => ?_) (fun hc => ?_)
        · have hf := ite_t hc hf
          exact hJ44 t0 x2 w_4 _ _ _ hT (lv_sub hl [1, 2, 3, 0] rfl) hf
        · have hf := ite_f hc hf
          exact f_vret (wC d a ja) hA0 C hT hf hr hlocks dX0_triesRow_43
def fX0_areFewIn_B18 (N : Nat) (j : JS) (r : RS) (K : CS → Int32 → Int32 → Option (Int32 × CS)) (kb : CS → Int32 → Int32 → Int32 → Option (Int32 × CS)) (t : CS) (x1 : Int32) (x2 : Int32) (x3 : Int32) : Option (Int32 × CS) :=
  ((fX1_roads N j).bind fun w_23 => (if w_23 ≤ x3 then (K t x1 x2) else (ix x3 6 (if ((t.2.2.2 1).1 0 (x3).toNatClampNeg) ≤ (20 : Int32) then (lett (x3 + (1 : Int32)) fun x3_45 => (kb t x1 x2 x3_45)) else (some ((0 : Int32), t))))))
def fX0_areFewIn_L18 (N : Nat) (j : JS) (r : RS) (K : CS → Int32 → Int32 → Option (Int32 × CS)) : Nat → CS → Int32 → Int32 → Int32 → Option (Int32 × CS)
  | 0 => fun _ _ _ _ => none
  | n + 1 => fun t x1 x2 x3 => fX0_areFewIn_B18 N j r K (fX0_areFewIn_L18 N j r K n) t x1 x2 x3
def fX0_areFewIn_B2 (N : Nat) (j : JS) (r : RS) (K : CS → Option (Int32 × CS)) (kb : CS → Int32 → Int32 → Option (Int32 × CS)) (t : CS) (x1 : Int32) (x2 : Int32) : Option (Int32 × CS) :=
  (if x1 ≤ x2 then (K t) else ((fX0_goesOn N j r 1 t ).bind fun w_12 => (fX0_areFewIn_L18 N j r (fun t x1 x2 => (lett (x2 + (1 : Int32)) fun x2_51 => (kb t x1 x2_51))) N w_12.2 x1 x2 (0 : Int32))))
def fX0_areFewIn_L2 (N : Nat) (j : JS) (r : RS) (K : CS → Option (Int32 × CS)) : Nat → CS → Int32 → Int32 → Option (Int32 × CS)
  | 0 => fun _ _ _ => none
  | n + 1 => fun t x1 x2 => fX0_areFewIn_B2 N j r K (fX0_areFewIn_L2 N j r K n) t x1 x2
def fX0_areFewIn (N : Nat) (j : JS) (r : RS) (t0 : CS) (x1 : Int32) : Option (Int32 × CS) :=
  (fX0_areFewIn_L2 N j r (fun t => (some ((1 : Int32), t))) N t0 x1 (0 : Int32))
theorem hdX0_areFewIn : yX0_areFewIn.cls = RX0 ∧ yX0_areFewIn.cls ≠ "java/lang/invoke/MethodHandle" ∧ yX0_areFewIn.cls ≠ "java/lang/invoke/VarHandle" ∧ (parseMethodDescriptor yX0_areFewIn.desc).map (fun d => d.parameters.length) = some 1 := by decide +kernel
set_option maxHeartbeats 4000000 in
theorem mX0_areFewIn (l : Launch) (D : va_G) (d : Nat → ClassId) (sd : Nat) (a : Nat → Nat) (ja : Nat → Nat) (N : Nat) (j : JS) (r : RS) (t0 : CS) (x1 : Int32) (w : Int32 × CS) (hf : fX0_areFewIn N j r t0 x1 = some w) (sz : Nat) : Met l yX0_areFewIn (ws_ yX0_areFewIn cX0_areFewIn 4 (some .boolean)) (rm_ 264 8092) (GPc D d sd [.ref (a 32), .int x1] (wC d a ja t0) (fun P => JAt d ja j P ∧ RAt d (a 3) r P) sz) (GQi D w.1 (wC d a ja w.2) (wC d a ja t0) sz) 0 0 (va_A (wC d a ja t0) sz) := by
  refine Met.ofW (cc := cX0_areFewIn) (maxL := 4) (ret := (some .boolean)) plX0 rfl ?_
  intro p e s m args below meth c s₁ B hml hv
  obtain ⟨C, hX, hR, hT, hr, hlocks, hargs, rfl⟩ := g_enter (own := RX0) B hml rfl hv
  have hx := C.1
  have hb := C.2.1
  have hV := hX.1
  obtain ⟨A, hA0⟩ : ∃ A, A = va_A (wC d a ja t0) s.heap.size := ⟨_, rfl⟩
  rw [← hA0] at hX hR hT
  show W p l e (rm_ 264 8092) s m args below meth c s.heap [] 0 0 (MQ below (GQi D w.1 (wC d a ja w.2) (wC d a ja t0) s.heap.size) args s 0 0 (va_A (wC d a ja t0) s.heap.size)) _
  rw [← hA0]
  have hJ := hR.1
  obtain ⟨rmc, rel, rcap, rf, hrl, hrel, hrc, hrg⟩ := hR.2.unpack
  have hL2 : ∀ (K : CS → Option (Int32 × CS)), (∀ (t : CS) (H : Heap) (locs : List Loc) (ls : Array Slot), TH D A s.heap (wC d a ja t) H locs → lv_has ls 4 [] → K t = some w → W p l e (rm_ 264 8092) s m args below meth c H locs 0 0 (MQ below (GQi D w.1 (wC d a ja w.2) (wC d a ja t0) s.heap.size) args s 0 0 A) (F0 m 57 ls [])) → ∀ (n : Nat) (t : CS) (x1 : Int32) (x2 : Int32) (H : Heap) (locs : List Loc) (ls : Array Slot), TH D A s.heap (wC d a ja t) H locs → lv_has ls 4 [(0, .ref (a 32)), (1, .int x1), (2, .int x2)] → fX0_areFewIn_L2 N j r K n t x1 x2 = some w → W p l e (rm_ 264 8092) s m args below meth c H locs 0 0 (MQ below (GQi D w.1 (wC d a ja w.2) (wC d a ja t0) s.heap.size) args s 0 0 A) (F0 m 2 ls []) := by
    intro K hE n
    induction n with
    | zero =>
      intro t x1 x2 H locs ls hT hl hf
      cases hf
    | succ n ih =>
      have hL18 : ∀ (K : CS → Int32 → Int32 → Option (Int32 × CS)), (∀ (t : CS) (x1 : Int32) (x2 : Int32) (H : Heap) (locs : List Loc) (ls : Array Slot), TH D A s.heap (wC d a ja t) H locs → lv_has ls 4 [(0, .ref (a 32)), (1, .int x1), (2, .int x2)] → K t x1 x2 = some w → W p l e (rm_ 264 8092) s m args below meth c H locs 0 0 (MQ below (GQi D w.1 (wC d a ja w.2) (wC d a ja t0) s.heap.size) args s 0 0 A) (F0 m 51 ls [])) → ∀ (n : Nat) (t : CS) (x1 : Int32) (x2 : Int32) (x3 : Int32) (H : Heap) (locs : List Loc) (ls : Array Slot), TH D A s.heap (wC d a ja t) H locs → lv_has ls 4 [(0, .ref (a 32)), (1, .int x1), (2, .int x2), (3, .int x3)] → fX0_areFewIn_L18 N j r K n t x1 x2 x3 = some w → W p l e (rm_ 264 8092) s m args below meth c H locs 0 0 (MQ below (GQi D w.1 (wC d a ja w.2) (wC d a ja t0) s.heap.size) args s 0 0 A) (F0 m 18 ls []) := by
        intro K hE n
        induction n with
        | zero =>
          intro t x1 x2 x3 H locs ls hT hl hf
          cases hf
        | succ n ih =>
          intro t x1 x2 x3 H locs ls hT hl hf
          replace hf : fX0_areFewIn_B18 N j r K (fX0_areFewIn_L18 N j r K n) t x1 x2 x3 = some w := hf
          unfold fX0_areFewIn_B18 at hf
          refine lv_iload_n hx hb dX0_areFewIn_18 rfl (lv_at hl 3 rfl) ?_
          refine lv_aload_n hx hb dX0_areFewIn_19 rfl (lv_at hl 0 rfl) ?_
          refine r_get C hV (hT.atp 0 rfl) (ci := 1) rfl in_X0 0 (by decide) q334 rfl dX0_areFewIn_20 ?_
          obtain ⟨w_23, h_23, hf⟩ := bind_e hf
          refine g_calli (vs := []) (rest := [.int x3]) C hX hT (A_new hA0) (Cut.none _) (hJ.step hT.2.2 (Anil (A_new hA0) hT.2.2.1)) (fun sz => mX1_roads l D d sd ja N j _ h_23 sz) (cwV 0 C.2.2.2.2 (lw_V q709 q584 q585 q121 q586) rfl rfl rfl hdX1_roads ⟨Nat.le_of_ble_eq_true rfl, Nat.le_of_ble_eq_true rfl⟩) (g_recv hV (hJ.1.at hT.2.2) (ci := 3) rfl) rfl hl.1 rfl (Nat.le_of_ble_eq_true rfl) dX0_areFewIn_23 ⟨Nat.zero_le _, Nat.zero_le _⟩ (fun H locs hT => ?_)
          refine lv_icmp_ge (tgt := 51) hx hb dX0_areFewIn_26 (by decide) (fun hc => ?_) (fun hc => ?_)
          · have hf := ite_t hc hf
            exact hE t x1 x2 _ _ _ hT (lv_sub hl [0, 1, 2] rfl) hf
          · have hf := ite_f hc hf
            refine lv_aload_n hx hb dX0_areFewIn_29 rfl (lv_at hl 0 rfl) ?_
            refine r_get C hV (hT.atp 0 rfl) (ci := 1) rfl in_X0 2 (by decide) q337 rfl dX0_areFewIn_30 ?_
            refine r_getN C hV hX.2.1 (hT.ats (i := 1) (by decide) 0 rfl) (ci := 2) rfl in_X2 0 (by decide) q228 rfl dX0_areFewIn_33 ?_
            refine lv_iload_n hx hb dX0_areFewIn_36 rfl (lv_at hl 3 rfl) ?_
            obtain ⟨hi, hf⟩ := ix_e hf
            refine r_ild C hV (hT.ats (i := 1) (by decide) 1 rfl) _ hi rfl dX0_areFewIn_37 ?_
            refine lv_bipush (v := 20) hx hb dX0_areFewIn_38 (by decide) ?_
            refine lv_icmp_le (tgt := 45) hx hb dX0_areFewIn_40 (by decide) (fun hc => ?_) (fun hc => ?_)
            · have hf := ite_t hc hf
              obtain ⟨x3_45, ex⟩ : ∃ y : Int32, y = (x3 + (1 : Int32)) := ⟨_, rfl⟩
              have hf := lett_e ex hf
              refine lv_iinc (v := x3_45) (lv' := [(3, .int x3_45), (0, .ref (a 32)), (1, .int x1), (2, .int x2)]) hx hb dX0_areFewIn_45 hl (k := 3) rfl (by rw [ex]; rfl) (by decide) rfl (fun ls hl => ?_)
              refine lv_goto (tgt := 18) hx hb dX0_areFewIn_48 (by decide) ?_
              exact ih t x1 x2 x3_45 _ _ _ hT (lv_sub hl [1, 2, 3, 0] rfl) hf
            · have hf := ite_f hc hf
              refine lv_iconst (v := 0) hx hb dX0_areFewIn_43 (by decide) ?_
              exact f_zret (wC d a ja) hA0 C hT hf (Or.inl rfl) hr hlocks dX0_areFewIn_44
      intro t x1 x2 H locs ls hT hl hf
      replace hf : fX0_areFewIn_B2 N j r K (fX0_areFewIn_L2 N j r K n) t x1 x2 = some w := hf
      unfold fX0_areFewIn_B2 at hf
      refine lv_iload_n hx hb dX0_areFewIn_2 rfl (lv_at hl 2 rfl) ?_
      refine lv_iload_n hx hb dX0_areFewIn_3 rfl (lv_at hl 1 rfl) ?_
      refine lv_icmp_ge (tgt := 57) hx hb dX0_areFewIn_4 (by decide) (fun hc => ?_) (fun hc => ?_)
      · have hf := ite_t hc hf
        exact hE t _ _ _ hT (lv_sub hl [] rfl) hf
      · have hf := ite_f hc hf
        refine lv_aload_n hx hb dX0_areFewIn_7 rfl (lv_at hl 0 rfl) ?_
        refine lv_aload_n hx hb dX0_areFewIn_8 rfl (lv_at hl 0 rfl) ?_
        refine r_get C hV (hT.atp 0 rfl) (ci := 1) rfl in_X0 2 (by decide) q337 rfl dX0_areFewIn_9 ?_
        obtain ⟨w_12, h_12, hf⟩ := bind_e hf
        refine g_calli (vs := [.ref (sa a 1 0)]) (rest := []) C hX hT (A_new hA0) (Cut.all (D_nd hT.2.1) ((wC_fst d a ja _).trans (wC_fst d a ja t).symm)) (Ro := (fun P => JAt d ja j P ∧ RAt d (a 3) r P)) ⟨hJ.step hT.2.2 (A_full hA0 hT.2.2.1), hR.2.step hT.2.2 (A_full hA0 hT.2.2.1)⟩ (fun sz => mX0_goesOn l D d sd a ja N j r 1 t  _ h_12 (by decide) sz) (cwV 1 C.2.2.2.2 (lw_V q932 q934 qs30 q120 q935) rfl rfl rfl hdX0_goesOn ⟨Nat.le_of_ble_eq_true rfl, Nat.le_of_ble_eq_true rfl⟩) (g_recv hV (hT.atp 0 rfl) (ci := 1) rfl) rfl hl.1 rfl (Nat.le_of_ble_eq_true rfl) dX0_areFewIn_12 ⟨Nat.zero_le _, Nat.zero_le _⟩ (fun H locs hT => ?_)
        refine lv_pop hx hb dX0_areFewIn_15 rfl ?_
        refine lv_iconst (v := 0) hx hb dX0_areFewIn_16 (by decide) ?_
        refine lv_istore_n (lv' := [(3, .int (0 : Int32)), (0, .ref (a 32)), (1, .int x1), (2, .int x2)]) hx hb dX0_areFewIn_17 rfl hl (by decide) rfl (fun ls hl => ?_)
        refine hL18 _ (fun t x1 x2 H locs ls hT hl hf => ?_) N w_12.2 x1 x2 (0 : Int32) _ _ _ hT (lv_sub hl [1, 2, 3, 0] rfl) hf
        obtain ⟨x2_51, ex⟩ : ∃ y : Int32, y = (x2 + (1 : Int32)) := ⟨_, rfl⟩
        have hf := lett_e ex hf
        refine lv_iinc (v := x2_51) (lv' := [(2, .int x2_51), (0, .ref (a 32)), (1, .int x1)]) hx hb dX0_areFewIn_51 hl (k := 2) rfl (by rw [ex]; rfl) (by decide) rfl (fun ls hl => ?_)
        refine lv_goto (tgt := 2) hx hb dX0_areFewIn_54 (by decide) ?_
        exact ih t x1 x2_51 _ _ _ hT (lv_sub hl [1, 2, 0] rfl) hf
  refine W.eq (by rw [hargs]) (t_in (vs := [.ref (a 32), .int x1]) (n := 4) (Nat.le_of_ble_eq_true rfl) (fun ls hl => ?_))
  have hl : lv_has ls 4 [(0, .ref (a 32)), (1, .int x1)] := hl
  unfold fX0_areFewIn at hf
  refine lv_iconst (v := 0) hx hb dX0_areFewIn_0 (by decide) ?_
  refine lv_istore_n (lv' := [(2, .int (0 : Int32)), (0, .ref (a 32)), (1, .int x1)]) hx hb dX0_areFewIn_1 rfl hl (by decide) rfl (fun ls hl => ?_)
  refine hL2 _ (fun t H locs ls hT hl hf => ?_) N t0 x1 (0 : Int32) _ _ _ hT (lv_sub hl [1, 2, 0] rfl) hf
  refine lv_iconst (v := 1) hx hb dX0_areFewIn_57 (by decide) ?_
  exact f_zret (wC d a ja) hA0 C hT hf (Or.inr rfl) hr hlocks dX0_areFewIn_58
def fX0_leastRoom_B26 (N : Nat) (j : JS) (r : RS) (K : CS → Int32 → Option (Int32 × CS)) (kb : CS → Int32 → Int32 → Int32 → Option (Int32 × CS)) (t : CS) (x1 : Int32) (x2 : Int32) (x3 : Int32) : Option (Int32 × CS) :=
  (if (9 : Int32) < x3 then (K t x2) else (if ¬ x2 = (-2 : Int32) then (K t x2) else (lett (csI t 13 x3) fun t_40 => ((fX2_copyFrom N (t_40.2.2.2 0) (t_40.2.2.2 1) ).bind fun w_51 => (lett (csS t_40 1 w_51) fun t_51 => ((fX0_areFewIn N j r  t_51 x1).bind fun w_56 => (if w_56.1 = 0 then (lett (x3 + (1 : Int32)) fun x3_69 => (kb w_56.2 x1 (-2 : Int32) x3_69)) else (lett (x3 + (1 : Int32)) fun x3_69 => (kb w_56.2 x1 x3 x3_69)))))))))
def fX0_leastRoom_L26 (N : Nat) (j : JS) (r : RS) (K : CS → Int32 → Option (Int32 × CS)) : Nat → CS → Int32 → Int32 → Int32 → Option (Int32 × CS)
  | 0 => fun _ _ _ _ => none
  | n + 1 => fun t x1 x2 x3 => fX0_leastRoom_B26 N j r K (fX0_leastRoom_L26 N j r K n) t x1 x2 x3
def fX0_leastRoom_J75 (N : Nat) (j : JS) (r : RS) (t : CS) (x2 : Int32) : Option (Int32 × CS) :=
  (lett (csI t 13 (-1 : Int32)) fun t_77 => (some (x2, t_77)))
def fX0_leastRoom (N : Nat) (j : JS) (r : RS) (t0 : CS) (x1 : Int32) : Option (Int32 × CS) :=
  ((fX0_isJunction N j r  t0 ).bind fun w_1 => (if w_1.1 = 0 then (some ((-1 : Int32), w_1.2)) else ((fX0_in N (x1).toInt64 (1 : Int64) (60 : Int64)).bind fun w_13 => (if ¬ w_13 = 0 then (fX0_leastRoom_L26 N j r (fun t x2 => (fX0_leastRoom_J75 N j r t x2)) N w_1.2 x1 (-2 : Int32) (1 : Int32)) else (some ((-1 : Int32), w_1.2))))))
theorem hdX0_leastRoom : yX0_leastRoom.cls = RX0 ∧ yX0_leastRoom.cls ≠ "java/lang/invoke/MethodHandle" ∧ yX0_leastRoom.cls ≠ "java/lang/invoke/VarHandle" ∧ (parseMethodDescriptor yX0_leastRoom.desc).map (fun d => d.parameters.length) = some 1 := by decide +kernel
set_option maxHeartbeats 4000000 in
theorem mX0_leastRoom (l : Launch) (D : va_G) (d : Nat → ClassId) (sd : Nat) (a : Nat → Nat) (ja : Nat → Nat) (N : Nat) (j : JS) (r : RS) (t0 : CS) (x1 : Int32) (w : Int32 × CS) (hf : fX0_leastRoom N j r t0 x1 = some w) (sz : Nat) : Met l yX0_leastRoom (ws_ yX0_leastRoom cX0_leastRoom 4 (some .int)) (rm_ 265 8115) (GPc D d sd [.ref (a 32), .int x1] (wC d a ja t0) (fun P => JAt d ja j P ∧ RAt d (a 3) r P) sz) (GQi D w.1 (wC d a ja w.2) (wC d a ja t0) sz) 0 0 (va_A (wC d a ja t0) sz) := by
  refine Met.ofW (cc := cX0_leastRoom) (maxL := 4) (ret := (some .int)) plX0 rfl ?_
  intro p e s m args below meth c s₁ B hml hv
  obtain ⟨C, hX, hR, hT, hr, hlocks, hargs, rfl⟩ := g_enter (own := RX0) B hml rfl hv
  have hx := C.1
  have hb := C.2.1
  have hV := hX.1
  obtain ⟨A, hA0⟩ : ∃ A, A = va_A (wC d a ja t0) s.heap.size := ⟨_, rfl⟩
  rw [← hA0] at hX hR hT
  show W p l e (rm_ 265 8115) s m args below meth c s.heap [] 0 0 (MQ below (GQi D w.1 (wC d a ja w.2) (wC d a ja t0) s.heap.size) args s 0 0 (va_A (wC d a ja t0) s.heap.size)) _
  rw [← hA0]
  have hJ := hR.1
  obtain ⟨rmc, rel, rcap, rf, hrl, hrel, hrc, hrg⟩ := hR.2.unpack
  have hL26 : ∀ (K : CS → Int32 → Option (Int32 × CS)), (∀ (t : CS) (x2 : Int32) (H : Heap) (locs : List Loc) (ls : Array Slot), TH D A s.heap (wC d a ja t) H locs → lv_has ls 4 [(0, .ref (a 32)), (2, .int x2)] → K t x2 = some w → W p l e (rm_ 265 8115) s m args below meth c H locs 0 0 (MQ below (GQi D w.1 (wC d a ja w.2) (wC d a ja t0) s.heap.size) args s 0 0 A) (F0 m 75 ls [])) → ∀ (n : Nat) (t : CS) (x1 : Int32) (x2 : Int32) (x3 : Int32) (H : Heap) (locs : List Loc) (ls : Array Slot), TH D A s.heap (wC d a ja t) H locs → lv_has ls 4 [(0, .ref (a 32)), (1, .int x1), (2, .int x2), (3, .int x3)] → fX0_leastRoom_L26 N j r K n t x1 x2 x3 = some w → W p l e (rm_ 265 8115) s m args below meth c H locs 0 0 (MQ below (GQi D w.1 (wC d a ja w.2) (wC d a ja t0) s.heap.size) args s 0 0 A) (F0 m 26 ls []) := by
    intro K hE n
    induction n with
    | zero =>
      intro t x1 x2 x3 H locs ls hT hl hf
      cases hf
    | succ n ih =>
      intro t x1 x2 x3 H locs ls hT hl hf
      replace hf : fX0_leastRoom_B26 N j r K (fX0_leastRoom_L26 N j r K n) t x1 x2 x3 = some w := hf
      unfold fX0_leastRoom_B26 at hf
      refine lv_iload_n hx hb dX0_leastRoom_26 rfl (lv_at hl 3 rfl) ?_
      refine lv_bipush (v := 9) hx hb dX0_leastRoom_27 (by decide) ?_
      refine lv_icmp_gt (tgt := 75) hx hb dX0_leastRoom_29 (by decide) (fun hc => ?_) (fun hc => ?_)
      · have hf := ite_t hc hf
        exact hE t x2 _ _ _ hT (lv_sub hl [0, 2] rfl) hf
      · have hf := ite_f hc hf
        refine lv_iload_n hx hb dX0_leastRoom_32 rfl (lv_at hl 2 rfl) ?_
        refine lv_bipush (v := -2) hx hb dX0_leastRoom_33 (by decide) ?_
        refine lv_icmp_ne (tgt := 75) hx hb dX0_leastRoom_35 (by decide) (fun hc => ?_) (fun hc => ?_)
        · have hf := ite_t hc hf
          exact hE t x2 _ _ _ hT (lv_sub hl [0, 2] rfl) hf
        · have hf := ite_f (fun q => q hc) hf
          refine lv_aload_n hx hb dX0_leastRoom_38 rfl (lv_at hl 0 rfl) ?_
          refine lv_iload_n hx hb dX0_leastRoom_39 rfl (lv_at hl 3 rfl) ?_
          obtain ⟨t_40, et⟩ : ∃ y, y = (csI t 13 x3) := ⟨_, rfl⟩
          have hf := lett_e et hf
          refine w_put C hV hT (ws1 := (wC d a ja t_40)) 0 rfl rfl in_X0 tyX0_ok nmX0 13 (by decide) q357 (by rw [et]; exact upd_set hT.2.1 rfl (cset_13 d a ja t _)) rfl rfl rfl rfl (Nat.le_of_ble_eq_true rfl) dX0_leastRoom_40 (fun H locs hT => ?_)
          refine lv_aload_n hx hb dX0_leastRoom_43 rfl (lv_at hl 0 rfl) ?_
          refine r_get C hV (hT.atp 0 rfl) (ci := 1) rfl in_X0 2 (by decide) q337 rfl dX0_leastRoom_44 ?_
          refine lv_aload_n hx hb dX0_leastRoom_47 rfl (lv_at hl 0 rfl) ?_
          refine r_get C hV (hT.atp 0 rfl) (ci := 1) rfl in_X0 1 (by decide) q336 rfl dX0_leastRoom_48 ?_
          obtain ⟨w_51, h_51, hf⟩ := bind_e hf
          refine g_callv (vs := [.ref (sa a 0 0)]) (rest := []) C hX hT (A_new hA0) (wC_cutS hT.2.1 (by decide) _) (wC_frz hT (by decide) (by decide) ((by decide)) (t_40.2.2.2 1)) (fun sz => mX2_copyFrom l D d sd (sa a 1) (sa a 0) N (t_40.2.2.2 0) (t_40.2.2.2 1)  _ h_51 sz) (cwV 1 C.2.2.2.2 (lw_V q915 q916 q917 q125 q918) rfl rfl rfl hdX2_copyFrom ⟨Nat.le_of_ble_eq_true rfl, Nat.le_of_ble_eq_true rfl⟩) (g_recv hV (hT.ats (i := 1) (by decide) 0 rfl) (ci := 2) rfl) rfl hl.1 rfl (Nat.le_of_ble_eq_true rfl) dX0_leastRoom_51 ⟨Nat.zero_le _, Nat.zero_le _⟩ (fun H locs hT => ?_)
          obtain ⟨t_51, et⟩ : ∃ y, y = (csS t_40 1 w_51) := ⟨_, rfl⟩
          rw [← et] at hT
          have hf := lett_e et hf
          refine lv_aload_n hx hb dX0_leastRoom_54 rfl (lv_at hl 0 rfl) ?_
          refine lv_iload_n hx hb dX0_leastRoom_55 rfl (lv_at hl 1 rfl) ?_
          obtain ⟨w_56, h_56, hf⟩ := bind_e hf
          refine g_calli (vs := [.int x1]) (rest := []) C hX hT (A_new hA0) (Cut.all (D_nd hT.2.1) ((wC_fst d a ja _).trans (wC_fst d a ja t_51).symm)) (Ro := (fun P => JAt d ja j P ∧ RAt d (a 3) r P)) ⟨hJ.step hT.2.2 (A_full hA0 hT.2.2.1), hR.2.step hT.2.2 (A_full hA0 hT.2.2.1)⟩ (fun sz => mX0_areFewIn l D d sd a ja N j r  t_51 x1 _ h_56 sz) (cwV 1 C.2.2.2.2 (lw_V q1113 q1115 qs37 q120 q1116) rfl rfl rfl hdX0_areFewIn ⟨Nat.le_of_ble_eq_true rfl, Nat.le_of_ble_eq_true rfl⟩) (g_recv hV (hT.atp 0 rfl) (ci := 1) rfl) rfl hl.1 rfl (Nat.le_of_ble_eq_true rfl) dX0_leastRoom_56 ⟨Nat.zero_le _, Nat.zero_le _⟩ (fun H locs hT => ?_)
          refine lv_if_eq (tgt := 66) hx hb dX0_leastRoom_59 (by decide) (fun hc => ?_) (fun hc => ?_)
          · have hf := ite_t hc hf
            refine lv_bipush (v := -2) hx hb dX0_leastRoom_66 (by decide) ?_
            refine lv_istore_n (lv' := [(2, .int (-2 : Int32)), (0, .ref (a 32)), (1, .int x1), (3, .int x3)]) hx hb dX0_leastRoom_68 rfl hl (by decide) rfl (fun ls hl => ?_)
            obtain ⟨x3_69, ex⟩ : ∃ y : Int32, y = (x3 + (1 : Int32)) := ⟨_, rfl⟩
            have hf := lett_e ex hf
            refine lv_iinc (v := x3_69) (lv' := [(3, .int x3_69), (2, .int (-2 : Int32)), (0, .ref (a 32)), (1, .int x1)]) hx hb dX0_leastRoom_69 hl (k := 3) rfl (by rw [ex]; rfl) (by decide) rfl (fun ls hl => ?_)
            refine lv_goto (tgt := 26) hx hb dX0_leastRoom_72 (by decide) ?_
            exact ih w_56.2 x1 (-2 : Int32) x3_69 _ _ _ hT (lv_sub hl [2, 3, 1, 0] rfl) hf
          · have hf := ite_f hc hf
            refine lv_iload_n hx hb dX0_leastRoom_62 rfl (lv_at hl 3 rfl) ?_
            refine lv_goto (tgt := 68) hx hb dX0_leastRoom_63 (by decide) ?_
            refine lv_istore_n (lv' := [(2, .int x3), (0, .ref (a 32)), (1, .int x1), (3, .int x3)]) hx hb dX0_leastRoom_68 rfl hl (by decide) rfl (fun ls hl => ?_)
            obtain ⟨x3_69, ex⟩ : ∃ y : Int32, y = (x3 + (1 : Int32)) := ⟨_, rfl⟩
            have hf := lett_e ex hf
            refine lv_iinc (v := x3_69) (lv' := [(3, .int x3_69), (2, .int x3), (0, .ref (a 32)), (1, .int x1)]) hx hb dX0_leastRoom_69 hl (k := 3) rfl (by rw [ex]; rfl) (by decide) rfl (fun ls hl => ?_)
            refine lv_goto (tgt := 26) hx hb dX0_leastRoom_72 (by decide) ?_
            exact ih w_56.2 x1 x3 x3_69 _ _ _ hT (lv_sub hl [2, 3, 1, 0] rfl) hf
  have hJ75 : ∀ (t : CS) (x2 : Int32) (H : Heap) (locs : List Loc) (ls : Array Slot), TH D A s.heap (wC d a ja t) H locs → lv_has ls 4 [(0, .ref (a 32)), (2, .int x2)] → fX0_leastRoom_J75 N j r t x2 = some w → W p l e (rm_ 265 8115) s m args below meth c H locs 0 0 (MQ below (GQi D w.1 (wC d a ja w.2) (wC d a ja t0) s.heap.size) args s 0 0 A) (F0 m 75 ls []) := by
    intro t x2 H locs ls hT hl hf
    unfold fX0_leastRoom_J75 at hf
    refine lv_aload_n hx hb dX0_leastRoom_75 rfl (lv_at hl 0 rfl) ?_
    refine lv_iconst (v := -1) hx hb dX0_leastRoom_76 (by decide) ?_
    obtain ⟨t_77, et⟩ : ∃ y, y = (csI t 13 (-1 : Int32)) := ⟨_, rfl⟩
    have hf := lett_e et hf
    refine w_put C hV hT (ws1 := (wC d a ja t_77)) 0 rfl rfl in_X0 tyX0_ok nmX0 13 (by decide) q357 (by rw [et]; exact upd_set hT.2.1 rfl (cset_13 d a ja t _)) rfl rfl rfl rfl (Nat.le_of_ble_eq_true rfl) dX0_leastRoom_77 (fun H locs hT => ?_)
    refine lv_iload_n hx hb dX0_leastRoom_80 rfl (lv_at hl 1 rfl) ?_
    exact f_iret (wC d a ja) hA0 C hT hf hr hlocks dX0_leastRoom_81
  refine W.eq (by rw [hargs]) (t_in (vs := [.ref (a 32), .int x1]) (n := 4) (Nat.le_of_ble_eq_true rfl) (fun ls hl => ?_))
  have hl : lv_has ls 4 [(0, .ref (a 32)), (1, .int x1)] := hl
  unfold fX0_leastRoom at hf
  refine lv_aload_n hx hb dX0_leastRoom_0 rfl (lv_at hl 0 rfl) ?_
  obtain ⟨w_1, h_1, hf⟩ := bind_e hf
  refine g_calli (vs := []) (rest := []) C hX hT (A_new hA0) (Cut.all (D_nd hT.2.1) ((wC_fst d a ja _).trans (wC_fst d a ja t0).symm)) (Ro := (fun P => JAt d ja j P ∧ RAt d (a 3) r P)) ⟨hJ.step hT.2.2 (A_full hA0 hT.2.2.1), hR.2.step hT.2.2 (A_full hA0 hT.2.2.1)⟩ (fun sz => mX0_isJunction l D d sd a ja N j r  t0  _ h_1 sz) (cwV 0 C.2.2.2.2 (lw_V q923 q925 qs28 q120 q926) rfl rfl rfl hdX0_isJunction ⟨Nat.le_of_ble_eq_true rfl, Nat.le_of_ble_eq_true rfl⟩) (g_recv hV (hT.atp 0 rfl) (ci := 1) rfl) rfl hl.1 rfl (Nat.le_of_ble_eq_true rfl) dX0_leastRoom_1 ⟨Nat.zero_le _, Nat.zero_le _⟩ (fun H locs hT => ?_)
  refine lv_if_eq (tgt := 19) hx hb dX0_leastRoom_4 (by decide) (fun hc => ?_) (fun hc => ?_)
  · have hf := ite_t hc hf
    refine lv_iconst (v := -1) hx hb dX0_leastRoom_19 (by decide) ?_
    exact f_iret (wC d a ja) hA0 C hT hf hr hlocks dX0_leastRoom_20
  · have hf := ite_f hc hf
    refine lv_iload_n hx hb dX0_leastRoom_7 rfl (lv_at hl 1 rfl) ?_
    refine lv_i2l hx hb dX0_leastRoom_8 rfl ?_
    refine lv_lconst (v := 1) hx hb dX0_leastRoom_9 (by decide) ?_
    refine g_ldc2 (v := 60) C q1112 dX0_leastRoom_10 ?_
    obtain ⟨w_13, h_13, hf⟩ := bind_e hf
    refine s_calli (vs := [.long (x1).toInt64, .long (1 : Int64), .long (60 : Int64)]) (rest := []) C (A_new hA0) hT (fun sz => mX0_in l N (x1).toInt64 (1 : Int64) (60 : Int64) _ h_13 sz) (va_cwS 3 C.2.2.2.2 (lw_S q885 q518 q120 q519) rfl rfl rfl hdX0_in ⟨Nat.le_of_ble_eq_true rfl, Nat.le_of_ble_eq_true rfl⟩) rfl hl.1 rfl (Nat.le_of_ble_eq_true rfl) dX0_leastRoom_13 ⟨Nat.zero_le _, Nat.zero_le _⟩ (fun H locs hT => ?_)
    refine lv_if_ne (tgt := 21) hx hb dX0_leastRoom_16 (by decide) (fun hc => ?_) (fun hc => ?_)
    · have hf := ite_t hc hf
      refine lv_bipush (v := -2) hx hb dX0_leastRoom_21 (by decide) ?_
      refine lv_istore_n (lv' := [(2, .int (-2 : Int32)), (0, .ref (a 32)), (1, .int x1)]) hx hb dX0_leastRoom_23 rfl hl (by decide) rfl (fun ls hl => ?_)
      refine lv_iconst (v := 1) hx hb dX0_leastRoom_24 (by decide) ?_
      refine lv_istore_n (lv' := [(3, .int (1 : Int32)), (2, .int (-2 : Int32)), (0, .ref (a 32)), (1, .int x1)]) hx hb dX0_leastRoom_25 rfl hl (by decide) rfl (fun ls hl => ?_)
      refine hL26 _ (fun t x2 H locs ls hT hl hf => ?_) N w_1.2 x1 (-2 : Int32) (1 : Int32) _ _ _ hT (lv_sub hl [2, 3, 1, 0] rfl) hf
      exact hJ75 t x2 _ _ _ hT hl hf
    · have hf := ite_f (fun q => q hc) hf
      refine lv_iconst (v := -1) hx hb dX0_leastRoom_19 (by decide) ?_
      exact f_iret (wC d a ja) hA0 C hT hf hr hlocks dX0_leastRoom_20
def fX0_shut_J111 (N : Nat) (j : JS) (r : RS) (K : CS → Int32 → Int32 → Int32 → Option (Int32 × CS)) (kb : CS → Int32 → Int32 → Int32 → Int32 → Int32 → Option (Int32 × CS)) (t : CS) (x1 : Int32) (x2 : Int32) (x3 : Int32) (x4 : Int32) (x5 : Int32) (s0 : Int32) (s1 : Int32) : Option (Int32 × CS) :=
  (lett (s1 - s0) fun x6_112 => (if x4 = (-1 : Int32) then (lett (x5 + (1 : Int32)) fun x5_137 => (kb t x1 x2 x5 x6_112 x5_137)) else (if x6_112 < x4 then (lett (x5 + (1 : Int32)) fun x5_137 => (kb t x1 x2 x5 x6_112 x5_137)) else (lett (x5 + (1 : Int32)) fun x5_137 => (kb t x1 x2 x3 x4 x5_137)))))
def fX0_shut_J86 (N : Nat) (j : JS) (r : RS) (K : CS → Int32 → Int32 → Int32 → Option (Int32 × CS)) (kb : CS → Int32 → Int32 → Int32 → Int32 → Int32 → Option (Int32 × CS)) (t : CS) (x1 : Int32) (x2 : Int32) (x3 : Int32) (x4 : Int32) (x5 : Int32) : Option (Int32 × CS) :=
  ((fX0_waitedIn N j r  t x1).bind fun w_88 => (if ¬ x5 = (-1 : Int32) then (ix x5 6 (fX0_shut_J111 N j r K kb w_88.2 x1 x2 x3 x4 x5 ((w_88.2.2.2.2 1).1 4 (x5).toNatClampNeg) w_88.1)) else (fX0_shut_J111 N j r K kb w_88.2 x1 x2 x3 x4 x5 (0 : Int32) w_88.1)))
def fX0_shut_B40 (N : Nat) (j : JS) (r : RS) (K : CS → Int32 → Int32 → Int32 → Option (Int32 × CS)) (kb : CS → Int32 → Int32 → Int32 → Int32 → Int32 → Option (Int32 × CS)) (t : CS) (x1 : Int32) (x2 : Int32) (x3 : Int32) (x4 : Int32) (x5 : Int32) : Option (Int32 × CS) :=
  ((fX1_roads N j).bind fun w_46 => (if w_46 ≤ x5 then (K t x2 x3 x4) else (lett (csI t 14 x5) fun t_55 => ((fX2_copyFrom N (t_55.2.2.2 0) (t_55.2.2.2 1) ).bind fun w_66 => (lett (csS t_55 1 w_66) fun t_66 => (if x5 = (-1 : Int32) then (fX0_shut_J86 N j r K kb t_66 x1 x2 x3 x4 x5) else (ix x5 6 (lett (csS t_66 1 (ssA (t_66.2.2.2 1) 0 (x5).toNatClampNeg (0 : Int32))) fun t_85 => (fX0_shut_J86 N j r K kb t_85 x1 x2 x3 x4 x5)))))))))
def fX0_shut_L40 (N : Nat) (j : JS) (r : RS) (K : CS → Int32 → Int32 → Int32 → Option (Int32 × CS)) : Nat → CS → Int32 → Int32 → Int32 → Int32 → Int32 → Option (Int32 × CS)
  | 0 => fun _ _ _ _ _ _ => none
  | n + 1 => fun t x1 x2 x3 x4 x5 => fX0_shut_B40 N j r K (fX0_shut_L40 N j r K n) t x1 x2 x3 x4 x5
def fX0_shut (N : Nat) (j : JS) (r : RS) (t0 : CS) (x1 : Int32) (x2 : Int32) : Option (Int32 × CS) :=
  ((fX0_isJunction N j r  t0 ).bind fun w_1 => (if w_1.1 = 0 then (some ((-2 : Int32), w_1.2)) else ((fX0_in N (x1).toInt64 (1 : Int64) (60 : Int64)).bind fun w_13 => (if w_13 = 0 then (some ((-2 : Int32), w_1.2)) else ((fX0_in N (x2).toInt64 (0 : Int64) (1 : Int64)).bind fun w_23 => (if ¬ w_23 = 0 then (fX0_shut_L40 N j r (fun t x2 x3 x4 => (lett (csI t 14 (-1 : Int32)) fun t_145 => (if ¬ x2 = 0 then (some (x4, t_145)) else (some (x3, t_145))))) N w_1.2 x1 x2 (-1 : Int32) (-1 : Int32) (-1 : Int32)) else (some ((-2 : Int32), w_1.2))))))))
theorem hdX0_shut : yX0_shut.cls = RX0 ∧ yX0_shut.cls ≠ "java/lang/invoke/MethodHandle" ∧ yX0_shut.cls ≠ "java/lang/invoke/VarHandle" ∧ (parseMethodDescriptor yX0_shut.desc).map (fun d => d.parameters.length) = some 2 := by decide +kernel
set_option maxHeartbeats 4000000 in
theorem mX0_shut (l : Launch) (D : va_G) (d : Nat → ClassId) (sd : Nat) (a : Nat → Nat) (ja : Nat → Nat) (N : Nat) (j : JS) (r : RS) (t0 : CS) (x1 : Int32) (x2 : Int32) (w : Int32 × CS) (hf : fX0_shut N j r t0 x1 x2 = some w) (sz : Nat) : Met l yX0_shut (ws_ yX0_shut cX0_shut 7 (some .int)) (rm_ 266 8135) (GPc D d sd [.ref (a 32), .int x1, .int x2] (wC d a ja t0) (fun P => JAt d ja j P ∧ RAt d (a 3) r P) sz) (GQi D w.1 (wC d a ja w.2) (wC d a ja t0) sz) 0 0 (va_A (wC d a ja t0) sz) := by
  refine Met.ofW (cc := cX0_shut) (maxL := 7) (ret := (some .int)) plX0 rfl ?_
  intro p e s m args below meth c s₁ B hml hv
  obtain ⟨C, hX, hR, hT, hr, hlocks, hargs, rfl⟩ := g_enter (own := RX0) B hml rfl hv
  have hx := C.1
  have hb := C.2.1
  have hV := hX.1
  obtain ⟨A, hA0⟩ : ∃ A, A = va_A (wC d a ja t0) s.heap.size := ⟨_, rfl⟩
  rw [← hA0] at hX hR hT
  show W p l e (rm_ 266 8135) s m args below meth c s.heap [] 0 0 (MQ below (GQi D w.1 (wC d a ja w.2) (wC d a ja t0) s.heap.size) args s 0 0 (va_A (wC d a ja t0) s.heap.size)) _
  rw [← hA0]
  have hJ := hR.1
  obtain ⟨rmc, rel, rcap, rf, hrl, hrel, hrc, hrg⟩ := hR.2.unpack
  have hL40 : ∀ (K : CS → Int32 → Int32 → Int32 → Option (Int32 × CS)), (∀ (t : CS) (x2 : Int32) (x3 : Int32) (x4 : Int32) (H : Heap) (locs : List Loc) (ls : Array Slot), TH D A s.heap (wC d a ja t) H locs → lv_has ls 7 [(0, .ref (a 32)), (2, .int x2), (3, .int x3), (4, .int x4)] → K t x2 x3 x4 = some w → W p l e (rm_ 266 8135) s m args below meth c H locs 0 0 (MQ below (GQi D w.1 (wC d a ja w.2) (wC d a ja t0) s.heap.size) args s 0 0 A) (F0 m 143 ls [])) → ∀ (n : Nat) (t : CS) (x1 : Int32) (x2 : Int32) (x3 : Int32) (x4 : Int32) (x5 : Int32) (H : Heap) (locs : List Loc) (ls : Array Slot), TH D A s.heap (wC d a ja t) H locs → lv_has ls 7 [(0, .ref (a 32)), (1, .int x1), (2, .int x2), (3, .int x3), (4, .int x4), (5, .int x5)] → fX0_shut_L40 N j r K n t x1 x2 x3 x4 x5 = some w → W p l e (rm_ 266 8135) s m args below meth c H locs 0 0 (MQ below (GQi D w.1 (wC d a ja w.2) (wC d a ja t0) s.heap.size) args s 0 0 A) (F0 m 40 ls []) := by
    intro K hE n
    induction n with
    | zero =>
      intro t x1 x2 x3 x4 x5 H locs ls hT hl hf
      cases hf
    | succ n ih =>
      have hJ111 : ∀ (t : CS) (x1 : Int32) (x2 : Int32) (x3 : Int32) (x4 : Int32) (x5 : Int32) (s0 : Int32) (s1 : Int32) (H : Heap) (locs : List Loc) (ls : Array Slot), TH D A s.heap (wC d a ja t) H locs → lv_has ls 7 [(0, .ref (a 32)), (1, .int x1), (2, .int x2), (3, .int x3), (4, .int x4), (5, .int x5)] → fX0_shut_J111 N j r K (fX0_shut_L40 N j r K n) t x1 x2 x3 x4 x5 s0 s1 = some w → W p l e (rm_ 266 8135) s m args below meth c H locs 0 0 (MQ below (GQi D w.1 (wC d a ja w.2) (wC d a ja t0) s.heap.size) args s 0 0 A) (F0 m 111 ls [.int s0, .int s1]) := by
        intro t x1 x2 x3 x4 x5 s0 s1 H locs ls hT hl hf
        unfold fX0_shut_J111 at hf
        refine lv_isub hx hb dX0_shut_111 ?_
        refine lv_topi (fun x6_112 ex => ?_)
        have hf := lett_e ex hf
        refine lv_istore (lv' := [(6, .int x6_112), (0, .ref (a 32)), (1, .int x1), (2, .int x2), (3, .int x3), (4, .int x4), (5, .int x5)]) hx hb dX0_shut_112 hl (by decide) rfl (fun ls hl => ?_)
        refine lv_iload hx hb dX0_shut_114 (lv_at hl 5 rfl) ?_
        refine lv_iconst (v := -1) hx hb dX0_shut_116 (by decide) ?_
        refine lv_icmp_eq (tgt := 130) hx hb dX0_shut_117 (by decide) (fun hc => ?_) (fun hc => ?_)
        · have hf := ite_t hc hf
          refine lv_iload hx hb dX0_shut_130 (lv_at hl 6 rfl) ?_
          refine lv_istore_n (lv' := [(3, .int x5), (6, .int x6_112), (0, .ref (a 32)), (1, .int x1), (2, .int x2), (4, .int x4), (5, .int x5)]) hx hb dX0_shut_132 rfl hl (by decide) rfl (fun ls hl => ?_)
          refine lv_iload hx hb dX0_shut_133 (lv_at hl 1 rfl) ?_
          refine lv_istore (lv' := [(4, .int x6_112), (3, .int x5), (6, .int x6_112), (0, .ref (a 32)), (1, .int x1), (2, .int x2), (5, .int x5)]) hx hb dX0_shut_135 hl (by decide) rfl (fun ls hl => ?_)
          obtain ⟨x5_137, ex⟩ : ∃ y : Int32, y = (x5 + (1 : Int32)) := ⟨_, rfl⟩
          have hf := lett_e ex hf
          refine lv_iinc (v := x5_137) (lv' := [(5, .int x5_137), (4, .int x6_112), (3, .int x5), (6, .int x6_112), (0, .ref (a 32)), (1, .int x1), (2, .int x2)]) hx hb dX0_shut_137 hl (k := 6) rfl (by rw [ex]; rfl) (by decide) rfl (fun ls hl => ?_)
          refine lv_goto (tgt := 40) hx hb dX0_shut_140 (by decide) ?_
          exact ih t x1 x2 x5 x6_112 x5_137 _ _ _ hT (lv_sub hl [4, 5, 6, 2, 1, 0] rfl) hf
        · have hf := ite_f hc hf
          refine lv_iload hx hb dX0_shut_120 (lv_at hl 0 rfl) ?_
          refine lv_iload hx hb dX0_shut_122 (lv_at hl 5 rfl) ?_
          refine lv_icmp_lt (tgt := 130) hx hb dX0_shut_124 (by decide) (fun hc => ?_) (fun hc => ?_)
          · have hf := ite_t hc hf
            refine lv_iload hx hb dX0_shut_130 (lv_at hl 6 rfl) ?_
            refine lv_istore_n (lv' := [(3, .int x5), (6, .int x6_112), (0, .ref (a 32)), (1, .int x1), (2, .int x2), (4, .int x4), (5, .int x5)]) hx hb dX0_shut_132 rfl hl (by decide) rfl (fun ls hl => ?_)
            refine lv_iload hx hb dX0_shut_133 (lv_at hl 1 rfl) ?_
            refine lv_istore (lv' := [(4, .int x6_112), (3, .int x5), (6, .int x6_112), (0, .ref (a 32)), (1, .int x1), (2, .int x2), (5, .int x5)]) hx hb dX0_shut_135 hl (by decide) rfl (fun ls hl => ?_)
            obtain ⟨x5_137, ex⟩ : ∃ y : Int32, y = (x5 + (1 : Int32)) := ⟨_, rfl⟩
            have hf := lett_e ex hf
            refine lv_iinc (v := x5_137) (lv' := [(5, .int x5_137), (4, .int x6_112), (3, .int x5), (6, .int x6_112), (0, .ref (a 32)), (1, .int x1), (2, .int x2)]) hx hb dX0_shut_137 hl (k := 6) rfl (by rw [ex]; rfl) (by decide) rfl (fun ls hl => ?_)
            refine lv_goto (tgt := 40) hx hb dX0_shut_140 (by decide) ?_
            exact ih t x1 x2 x5 x6_112 x5_137 _ _ _ hT (lv_sub hl [4, 5, 6, 2, 1, 0] rfl) hf
          · have hf := ite_f hc hf
            refine lv_goto (tgt := 137) hx hb dX0_shut_127 (by decide) ?_
            obtain ⟨x5_137, ex⟩ : ∃ y : Int32, y = (x5 + (1 : Int32)) := ⟨_, rfl⟩
            have hf := lett_e ex hf
            refine lv_iinc (v := x5_137) (lv' := [(5, .int x5_137), (6, .int x6_112), (0, .ref (a 32)), (1, .int x1), (2, .int x2), (3, .int x3), (4, .int x4)]) hx hb dX0_shut_137 hl (k := 6) rfl (by rw [ex]; rfl) (by decide) rfl (fun ls hl => ?_)
            refine lv_goto (tgt := 40) hx hb dX0_shut_140 (by decide) ?_
            exact ih t x1 x2 x3 x4 x5_137 _ _ _ hT (lv_sub hl [2, 3, 4, 5, 6, 0] rfl) hf
      have hJ86 : ∀ (t : CS) (x1 : Int32) (x2 : Int32) (x3 : Int32) (x4 : Int32) (x5 : Int32) (H : Heap) (locs : List Loc) (ls : Array Slot), TH D A s.heap (wC d a ja t) H locs → lv_has ls 7 [(0, .ref (a 32)), (1, .int x1), (2, .int x2), (3, .int x3), (4, .int x4), (5, .int x5)] → fX0_shut_J86 N j r K (fX0_shut_L40 N j r K n) t x1 x2 x3 x4 x5 = some w → W p l e (rm_ 266 8135) s m args below meth c H locs 0 0 (MQ below (GQi D w.1 (wC d a ja w.2) (wC d a ja t0) s.heap.size) args s 0 0 A) (F0 m 86 ls []) := by
        intro t x1 x2 x3 x4 x5 H locs ls hT hl hf
        unfold fX0_shut_J86 at hf
        refine lv_aload_n hx hb dX0_shut_86 rfl (lv_at hl 0 rfl) ?_
        refine lv_iload_n hx hb dX0_shut_87 rfl (lv_at hl 1 rfl) ?_
        obtain ⟨w_88, h_88, hf⟩ := bind_e hf
        refine g_calli (vs := [.int x1]) (rest := []) C hX hT (A_new hA0) (Cut.all (D_nd hT.2.1) ((wC_fst d a ja _).trans (wC_fst d a ja t).symm)) (Ro := (fun P => JAt d ja j P ∧ RAt d (a 3) r P)) ⟨hJ.step hT.2.2 (A_full hA0 hT.2.2.1), hR.2.step hT.2.2 (A_full hA0 hT.2.2.1)⟩ (fun sz => mX0_waitedIn l D d sd a ja N j r  t x1 _ h_88 sz) (cwV 1 C.2.2.2.2 (lw_V q1091 q1093 qs35 q120 q1094) rfl rfl rfl hdX0_waitedIn ⟨Nat.le_of_ble_eq_true rfl, Nat.le_of_ble_eq_true rfl⟩) (g_recv hV (hT.atp 0 rfl) (ci := 1) rfl) rfl hl.1 rfl (Nat.le_of_ble_eq_true rfl) dX0_shut_88 ⟨Nat.zero_le _, Nat.zero_le _⟩ (fun H locs hT => ?_)
        refine lv_iload hx hb dX0_shut_91 (lv_at hl 5 rfl) ?_
        refine lv_iconst (v := -1) hx hb dX0_shut_93 (by decide) ?_
        refine lv_icmp_ne (tgt := 101) hx hb dX0_shut_94 (by decide) (fun hc => ?_) (fun hc => ?_)
        · have hf := ite_t hc hf
          refine lv_aload_n hx hb dX0_shut_101 rfl (lv_at hl 0 rfl) ?_
          refine r_get C hV (hT.atp 0 rfl) (ci := 1) rfl in_X0 2 (by decide) q337 rfl dX0_shut_102 ?_
          refine r_getN C hV hX.2.1 (hT.ats (i := 1) (by decide) 0 rfl) (ci := 2) rfl in_X2 4 (by decide) q236 rfl dX0_shut_105 ?_
          refine lv_iload hx hb dX0_shut_108 (lv_at hl 5 rfl) ?_
          obtain ⟨hi, hf⟩ := ix_e hf
          refine r_ild C hV (hT.ats (i := 1) (by decide) 5 rfl) _ hi rfl dX0_shut_110 ?_
          exact hJ111 w_88.2 x1 x2 x3 x4 x5 ((w_88.2.2.2.2 1).1 4 (x5).toNatClampNeg) w_88.1 _ _ _ hT hl hf
        · have hf := ite_f (fun q => q hc) hf
          refine lv_iconst (v := 0) hx hb dX0_shut_97 (by decide) ?_
          refine lv_goto (tgt := 111) hx hb dX0_shut_98 (by decide) ?_
          exact hJ111 w_88.2 x1 x2 x3 x4 x5 (0 : Int32) w_88.1 _ _ _ hT hl hf
      intro t x1 x2 x3 x4 x5 H locs ls hT hl hf
      replace hf : fX0_shut_B40 N j r K (fX0_shut_L40 N j r K n) t x1 x2 x3 x4 x5 = some w := hf
      unfold fX0_shut_B40 at hf
      refine lv_iload hx hb dX0_shut_40 (lv_at hl 5 rfl) ?_
      refine lv_aload_n hx hb dX0_shut_42 rfl (lv_at hl 0 rfl) ?_
      refine r_get C hV (hT.atp 0 rfl) (ci := 1) rfl in_X0 0 (by decide) q334 rfl dX0_shut_43 ?_
      obtain ⟨w_46, h_46, hf⟩ := bind_e hf
      refine g_calli (vs := []) (rest := [.int x5]) C hX hT (A_new hA0) (Cut.none _) (hJ.step hT.2.2 (Anil (A_new hA0) hT.2.2.1)) (fun sz => mX1_roads l D d sd ja N j _ h_46 sz) (cwV 0 C.2.2.2.2 (lw_V q709 q584 q585 q121 q586) rfl rfl rfl hdX1_roads ⟨Nat.le_of_ble_eq_true rfl, Nat.le_of_ble_eq_true rfl⟩) (g_recv hV (hJ.1.at hT.2.2) (ci := 3) rfl) rfl hl.1 rfl (Nat.le_of_ble_eq_true rfl) dX0_shut_46 ⟨Nat.zero_le _, Nat.zero_le _⟩ (fun H locs hT => ?_)
      refine lv_icmp_ge (tgt := 143) hx hb dX0_shut_49 (by decide) (fun hc => ?_) (fun hc => ?_)
      · have hf := ite_t hc hf
        exact hE t x2 x3 x4 _ _ _ hT (lv_sub hl [0, 2, 3, 4] rfl) hf
      · have hf := ite_f hc hf
        refine lv_aload_n hx hb dX0_shut_52 rfl (lv_at hl 0 rfl) ?_
        refine lv_iload hx hb dX0_shut_53 (lv_at hl 5 rfl) ?_
        obtain ⟨t_55, et⟩ : ∃ y, y = (csI t 14 x5) := ⟨_, rfl⟩
        have hf := lett_e et hf
        refine w_put C hV hT (ws1 := (wC d a ja t_55)) 0 rfl rfl in_X0 tyX0_ok nmX0 14 (by decide) q358 (by rw [et]; exact upd_set hT.2.1 rfl (cset_14 d a ja t _)) rfl rfl rfl rfl (Nat.le_of_ble_eq_true rfl) dX0_shut_55 (fun H locs hT => ?_)
        refine lv_aload_n hx hb dX0_shut_58 rfl (lv_at hl 0 rfl) ?_
        refine r_get C hV (hT.atp 0 rfl) (ci := 1) rfl in_X0 2 (by decide) q337 rfl dX0_shut_59 ?_
        refine lv_aload_n hx hb dX0_shut_62 rfl (lv_at hl 0 rfl) ?_
        refine r_get C hV (hT.atp 0 rfl) (ci := 1) rfl in_X0 1 (by decide) q336 rfl dX0_shut_63 ?_
        obtain ⟨w_66, h_66, hf⟩ := bind_e hf
        refine g_callv (vs := [.ref (sa a 0 0)]) (rest := []) C hX hT (A_new hA0) (wC_cutS hT.2.1 (by decide) _) (wC_frz hT (by decide) (by decide) ((by decide)) (t_55.2.2.2 1)) (fun sz => mX2_copyFrom l D d sd (sa a 1) (sa a 0) N (t_55.2.2.2 0) (t_55.2.2.2 1)  _ h_66 sz) (cwV 1 C.2.2.2.2 (lw_V q915 q916 q917 q125 q918) rfl rfl rfl hdX2_copyFrom ⟨Nat.le_of_ble_eq_true rfl, Nat.le_of_ble_eq_true rfl⟩) (g_recv hV (hT.ats (i := 1) (by decide) 0 rfl) (ci := 2) rfl) rfl hl.1 rfl (Nat.le_of_ble_eq_true rfl) dX0_shut_66 ⟨Nat.zero_le _, Nat.zero_le _⟩ (fun H locs hT => ?_)
        obtain ⟨t_66, et⟩ : ∃ y, y = (csS t_55 1 w_66) := ⟨_, rfl⟩
        rw [← et] at hT
        have hf := lett_e et hf
        refine lv_iload hx hb dX0_shut_69 (lv_at hl 5 rfl) ?_
        refine lv_iconst (v := -1) hx hb dX0_shut_71 (by decide) ?_
        refine lv_icmp_eq (tgt := 86) hx hb dX0_shut_72 (by decide) (fun hc => ?_) (fun hc => ?_)
        · have hf := ite_t hc hf
          exact hJ86 t_66 x1 x2 x3 x4 x5 _ _ _ hT hl hf
        · have hf := ite_f hc hf
          refine lv_aload_n hx hb dX0_shut_75 rfl (lv_at hl 0 rfl) ?_
          refine r_get C hV (hT.atp 0 rfl) (ci := 1) rfl in_X0 2 (by decide) q337 rfl dX0_shut_76 ?_
          refine r_getN C hV hX.2.1 (hT.ats (i := 1) (by decide) 0 rfl) (ci := 2) rfl in_X2 0 (by decide) q228 rfl dX0_shut_79 ?_
          refine lv_iload hx hb dX0_shut_82 (lv_at hl 5 rfl) ?_
          refine lv_iconst (v := 0) hx hb dX0_shut_84 (by decide) ?_
          obtain ⟨hi, hf⟩ := ix_e hf
          obtain ⟨p0, hp0⟩ := wC_pos (d := d) (a := a) (ja := ja) (c := t_66) (i := 1) (by decide) 1 rfl
          obtain ⟨t_85, et⟩ : ∃ y, y = (csS t_66 1 (ssA (t_66.2.2.2 1) 0 (x5).toNatClampNeg (0 : Int32))) := ⟨_, rfl⟩
          have hf := lett_e et hf
          refine w_ist (ws1 := (wC d a ja t_85)) C hV hT p0 _ hp0 hi rfl (by rw [et]; exact wC_updS hT.2.1 (by decide) _ rfl (sast_0 d (sa a 1) (t_66.2.2.2 1) _ _)) dX0_shut_85 (fun H locs hT => ?_)
          exact hJ86 t_85 x1 x2 x3 x4 x5 _ _ _ hT hl hf
  refine W.eq (by rw [hargs]) (t_in (vs := [.ref (a 32), .int x1, .int x2]) (n := 7) (Nat.le_of_ble_eq_true rfl) (fun ls hl => ?_))
  have hl : lv_has ls 7 [(0, .ref (a 32)), (1, .int x1), (2, .int x2)] := hl
  unfold fX0_shut at hf
  refine lv_aload_n hx hb dX0_shut_0 rfl (lv_at hl 0 rfl) ?_
  obtain ⟨w_1, h_1, hf⟩ := bind_e hf
  refine g_calli (vs := []) (rest := []) C hX hT (A_new hA0) (Cut.all (D_nd hT.2.1) ((wC_fst d a ja _).trans (wC_fst d a ja t0).symm)) (Ro := (fun P => JAt d ja j P ∧ RAt d (a 3) r P)) ⟨hJ.step hT.2.2 (A_full hA0 hT.2.2.1), hR.2.step hT.2.2 (A_full hA0 hT.2.2.1)⟩ (fun sz => mX0_isJunction l D d sd a ja N j r  t0  _ h_1 sz) (cwV 0 C.2.2.2.2 (lw_V q923 q925 qs28 q120 q926) rfl rfl rfl hdX0_isJunction ⟨Nat.le_of_ble_eq_true rfl, Nat.le_of_ble_eq_true rfl⟩) (g_recv hV (hT.atp 0 rfl) (ci := 1) rfl) rfl hl.1 rfl (Nat.le_of_ble_eq_true rfl) dX0_shut_1 ⟨Nat.zero_le _, Nat.zero_le _⟩ (fun H locs hT => ?_)
  refine lv_if_eq (tgt := 29) hx hb dX0_shut_4 (by decide) (fun hc => ?_) (fun hc => ?_)
  · have hf := ite_t hc hf
    refine lv_bipush (v := -2) hx hb dX0_shut_29 (by decide) ?_
    exact f_iret (wC d a ja) hA0 C hT hf hr hlocks dX0_shut_31
  · have hf := ite_f hc hf
    refine lv_iload_n hx hb dX0_shut_7 rfl (lv_at hl 1 rfl) ?_
    refine lv_i2l hx hb dX0_shut_8 rfl ?_
    refine lv_lconst (v := 1) hx hb dX0_shut_9 (by decide) ?_
    refine g_ldc2 (v := 60) C q1112 dX0_shut_10 ?_
    obtain ⟨w_13, h_13, hf⟩ := bind_e hf
    refine s_calli (vs := [.long (x1).toInt64, .long (1 : Int64), .long (60 : Int64)]) (rest := []) C (A_new hA0) hT (fun sz => mX0_in l N (x1).toInt64 (1 : Int64) (60 : Int64) _ h_13 sz) (va_cwS 3 C.2.2.2.2 (lw_S q885 q518 q120 q519) rfl rfl rfl hdX0_in ⟨Nat.le_of_ble_eq_true rfl, Nat.le_of_ble_eq_true rfl⟩) rfl hl.1 rfl (Nat.le_of_ble_eq_true rfl) dX0_shut_13 ⟨Nat.zero_le _, Nat.zero_le _⟩ (fun H locs hT => ?_)
    refine lv_if_eq (tgt := 29) hx hb dX0_shut_16 (by decide) (fun hc => ?_) (fun hc => ?_)
    · have hf := ite_t hc hf
      refine lv_bipush (v := -2) hx hb dX0_shut_29 (by decide) ?_
      exact f_iret (wC d a ja) hA0 C hT hf hr hlocks dX0_shut_31
    · have hf := ite_f hc hf
      refine lv_iload_n hx hb dX0_shut_19 rfl (lv_at hl 2 rfl) ?_
      refine lv_i2l hx hb dX0_shut_20 rfl ?_
      refine lv_lconst (v := 0) hx hb dX0_shut_21 (by decide) ?_
      refine lv_lconst (v := 1) hx hb dX0_shut_22 (by decide) ?_
      obtain ⟨w_23, h_23, hf⟩ := bind_e hf
      refine s_calli (vs := [.long (x2).toInt64, .long (0 : Int64), .long (1 : Int64)]) (rest := []) C (A_new hA0) hT (fun sz => mX0_in l N (x2).toInt64 (0 : Int64) (1 : Int64) _ h_23 sz) (va_cwS 3 C.2.2.2.2 (lw_S q885 q518 q120 q519) rfl rfl rfl hdX0_in ⟨Nat.le_of_ble_eq_true rfl, Nat.le_of_ble_eq_true rfl⟩) rfl hl.1 rfl (Nat.le_of_ble_eq_true rfl) dX0_shut_23 ⟨Nat.zero_le _, Nat.zero_le _⟩ (fun H locs hT => ?_)
      refine lv_if_ne (tgt := 32) hx hb dX0_shut_26 (by decide) (fun hc => ?_) (fun hc => ?_)
      · have hf := ite_t hc hf
        refine lv_iconst (v := -1) hx hb dX0_shut_32 (by decide) ?_
        refine lv_istore_n (lv' := [(3, .int (-1 : Int32)), (0, .ref (a 32)), (1, .int x1), (2, .int x2)]) hx hb dX0_shut_33 rfl hl (by decide) rfl (fun ls hl => ?_)
        refine lv_iconst (v := -1) hx hb dX0_shut_34 (by decide) ?_
        refine lv_istore (lv' := [(4, .int (-1 : Int32)), (3, .int (-1 : Int32)), (0, .ref (a 32)), (1, .int x1), (2, .int x2)]) hx hb dX0_shut_35 hl (by decide) rfl (fun ls hl => ?_)
        refine lv_iconst (v := -1) hx hb dX0_shut_37 (by decide) ?_
        refine lv_istore (lv' := [(5, .int (-1 : Int32)), (4, .int (-1 : Int32)), (3, .int (-1 : Int32)), (0, .ref (a 32)), (1, .int x1), (2, .int x2)]) hx hb dX0_shut_38 hl (by decide) rfl (fun ls hl => ?_)
        refine hL40 _ (fun t x2 x3 x4 H locs ls hT hl hf => ?_) N w_1.2 x1 x2 (-1 : Int32) (-1 : Int32) (-1 : Int32) _ _ _ hT (lv_sub hl [3, 4, 5, 2, 1, 0] rfl) hf
        refine lv_aload_n hx hb dX0_shut_143 rfl (lv_at hl 0 rfl) ?_
        refine lv_iconst (v := -1) hx hb dX0_shut_144 (by decide) ?_
        obtain ⟨t_145, et⟩ : ∃ y, y = (csI t 14 (-1 : Int32)) := ⟨_, rfl⟩
        have hf := lett_e et hf
        refine w_put C hV hT (ws1 := (wC d a ja t_145)) 0 rfl rfl in_X0 tyX0_ok nmX0 14 (by decide) q358 (by rw [et]; exact upd_set hT.2.1 rfl (cset_14 d a ja t _)) rfl rfl rfl rfl (Nat.le_of_ble_eq_true rfl) dX0_shut_145 (fun H locs hT => ?_)
        refine lv_iload_n hx hb dX0_shut_148 rfl (lv_at hl 1 rfl) ?_
        refine lv_if_ne (tgt := 156) hx hb dX0_shut_149 (by decide) (fun hc => ?_) (fun hc => ?_)
        · have hf := ite_t hc hf
          refine lv_iload hx hb dX0_shut_156 (lv_at hl 3 rfl) ?_
          exact f_iret (wC d a ja) hA0 C hT hf hr hlocks dX0_shut_158
        · have hf := ite_f (fun q => q hc) hf
          refine lv_iload_n hx hb dX0_shut_152 rfl (lv_at hl 2 rfl) ?_
          refine lv_goto (tgt := 158) hx hb dX0_shut_153 (by decide) ?_
          exact f_iret (wC d a ja) hA0 C hT hf hr hlocks dX0_shut_158
      · have hf := ite_f (fun q => q hc) hf
        refine lv_bipush (v := -2) hx hb dX0_shut_29 (by decide) ?_
        exact f_iret (wC d a ja) hA0 C hT hf hr hlocks dX0_shut_31
def fX0_hasThen (N : Nat) (j : JS) (r : RS) (t0 : CS) (x1 : Int32) : Option (Int32 × CS) :=
  (ix x1 6 (ix x1 6 (ix x1 6 (some (((((t0.2.2.2 1).1 3 (x1).toNatClampNeg) - ((t0.2.2.2 0).1 3 (x1).toNatClampNeg)) - (((t0.2.2.2 1).1 0 (x1).toNatClampNeg) / (3 : Int32))), t0)))))
theorem hdX0_hasThen : yX0_hasThen.cls = RX0 ∧ yX0_hasThen.cls ≠ "java/lang/invoke/MethodHandle" ∧ yX0_hasThen.cls ≠ "java/lang/invoke/VarHandle" ∧ (parseMethodDescriptor yX0_hasThen.desc).map (fun d => d.parameters.length) = some 1 := by decide +kernel
set_option maxHeartbeats 4000000 in
theorem mX0_hasThen (l : Launch) (D : va_G) (d : Nat → ClassId) (sd : Nat) (a : Nat → Nat) (ja : Nat → Nat) (N : Nat) (j : JS) (r : RS) (t0 : CS) (x1 : Int32) (w : Int32 × CS) (hf : fX0_hasThen N j r t0 x1 = some w) (sz : Nat) : Met l yX0_hasThen (ws_ yX0_hasThen cX0_hasThen 2 (some .int)) (rm_ 0 0) (GPc D d sd [.ref (a 32), .int x1] (wC d a ja t0) (fun P => JAt d ja j P ∧ RAt d (a 3) r P) sz) (GQi D w.1 (wC d a ja w.2) (wC d a ja t0) sz) 0 0 (va_A (wC d a ja t0) sz) := by
  refine Met.ofW (cc := cX0_hasThen) (maxL := 2) (ret := (some .int)) plX0 rfl ?_
  intro p e s m args below meth c s₁ B hml hv
  obtain ⟨C, hX, hR, hT, hr, hlocks, hargs, rfl⟩ := g_enter (own := RX0) B hml rfl hv
  have hx := C.1
  have hb := C.2.1
  have hV := hX.1
  obtain ⟨A, hA0⟩ : ∃ A, A = va_A (wC d a ja t0) s.heap.size := ⟨_, rfl⟩
  rw [← hA0] at hX hR hT
  show W p l e (rm_ 0 0) s m args below meth c s.heap [] 0 0 (MQ below (GQi D w.1 (wC d a ja w.2) (wC d a ja t0) s.heap.size) args s 0 0 (va_A (wC d a ja t0) s.heap.size)) _
  rw [← hA0]
  have hJ := hR.1
  obtain ⟨rmc, rel, rcap, rf, hrl, hrel, hrc, hrg⟩ := hR.2.unpack
  refine W.eq (by rw [hargs]) (t_in (vs := [.ref (a 32), .int x1]) (n := 2) (Nat.le_of_ble_eq_true rfl) (fun ls hl => ?_))
  have hl : lv_has ls 2 [(0, .ref (a 32)), (1, .int x1)] := hl
  unfold fX0_hasThen at hf
  refine lv_aload_n hx hb dX0_hasThen_0 rfl (lv_at hl 0 rfl) ?_
  refine r_get C hV (hT.atp 0 rfl) (ci := 1) rfl in_X0 2 (by decide) q337 rfl dX0_hasThen_1 ?_
  refine r_getN C hV hX.2.1 (hT.ats (i := 1) (by decide) 0 rfl) (ci := 2) rfl in_X2 3 (by decide) q234 rfl dX0_hasThen_4 ?_
  refine lv_iload_n hx hb dX0_hasThen_7 rfl (lv_at hl 1 rfl) ?_
  obtain ⟨hi, hf⟩ := ix_e hf
  refine r_ild C hV (hT.ats (i := 1) (by decide) 4 rfl) _ hi rfl dX0_hasThen_8 ?_
  refine lv_aload_n hx hb dX0_hasThen_9 rfl (lv_at hl 0 rfl) ?_
  refine r_get C hV (hT.atp 0 rfl) (ci := 1) rfl in_X0 1 (by decide) q336 rfl dX0_hasThen_10 ?_
  refine r_getN C hV hX.2.1 (hT.ats (i := 0) (by decide) 0 rfl) (ci := 2) rfl in_X2 3 (by decide) q234 rfl dX0_hasThen_13 ?_
  refine lv_iload_n hx hb dX0_hasThen_16 rfl (lv_at hl 1 rfl) ?_
  obtain ⟨hi, hf⟩ := ix_e hf
  refine r_ild C hV (hT.ats (i := 0) (by decide) 4 rfl) _ hi rfl dX0_hasThen_17 ?_
  refine lv_isub hx hb dX0_hasThen_18 ?_
  refine lv_aload_n hx hb dX0_hasThen_19 rfl (lv_at hl 0 rfl) ?_
  refine r_get C hV (hT.atp 0 rfl) (ci := 1) rfl in_X0 2 (by decide) q337 rfl dX0_hasThen_20 ?_
  refine r_getN C hV hX.2.1 (hT.ats (i := 1) (by decide) 0 rfl) (ci := 2) rfl in_X2 0 (by decide) q228 rfl dX0_hasThen_23 ?_
  refine lv_iload_n hx hb dX0_hasThen_26 rfl (lv_at hl 1 rfl) ?_
  obtain ⟨hi, hf⟩ := ix_e hf
  refine r_ild C hV (hT.ats (i := 1) (by decide) 1 rfl) _ hi rfl dX0_hasThen_27 ?_
  refine lv_iconst (v := 3) hx hb dX0_hasThen_28 (by decide) ?_
  refine lv_idiv hx hb dX0_hasThen_29 (by decide) ?_
  refine lv_isub hx hb dX0_hasThen_30 ?_
  exact f_iret (wC d a ja) hA0 C hT hf hr hlocks dX0_hasThen_31
def fX0_isRest_B2 (N : Nat) (j : JS) (r : RS) (K : CS → Option (Int32 × CS)) (kb : CS → Int32 → Int32 → Option (Int32 × CS)) (t : CS) (x1 : Int32) (x2 : Int32) : Option (Int32 × CS) :=
  (if (5 : Int32) ≤ x2 then (K t) else (ix (((5 : Int32) * x2) + (irem x1 (5 : Int32))) 25 (ix x1 25 (if (t.2.1 27 (x1).toNatClampNeg) < (t.2.1 27 ((((5 : Int32) * x2) + (irem x1 (5 : Int32)))).toNatClampNeg) then (some ((0 : Int32), t)) else (ix ((x1 - (irem x1 (5 : Int32))) + x2) 25 (ix x1 25 (if (t.2.1 28 (((x1 - (irem x1 (5 : Int32))) + x2)).toNatClampNeg) ≤ (t.2.1 28 (x1).toNatClampNeg) then (lett (x2 + (1 : Int32)) fun x2_51 => (kb t x1 x2_51)) else (some ((0 : Int32), t)))))))))
def fX0_isRest_L2 (N : Nat) (j : JS) (r : RS) (K : CS → Option (Int32 × CS)) : Nat → CS → Int32 → Int32 → Option (Int32 × CS)
  | 0 => fun _ _ _ => none
  | n + 1 => fun t x1 x2 => fX0_isRest_B2 N j r K (fX0_isRest_L2 N j r K n) t x1 x2
def fX0_isRest (N : Nat) (j : JS) (r : RS) (t0 : CS) (x1 : Int32) : Option (Int32 × CS) :=
  (fX0_isRest_L2 N j r (fun t => (some ((1 : Int32), t))) N t0 x1 (0 : Int32))
theorem hdX0_isRest : yX0_isRest.cls = RX0 ∧ yX0_isRest.cls ≠ "java/lang/invoke/MethodHandle" ∧ yX0_isRest.cls ≠ "java/lang/invoke/VarHandle" ∧ (parseMethodDescriptor yX0_isRest.desc).map (fun d => d.parameters.length) = some 1 := by decide +kernel
set_option maxHeartbeats 4000000 in
theorem mX0_isRest (l : Launch) (D : va_G) (d : Nat → ClassId) (sd : Nat) (a : Nat → Nat) (ja : Nat → Nat) (N : Nat) (j : JS) (r : RS) (t0 : CS) (x1 : Int32) (w : Int32 × CS) (hf : fX0_isRest N j r t0 x1 = some w) (sz : Nat) : Met l yX0_isRest (ws_ yX0_isRest cX0_isRest 3 (some .boolean)) (rm_ 0 0) (GPc D d sd [.ref (a 32), .int x1] (wC d a ja t0) (fun P => JAt d ja j P ∧ RAt d (a 3) r P) sz) (GQi D w.1 (wC d a ja w.2) (wC d a ja t0) sz) 0 0 (va_A (wC d a ja t0) sz) := by
  refine Met.ofW (cc := cX0_isRest) (maxL := 3) (ret := (some .boolean)) plX0 rfl ?_
  intro p e s m args below meth c s₁ B hml hv
  obtain ⟨C, hX, hR, hT, hr, hlocks, hargs, rfl⟩ := g_enter (own := RX0) B hml rfl hv
  have hx := C.1
  have hb := C.2.1
  have hV := hX.1
  obtain ⟨A, hA0⟩ : ∃ A, A = va_A (wC d a ja t0) s.heap.size := ⟨_, rfl⟩
  rw [← hA0] at hX hR hT
  show W p l e (rm_ 0 0) s m args below meth c s.heap [] 0 0 (MQ below (GQi D w.1 (wC d a ja w.2) (wC d a ja t0) s.heap.size) args s 0 0 (va_A (wC d a ja t0) s.heap.size)) _
  rw [← hA0]
  have hJ := hR.1
  obtain ⟨rmc, rel, rcap, rf, hrl, hrel, hrc, hrg⟩ := hR.2.unpack
  have hL2 : ∀ (K : CS → Option (Int32 × CS)), (∀ (t : CS) (H : Heap) (locs : List Loc) (ls : Array Slot), TH D A s.heap (wC d a ja t) H locs → lv_has ls 3 [] → K t = some w → W p l e (rm_ 0 0) s m args below meth c H locs 0 0 (MQ below (GQi D w.1 (wC d a ja w.2) (wC d a ja t0) s.heap.size) args s 0 0 A) (F0 m 57 ls [])) → ∀ (n : Nat) (t : CS) (x1 : Int32) (x2 : Int32) (H : Heap) (locs : List Loc) (ls : Array Slot), TH D A s.heap (wC d a ja t) H locs → lv_has ls 3 [(0, .ref (a 32)), (1, .int x1), (2, .int x2)] → fX0_isRest_L2 N j r K n t x1 x2 = some w → W p l e (rm_ 0 0) s m args below meth c H locs 0 0 (MQ below (GQi D w.1 (wC d a ja w.2) (wC d a ja t0) s.heap.size) args s 0 0 A) (F0 m 2 ls []) := by
    intro K hE n
    induction n with
    | zero =>
      intro t x1 x2 H locs ls hT hl hf
      cases hf
    | succ n ih =>
      intro t x1 x2 H locs ls hT hl hf
      replace hf : fX0_isRest_B2 N j r K (fX0_isRest_L2 N j r K n) t x1 x2 = some w := hf
      unfold fX0_isRest_B2 at hf
      refine lv_iload_n hx hb dX0_isRest_2 rfl (lv_at hl 2 rfl) ?_
      refine lv_iconst (v := 5) hx hb dX0_isRest_3 (by decide) ?_
      refine lv_icmp_ge (tgt := 57) hx hb dX0_isRest_4 (by decide) (fun hc => ?_) (fun hc => ?_)
      · have hf := ite_t hc hf
        exact hE t _ _ _ hT (lv_sub hl [] rfl) hf
      · have hf := ite_f hc hf
        refine lv_aload_n hx hb dX0_isRest_7 rfl (lv_at hl 0 rfl) ?_
        refine r_get C hV (hT.atp 0 rfl) (ci := 1) rfl in_X0 27 (by decide) q372 rfl dX0_isRest_8 ?_
        refine lv_iconst (v := 5) hx hb dX0_isRest_11 (by decide) ?_
        refine lv_iload_n hx hb dX0_isRest_12 rfl (lv_at hl 2 rfl) ?_
        refine lv_imul hx hb dX0_isRest_13 ?_
        refine lv_iload_n hx hb dX0_isRest_14 rfl (lv_at hl 1 rfl) ?_
        refine lv_iconst (v := 5) hx hb dX0_isRest_15 (by decide) ?_
        refine g_irem hx hb dX0_isRest_16 (by decide) ?_
        refine lv_iadd hx hb dX0_isRest_17 ?_
        obtain ⟨hi, hf⟩ := ix_e hf
        refine r_ild C hV (hT.atp 12 rfl) _ hi rfl dX0_isRest_18 ?_
        refine lv_aload_n hx hb dX0_isRest_19 rfl (lv_at hl 0 rfl) ?_
        refine r_get C hV (hT.atp 0 rfl) (ci := 1) rfl in_X0 27 (by decide) q372 rfl dX0_isRest_20 ?_
        refine lv_iload_n hx hb dX0_isRest_23 rfl (lv_at hl 1 rfl) ?_
        obtain ⟨hi, hf⟩ := ix_e hf
        refine r_ild C hV (hT.atp 12 rfl) _ hi rfl dX0_isRest_24 ?_
        refine lv_icmp_gt (tgt := 49) hx hb dX0_isRest_25 (by decide) (fun hc => ?_) (fun hc => ?_)
        · have hf := ite_t hc hf
          refine lv_iconst (v := 0) hx hb dX0_isRest_49 (by decide) ?_
          exact f_zret (wC d a ja) hA0 C hT hf (Or.inl rfl) hr hlocks dX0_isRest_50
        · have hf := ite_f hc hf
          refine lv_aload_n hx hb dX0_isRest_28 rfl (lv_at hl 0 rfl) ?_
          refine r_get C hV (hT.atp 0 rfl) (ci := 1) rfl in_X0 28 (by decide) q373 rfl dX0_isRest_29 ?_
          refine lv_iload_n hx hb dX0_isRest_32 rfl (lv_at hl 1 rfl) ?_
          refine lv_iload_n hx hb dX0_isRest_33 rfl (lv_at hl 1 rfl) ?_
          refine lv_iconst (v := 5) hx hb dX0_isRest_34 (by decide) ?_
          refine g_irem hx hb dX0_isRest_35 (by decide) ?_
          refine lv_isub hx hb dX0_isRest_36 ?_
          refine lv_iload_n hx hb dX0_isRest_37 rfl (lv_at hl 2 rfl) ?_
          refine lv_iadd hx hb dX0_isRest_38 ?_
          obtain ⟨hi, hf⟩ := ix_e hf
          refine r_ild C hV (hT.atp 13 rfl) _ hi rfl dX0_isRest_39 ?_
          refine lv_aload_n hx hb dX0_isRest_40 rfl (lv_at hl 0 rfl) ?_
          refine r_get C hV (hT.atp 0 rfl) (ci := 1) rfl in_X0 28 (by decide) q373 rfl dX0_isRest_41 ?_
          refine lv_iload_n hx hb dX0_isRest_44 rfl (lv_at hl 1 rfl) ?_
          obtain ⟨hi, hf⟩ := ix_e hf
          refine r_ild C hV (hT.atp 13 rfl) _ hi rfl dX0_isRest_45 ?_
          refine lv_icmp_le (tgt := 51) hx hb dX0_isRest_46 (by decide) (fun hc => ?_) (fun hc => ?_)
          · have hf := ite_t hc hf
            obtain ⟨x2_51, ex⟩ : ∃ y : Int32, y = (x2 + (1 : Int32)) := ⟨_, rfl⟩
            have hf := lett_e ex hf
            refine lv_iinc (v := x2_51) (lv' := [(2, .int x2_51), (0, .ref (a 32)), (1, .int x1)]) hx hb dX0_isRest_51 hl (k := 2) rfl (by rw [ex]; rfl) (by decide) rfl (fun ls hl => ?_)
            refine lv_goto (tgt := 2) hx hb dX0_isRest_54 (by decide) ?_
            exact ih t x1 x2_51 _ _ _ hT (lv_sub hl [1, 2, 0] rfl) hf
          · have hf := ite_f hc hf
            refine lv_iconst (v := 0) hx hb dX0_isRest_49 (by decide) ?_
            exact f_zret (wC d a ja) hA0 C hT hf (Or.inl rfl) hr hlocks dX0_isRest_50
  refine W.eq (by rw [hargs]) (t_in (vs := [.ref (a 32), .int x1]) (n := 3) (Nat.le_of_ble_eq_true rfl) (fun ls hl => ?_))
  have hl : lv_has ls 3 [(0, .ref (a 32)), (1, .int x1)] := hl
  unfold fX0_isRest at hf
  refine lv_iconst (v := 0) hx hb dX0_isRest_0 (by decide) ?_
  refine lv_istore_n (lv' := [(2, .int (0 : Int32)), (0, .ref (a 32)), (1, .int x1)]) hx hb dX0_isRest_1 rfl hl (by decide) rfl (fun ls hl => ?_)
  refine hL2 _ (fun t H locs ls hT hl hf => ?_) N t0 x1 (0 : Int32) _ _ _ hT (lv_sub hl [1, 2, 0] rfl) hf
  refine lv_iconst (v := 1) hx hb dX0_isRest_57 (by decide) ?_
  exact f_zret (wC d a ja) hA0 C hT hf (Or.inr rfl) hr hlocks dX0_isRest_58
def fX0_rests_B51 (N : Nat) (j : JS) (r : RS) (K : CS → Int32 → Option (Int32 × CS)) (kb : CS → Int32 → Int32 → Int32 → Int32 → Int32 → Option (Int32 × CS)) (t : CS) (x1 : Int32) (x2 : Int32) (x3 : Int32) (x4 : Int32) (x5 : Int32) : Option (Int32 × CS) :=
  (if (25 : Int32) ≤ x5 then (K t x4) else ((fX2_copyFrom N (t.2.2.2 0) (t.2.2.2 1) ).bind fun w_66 => (lett (csS t 1 w_66) fun t_66 => (ix x1 6 (lett (csS t_66 1 (ssA (t_66.2.2.2 1) 1 (x1).toNatClampNeg ((1 : Int32) + ((2 : Int32) * (x5 / (5 : Int32)))))) fun t_85 => (ix x2 6 (lett (csS t_85 1 (ssA (t_85.2.2.2 1) 1 (x2).toNatClampNeg ((1 : Int32) + ((2 : Int32) * (irem x5 (5 : Int32)))))) fun t_102 => ((fX0_goesTill N j r  t_102 x3).bind fun w_105 => ((fX0_hasThen N j r  w_105 x1).bind fun w_116 => (ix x5 25 (lett (csA w_116.2 27 (x5).toNatClampNeg w_116.1) fun t_119 => ((fX0_hasThen N j r  t_119 x2).bind fun w_128 => (ix x5 25 (lett (csA w_128.2 28 (x5).toNatClampNeg w_128.1) fun t_131 => (lett (x5 + (1 : Int32)) fun x5_132 => (kb t_131 x1 x2 x3 x4 x5_132))))))))))))))))
def fX0_rests_L51 (N : Nat) (j : JS) (r : RS) (K : CS → Int32 → Option (Int32 × CS)) : Nat → CS → Int32 → Int32 → Int32 → Int32 → Int32 → Option (Int32 × CS)
  | 0 => fun _ _ _ _ _ _ => none
  | n + 1 => fun t x1 x2 x3 x4 x5 => fX0_rests_B51 N j r K (fX0_rests_L51 N j r K n) t x1 x2 x3 x4 x5
def fX0_rests_B147 (N : Nat) (j : JS) (r : RS) (K : CS → Int32 → Int32 → Int32 → Option (Int32 × CS)) (kb : CS → Int32 → Int32 → Int32 → Int32 → Option (Int32 × CS)) (t : CS) (x4 : Int32) (x5 : Int32) (x6 : Int32) (x7 : Int32) : Option (Int32 × CS) :=
  (if (25 : Int32) ≤ x7 then (K t x4 x5 x6) else ((fX0_isRest N j r  t x7).bind fun w_157 => (if ¬ w_157.1 = 0 then (if ¬ x5 = 0 then (lett (x5 + (1 : Int32)) fun x5_180 => (lett (x7 + (1 : Int32)) fun x7_183 => (kb w_157.2 x4 x5_180 x6 x7_183))) else (lett (x5 + (1 : Int32)) fun x5_180 => (lett (x7 + (1 : Int32)) fun x7_183 => (kb w_157.2 x4 x5_180 x7 x7_183)))) else (lett (x7 + (1 : Int32)) fun x7_183 => (kb w_157.2 x4 x5 x6 x7_183)))))
def fX0_rests_L147 (N : Nat) (j : JS) (r : RS) (K : CS → Int32 → Int32 → Int32 → Option (Int32 × CS)) : Nat → CS → Int32 → Int32 → Int32 → Int32 → Option (Int32 × CS)
  | 0 => fun _ _ _ _ _ => none
  | n + 1 => fun t x4 x5 x6 x7 => fX0_rests_B147 N j r K (fX0_rests_L147 N j r K n) t x4 x5 x6 x7
def fX0_rests_J227 (N : Nat) (j : JS) (r : RS) (t : CS) (s0 : Int32) (s1 : Int32) (s2 : Int32) : Option (Int32 × CS) :=
  (some ((s2 + (s1 * s0)), t))
def fX0_rests (N : Nat) (j : JS) (r : RS) (t0 : CS) (x1 : Int32) (x2 : Int32) (x3 : Int32) (x4 : Int32) : Option (Int32 × CS) :=
  ((fX0_isRoad N j r  t0 x1).bind fun w_2 => (if w_2.1 = 0 then (some ((-1 : Int32), w_2.2)) else ((fX0_isRoad N j r  w_2.2 x2).bind fun w_10 => (if w_10.1 = 0 then (some ((-1 : Int32), w_10.2)) else (if x1 = x2 then (some ((-1 : Int32), w_10.2)) else ((fX0_in N (x3).toInt64 (1 : Int64) (20 : Int64)).bind fun w_27 => (if w_27 = 0 then (some ((-1 : Int32), w_10.2)) else ((fX0_in N (x4).toInt64 (0 : Int64) (2 : Int64)).bind fun w_40 => (if ¬ w_40 = 0 then (fX0_rests_L51 N j r (fun t x4 => (fX0_rests_L147 N j r (fun t x4 x5 x6 => (if ¬ x4 = 0 then (if ¬ x6 = (-1 : Int32) then (if ¬ x4 = (1 : Int32) then (fX0_rests_J227 N j r t (irem x6 (5 : Int32)) (2 : Int32) (1 : Int32)) else (fX0_rests_J227 N j r t (x6 / (5 : Int32)) (2 : Int32) (1 : Int32))) else (some ((-2 : Int32), t))) else (some (x5, t)))) N t x4 (0 : Int32) (-1 : Int32) (0 : Int32))) N w_10.2 x1 x2 x3 x4 (0 : Int32)) else (some ((-1 : Int32), w_10.2)))))))))))
theorem hdX0_rests : yX0_rests.cls = RX0 ∧ yX0_rests.cls ≠ "java/lang/invoke/MethodHandle" ∧ yX0_rests.cls ≠ "java/lang/invoke/VarHandle" ∧ (parseMethodDescriptor yX0_rests.desc).map (fun d => d.parameters.length) = some 4 := by decide +kernel
set_option maxHeartbeats 4000000 in
theorem mX0_rests (l : Launch) (D : va_G) (d : Nat → ClassId) (sd : Nat) (a : Nat → Nat) (ja : Nat → Nat) (N : Nat) (j : JS) (r : RS) (t0 : CS) (x1 : Int32) (x2 : Int32) (x3 : Int32) (x4 : Int32) (w : Int32 × CS) (hf : fX0_rests N j r t0 x1 x2 x3 x4 = some w) (sz : Nat) : Met l yX0_rests (ws_ yX0_rests cX0_rests 8 (some .int)) (rm_ 265 8114) (GPc D d sd [.ref (a 32), .int x1, .int x2, .int x3, .int x4] (wC d a ja t0) (fun P => JAt d ja j P ∧ RAt d (a 3) r P) sz) (GQi D w.1 (wC d a ja w.2) (wC d a ja t0) sz) 0 0 (va_A (wC d a ja t0) sz) := by
  refine Met.ofW (cc := cX0_rests) (maxL := 8) (ret := (some .int)) plX0 rfl ?_
  intro p e s m args below meth c s₁ B hml hv
  obtain ⟨C, hX, hR, hT, hr, hlocks, hargs, rfl⟩ := g_enter (own := RX0) B hml rfl hv
  have hx := C.1
  have hb := C.2.1
  have hV := hX.1
  obtain ⟨A, hA0⟩ : ∃ A, A = va_A (wC d a ja t0) s.heap.size := ⟨_, rfl⟩
  rw [← hA0] at hX hR hT
  show W p l e (rm_ 265 8114) s m args below meth c s.heap [] 0 0 (MQ below (GQi D w.1 (wC d a ja w.2) (wC d a ja t0) s.heap.size) args s 0 0 (va_A (wC d a ja t0) s.heap.size)) _
  rw [← hA0]
  have hJ := hR.1
  obtain ⟨rmc, rel, rcap, rf, hrl, hrel, hrc, hrg⟩ := hR.2.unpack
  have hL51 : ∀ (K : CS → Int32 → Option (Int32 × CS)), (∀ (t : CS) (x4 : Int32) (H : Heap) (locs : List Loc) (ls : Array Slot), TH D A s.heap (wC d a ja t) H locs → lv_has ls 8 [(0, .ref (a 32)), (4, .int x4)] → K t x4 = some w → W p l e (rm_ 265 8114) s m args below meth c H locs 0 0 (MQ below (GQi D w.1 (wC d a ja w.2) (wC d a ja t0) s.heap.size) args s 0 0 A) (F0 m 138 ls [])) → ∀ (n : Nat) (t : CS) (x1 : Int32) (x2 : Int32) (x3 : Int32) (x4 : Int32) (x5 : Int32) (H : Heap) (locs : List Loc) (ls : Array Slot), TH D A s.heap (wC d a ja t) H locs → lv_has ls 8 [(0, .ref (a 32)), (1, .int x1), (2, .int x2), (3, .int x3), (4, .int x4), (5, .int x5)] → fX0_rests_L51 N j r K n t x1 x2 x3 x4 x5 = some w → W p l e (rm_ 265 8114) s m args below meth c H locs 0 0 (MQ below (GQi D w.1 (wC d a ja w.2) (wC d a ja t0) s.heap.size) args s 0 0 A) (F0 m 51 ls []) := by
    intro K hE n
    induction n with
    | zero =>
      intro t x1 x2 x3 x4 x5 H locs ls hT hl hf
      cases hf
    | succ n ih =>
      intro t x1 x2 x3 x4 x5 H locs ls hT hl hf
      replace hf : fX0_rests_B51 N j r K (fX0_rests_L51 N j r K n) t x1 x2 x3 x4 x5 = some w := hf
      unfold fX0_rests_B51 at hf
      refine lv_iload hx hb dX0_rests_51 (lv_at hl 5 rfl) ?_
      refine lv_bipush (v := 25) hx hb dX0_rests_53 (by decide) ?_
      refine lv_icmp_ge (tgt := 138) hx hb dX0_rests_55 (by decide) (fun hc => ?_) (fun hc => ?_)
      · have hf := ite_t hc hf
        exact hE t x4 _ _ _ hT (lv_sub hl [0, 4] rfl) hf
      · have hf := ite_f hc hf
        refine lv_aload_n hx hb dX0_rests_58 rfl (lv_at hl 0 rfl) ?_
        refine r_get C hV (hT.atp 0 rfl) (ci := 1) rfl in_X0 2 (by decide) q337 rfl dX0_rests_59 ?_
        refine lv_aload_n hx hb dX0_rests_62 rfl (lv_at hl 0 rfl) ?_
        refine r_get C hV (hT.atp 0 rfl) (ci := 1) rfl in_X0 1 (by decide) q336 rfl dX0_rests_63 ?_
        obtain ⟨w_66, h_66, hf⟩ := bind_e hf
        refine g_callv (vs := [.ref (sa a 0 0)]) (rest := []) C hX hT (A_new hA0) (wC_cutS hT.2.1 (by decide) _) (wC_frz hT (by decide) (by decide) ((by decide)) (t.2.2.2 1)) (fun sz => mX2_copyFrom l D d sd (sa a 1) (sa a 0) N (t.2.2.2 0) (t.2.2.2 1)  _ h_66 sz) (cwV 1 C.2.2.2.2 (lw_V q915 q916 q917 q125 q918) rfl rfl rfl hdX2_copyFrom ⟨Nat.le_of_ble_eq_true rfl, Nat.le_of_ble_eq_true rfl⟩) (g_recv hV (hT.ats (i := 1) (by decide) 0 rfl) (ci := 2) rfl) rfl hl.1 rfl (Nat.le_of_ble_eq_true rfl) dX0_rests_66 ⟨Nat.zero_le _, Nat.zero_le _⟩ (fun H locs hT => ?_)
        obtain ⟨t_66, et⟩ : ∃ y, y = (csS t 1 w_66) := ⟨_, rfl⟩
        rw [← et] at hT
        have hf := lett_e et hf
        refine lv_aload_n hx hb dX0_rests_69 rfl (lv_at hl 0 rfl) ?_
        refine r_get C hV (hT.atp 0 rfl) (ci := 1) rfl in_X0 2 (by decide) q337 rfl dX0_rests_70 ?_
        refine r_getN C hV hX.2.1 (hT.ats (i := 1) (by decide) 0 rfl) (ci := 2) rfl in_X2 1 (by decide) q230 rfl dX0_rests_73 ?_
        refine lv_iload_n hx hb dX0_rests_76 rfl (lv_at hl 1 rfl) ?_
        refine lv_iconst (v := 1) hx hb dX0_rests_77 (by decide) ?_
        refine lv_iconst (v := 2) hx hb dX0_rests_78 (by decide) ?_
        refine lv_iload hx hb dX0_rests_79 (lv_at hl 5 rfl) ?_
        refine lv_iconst (v := 5) hx hb dX0_rests_81 (by decide) ?_
        refine lv_idiv hx hb dX0_rests_82 (by decide) ?_
        refine lv_imul hx hb dX0_rests_83 ?_
        refine lv_iadd hx hb dX0_rests_84 ?_
        obtain ⟨hi, hf⟩ := ix_e hf
        obtain ⟨p0, hp0⟩ := wC_pos (d := d) (a := a) (ja := ja) (c := t_66) (i := 1) (by decide) 2 rfl
        obtain ⟨t_85, et⟩ : ∃ y, y = (csS t_66 1 (ssA (t_66.2.2.2 1) 1 (x1).toNatClampNeg ((1 : Int32) + ((2 : Int32) * (x5 / (5 : Int32)))))) := ⟨_, rfl⟩
        have hf := lett_e et hf
        refine w_ist (ws1 := (wC d a ja t_85)) C hV hT p0 _ hp0 hi rfl (by rw [et]; exact wC_updS hT.2.1 (by decide) _ rfl (sast_1 d (sa a 1) (t_66.2.2.2 1) _ _)) dX0_rests_85 (fun H locs hT => ?_)
        refine lv_aload_n hx hb dX0_rests_86 rfl (lv_at hl 0 rfl) ?_
        refine r_get C hV (hT.atp 0 rfl) (ci := 1) rfl in_X0 2 (by decide) q337 rfl dX0_rests_87 ?_
        refine r_getN C hV hX.2.1 (hT.ats (i := 1) (by decide) 0 rfl) (ci := 2) rfl in_X2 1 (by decide) q230 rfl dX0_rests_90 ?_
        refine lv_iload_n hx hb dX0_rests_93 rfl (lv_at hl 2 rfl) ?_
        refine lv_iconst (v := 1) hx hb dX0_rests_94 (by decide) ?_
        refine lv_iconst (v := 2) hx hb dX0_rests_95 (by decide) ?_
        refine lv_iload hx hb dX0_rests_96 (lv_at hl 5 rfl) ?_
        refine lv_iconst (v := 5) hx hb dX0_rests_98 (by decide) ?_
        refine g_irem hx hb dX0_rests_99 (by decide) ?_
        refine lv_imul hx hb dX0_rests_100 ?_
        refine lv_iadd hx hb dX0_rests_101 ?_
        obtain ⟨hi, hf⟩ := ix_e hf
        obtain ⟨p0, hp0⟩ := wC_pos (d := d) (a := a) (ja := ja) (c := t_85) (i := 1) (by decide) 2 rfl
        obtain ⟨t_102, et⟩ : ∃ y, y = (csS t_85 1 (ssA (t_85.2.2.2 1) 1 (x2).toNatClampNeg ((1 : Int32) + ((2 : Int32) * (irem x5 (5 : Int32)))))) := ⟨_, rfl⟩
        have hf := lett_e et hf
        refine w_ist (ws1 := (wC d a ja t_102)) C hV hT p0 _ hp0 hi rfl (by rw [et]; exact wC_updS hT.2.1 (by decide) _ rfl (sast_1 d (sa a 1) (t_85.2.2.2 1) _ _)) dX0_rests_102 (fun H locs hT => ?_)
        refine lv_aload_n hx hb dX0_rests_103 rfl (lv_at hl 0 rfl) ?_
        refine lv_iload_n hx hb dX0_rests_104 rfl (lv_at hl 3 rfl) ?_
        obtain ⟨w_105, h_105, hf⟩ := bind_e hf
        refine g_callv (vs := [.int x3]) (rest := []) C hX hT (A_new hA0) (Cut.all (D_nd hT.2.1) ((wC_fst d a ja _).trans (wC_fst d a ja t_102).symm)) (Ro := (fun P => JAt d ja j P ∧ RAt d (a 3) r P)) ⟨hJ.step hT.2.2 (A_full hA0 hT.2.2.1), hR.2.step hT.2.2 (A_full hA0 hT.2.2.1)⟩ (fun sz => mX0_goesTill l D d sd a ja N j r  t_102 x3 _ h_105 sz) (cwV 1 C.2.2.2.2 (lw_V q1052 q1054 qs34 q120 q1055) rfl rfl rfl hdX0_goesTill ⟨Nat.le_of_ble_eq_true rfl, Nat.le_of_ble_eq_true rfl⟩) (g_recv hV (hT.atp 0 rfl) (ci := 1) rfl) rfl hl.1 rfl (Nat.le_of_ble_eq_true rfl) dX0_rests_105 ⟨Nat.zero_le _, Nat.zero_le _⟩ (fun H locs hT => ?_)
        refine lv_aload_n hx hb dX0_rests_108 rfl (lv_at hl 0 rfl) ?_
        refine r_get C hV (hT.atp 0 rfl) (ci := 1) rfl in_X0 27 (by decide) q372 rfl dX0_rests_109 ?_
        refine lv_iload hx hb dX0_rests_112 (lv_at hl 5 rfl) ?_
        refine lv_aload_n hx hb dX0_rests_114 rfl (lv_at hl 0 rfl) ?_
        refine lv_iload_n hx hb dX0_rests_115 rfl (lv_at hl 1 rfl) ?_
        obtain ⟨w_116, h_116, hf⟩ := bind_e hf
        refine g_calli (vs := [.int x1]) (rest := [.int x5, .ref (a 27)]) C hX hT (A_new hA0) (Cut.all (D_nd hT.2.1) ((wC_fst d a ja _).trans (wC_fst d a ja w_105).symm)) (Ro := (fun P => JAt d ja j P ∧ RAt d (a 3) r P)) ⟨hJ.step hT.2.2 (A_full hA0 hT.2.2.1), hR.2.step hT.2.2 (A_full hA0 hT.2.2.1)⟩ (fun sz => mX0_hasThen l D d sd a ja N j r  w_105 x1 _ h_116 sz) (cwV 1 C.2.2.2.2 (lw_V q1125 q1127 qs38 q120 q1128) rfl rfl rfl hdX0_hasThen ⟨Nat.le_of_ble_eq_true rfl, Nat.le_of_ble_eq_true rfl⟩) (g_recv hV (hT.atp 0 rfl) (ci := 1) rfl) rfl hl.1 rfl (Nat.le_of_ble_eq_true rfl) dX0_rests_116 ⟨Nat.zero_le _, Nat.zero_le _⟩ (fun H locs hT => ?_)
        obtain ⟨hi, hf⟩ := ix_e hf
        obtain ⟨t_119, et⟩ : ∃ y, y = (csA w_116.2 27 (x5).toNatClampNeg w_116.1) := ⟨_, rfl⟩
        have hf := lett_e et hf
        refine w_ist (ws1 := (wC d a ja t_119)) C hV hT 12 _ rfl hi rfl (by rw [et]; exact upd_set hT.2.1 rfl (cast_27 d a ja w_116.2 _ _)) dX0_rests_119 (fun H locs hT => ?_)
        refine lv_aload_n hx hb dX0_rests_120 rfl (lv_at hl 0 rfl) ?_
        refine r_get C hV (hT.atp 0 rfl) (ci := 1) rfl in_X0 28 (by decide) q373 rfl dX0_rests_121 ?_
        refine lv_iload hx hb dX0_rests_124 (lv_at hl 5 rfl) ?_
        refine lv_aload_n hx hb dX0_rests_126 rfl (lv_at hl 0 rfl) ?_
        refine lv_iload_n hx hb dX0_rests_127 rfl (lv_at hl 2 rfl) ?_
        obtain ⟨w_128, h_128, hf⟩ := bind_e hf
        refine g_calli (vs := [.int x2]) (rest := [.int x5, .ref (a 28)]) C hX hT (A_new hA0) (Cut.all (D_nd hT.2.1) ((wC_fst d a ja _).trans (wC_fst d a ja t_119).symm)) (Ro := (fun P => JAt d ja j P ∧ RAt d (a 3) r P)) ⟨hJ.step hT.2.2 (A_full hA0 hT.2.2.1), hR.2.step hT.2.2 (A_full hA0 hT.2.2.1)⟩ (fun sz => mX0_hasThen l D d sd a ja N j r  t_119 x2 _ h_128 sz) (cwV 1 C.2.2.2.2 (lw_V q1125 q1127 qs38 q120 q1128) rfl rfl rfl hdX0_hasThen ⟨Nat.le_of_ble_eq_true rfl, Nat.le_of_ble_eq_true rfl⟩) (g_recv hV (hT.atp 0 rfl) (ci := 1) rfl) rfl hl.1 rfl (Nat.le_of_ble_eq_true rfl) dX0_rests_128 ⟨Nat.zero_le _, Nat.zero_le _⟩ (fun H locs hT => ?_)
        obtain ⟨hi, hf⟩ := ix_e hf
        obtain ⟨t_131, et⟩ : ∃ y, y = (csA w_128.2 28 (x5).toNatClampNeg w_128.1) := ⟨_, rfl⟩
        have hf := lett_e et hf
        refine w_ist (ws1 := (wC d a ja t_131)) C hV hT 13 _ rfl hi rfl (by rw [et]; exact upd_set hT.2.1 rfl (cast_28 d a ja w_128.2 _ _)) dX0_rests_131 (fun H locs hT => ?_)
        obtain ⟨x5_132, ex⟩ : ∃ y : Int32, y = (x5 + (1 : Int32)) := ⟨_, rfl⟩
        have hf := lett_e ex hf
        refine lv_iinc (v := x5_132) (lv' := [(5, .int x5_132), (0, .ref (a 32)), (1, .int x1), (2, .int x2), (3, .int x3), (4, .int x4)]) hx hb dX0_rests_132 hl (k := 5) rfl (by rw [ex]; rfl) (by decide) rfl (fun ls hl => ?_)
        refine lv_goto (tgt := 51) hx hb dX0_rests_135 (by decide) ?_
        exact ih t_131 x1 x2 x3 x4 x5_132 _ _ _ hT (lv_sub hl [1, 2, 3, 4, 5, 0] rfl) hf
  have hL147 : ∀ (K : CS → Int32 → Int32 → Int32 → Option (Int32 × CS)), (∀ (t : CS) (x4 : Int32) (x5 : Int32) (x6 : Int32) (H : Heap) (locs : List Loc) (ls : Array Slot), TH D A s.heap (wC d a ja t) H locs → lv_has ls 8 [(4, .int x4), (5, .int x5), (6, .int x6)] → K t x4 x5 x6 = some w → W p l e (rm_ 265 8114) s m args below meth c H locs 0 0 (MQ below (GQi D w.1 (wC d a ja w.2) (wC d a ja t0) s.heap.size) args s 0 0 A) (F0 m 189 ls [])) → ∀ (n : Nat) (t : CS) (x4 : Int32) (x5 : Int32) (x6 : Int32) (x7 : Int32) (H : Heap) (locs : List Loc) (ls : Array Slot), TH D A s.heap (wC d a ja t) H locs → lv_has ls 8 [(0, .ref (a 32)), (4, .int x4), (5, .int x5), (6, .int x6), (7, .int x7)] → fX0_rests_L147 N j r K n t x4 x5 x6 x7 = some w → W p l e (rm_ 265 8114) s m args below meth c H locs 0 0 (MQ below (GQi D w.1 (wC d a ja w.2) (wC d a ja t0) s.heap.size) args s 0 0 A) (F0 m 147 ls []) := by
    intro K hE n
    induction n with
    | zero =>
      intro t x4 x5 x6 x7 H locs ls hT hl hf
      cases hf
    | succ n ih =>
      intro t x4 x5 x6 x7 H locs ls hT hl hf
      replace hf : fX0_rests_B147 N j r K (fX0_rests_L147 N j r K n) t x4 x5 x6 x7 = some w := hf
      unfold fX0_rests_B147 at hf
      refine lv_iload hx hb dX0_rests_147 (lv_at hl 4 rfl) ?_
      refine lv_bipush (v := 25) hx hb dX0_rests_149 (by decide) ?_
      refine lv_icmp_ge (tgt := 189) hx hb dX0_rests_151 (by decide) (fun hc => ?_) (fun hc => ?_)
      · have hf := ite_t hc hf
        exact hE t x4 x5 x6 _ _ _ hT (lv_sub hl [1, 2, 3] rfl) hf
      · have hf := ite_f hc hf
        refine lv_aload_n hx hb dX0_rests_154 rfl (lv_at hl 0 rfl) ?_
        refine lv_iload hx hb dX0_rests_155 (lv_at hl 4 rfl) ?_
        obtain ⟨w_157, h_157, hf⟩ := bind_e hf
        refine g_calli (vs := [.int x7]) (rest := []) C hX hT (A_new hA0) (Cut.all (D_nd hT.2.1) ((wC_fst d a ja _).trans (wC_fst d a ja t).symm)) (Ro := (fun P => JAt d ja j P ∧ RAt d (a 3) r P)) ⟨hJ.step hT.2.2 (A_full hA0 hT.2.2.1), hR.2.step hT.2.2 (A_full hA0 hT.2.2.1)⟩ (fun sz => mX0_isRest l D d sd a ja N j r  t x7 _ h_157 sz) (cwV 1 C.2.2.2.2 (lw_V q1129 q1131 qs39 q120 q1132) rfl rfl rfl hdX0_isRest ⟨Nat.le_of_ble_eq_true rfl, Nat.le_of_ble_eq_true rfl⟩) (g_recv hV (hT.atp 0 rfl) (ci := 1) rfl) rfl hl.1 rfl (Nat.le_of_ble_eq_true rfl) dX0_rests_157 ⟨Nat.zero_le _, Nat.zero_le _⟩ (fun H locs hT => ?_)
        refine lv_if_ne (tgt := 166) hx hb dX0_rests_160 (by decide) (fun hc => ?_) (fun hc => ?_)
        · have hf := ite_t hc hf
          refine lv_iload hx hb dX0_rests_166 (lv_at hl 2 rfl) ?_
          refine lv_if_ne (tgt := 176) hx hb dX0_rests_168 (by decide) (fun hc => ?_) (fun hc => ?_)
          · have hf := ite_t hc hf
            refine lv_iload hx hb dX0_rests_176 (lv_at hl 3 rfl) ?_
            refine lv_istore (lv' := [(6, .int x6), (0, .ref (a 32)), (4, .int x4), (5, .int x5), (7, .int x7)]) hx hb dX0_rests_178 hl (by decide) rfl (fun ls hl => ?_)
            obtain ⟨x5_180, ex⟩ : ∃ y : Int32, y = (x5 + (1 : Int32)) := ⟨_, rfl⟩
            have hf := lett_e ex hf
            refine lv_iinc (v := x5_180) (lv' := [(5, .int x5_180), (6, .int x6), (0, .ref (a 32)), (4, .int x4), (7, .int x7)]) hx hb dX0_rests_180 hl (k := 3) rfl (by rw [ex]; rfl) (by decide) rfl (fun ls hl => ?_)
            obtain ⟨x7_183, ex⟩ : ∃ y : Int32, y = (x7 + (1 : Int32)) := ⟨_, rfl⟩
            have hf := lett_e ex hf
            refine lv_iinc (v := x7_183) (lv' := [(7, .int x7_183), (5, .int x5_180), (6, .int x6), (0, .ref (a 32)), (4, .int x4)]) hx hb dX0_rests_183 hl (k := 4) rfl (by rw [ex]; rfl) (by decide) rfl (fun ls hl => ?_)
            refine lv_goto (tgt := 147) hx hb dX0_rests_186 (by decide) ?_
            exact ih w_157.2 x4 x5_180 x6 x7_183 _ _ _ hT (lv_sub hl [3, 4, 1, 2, 0] rfl) hf
          · have hf := ite_f (fun q => q hc) hf
            refine lv_iload hx hb dX0_rests_171 (lv_at hl 4 rfl) ?_
            refine lv_goto (tgt := 178) hx hb dX0_rests_173 (by decide) ?_
            refine lv_istore (lv' := [(6, .int x7), (0, .ref (a 32)), (4, .int x4), (5, .int x5), (7, .int x7)]) hx hb dX0_rests_178 hl (by decide) rfl (fun ls hl => ?_)
            obtain ⟨x5_180, ex⟩ : ∃ y : Int32, y = (x5 + (1 : Int32)) := ⟨_, rfl⟩
            have hf := lett_e ex hf
            refine lv_iinc (v := x5_180) (lv' := [(5, .int x5_180), (6, .int x7), (0, .ref (a 32)), (4, .int x4), (7, .int x7)]) hx hb dX0_rests_180 hl (k := 3) rfl (by rw [ex]; rfl) (by decide) rfl (fun ls hl => ?_)
            obtain ⟨x7_183, ex⟩ : ∃ y : Int32, y = (x7 + (1 : Int32)) := ⟨_, rfl⟩
            have hf := lett_e ex hf
            refine lv_iinc (v := x7_183) (lv' := [(7, .int x7_183), (5, .int x5_180), (6, .int x7), (0, .ref (a 32)), (4, .int x4)]) hx hb dX0_rests_183 hl (k := 4) rfl (by rw [ex]; rfl) (by decide) rfl (fun ls hl => ?_)
            refine lv_goto (tgt := 147) hx hb dX0_rests_186 (by decide) ?_
            exact ih w_157.2 x4 x5_180 x7 x7_183 _ _ _ hT (lv_sub hl [3, 4, 1, 2, 0] rfl) hf
        · have hf := ite_f (fun q => q hc) hf
          refine lv_goto (tgt := 183) hx hb dX0_rests_163 (by decide) ?_
          obtain ⟨x7_183, ex⟩ : ∃ y : Int32, y = (x7 + (1 : Int32)) := ⟨_, rfl⟩
          have hf := lett_e ex hf
          refine lv_iinc (v := x7_183) (lv' := [(7, .int x7_183), (0, .ref (a 32)), (4, .int x4), (5, .int x5), (6, .int x6)]) hx hb dX0_rests_183 hl (k := 4) rfl (by rw [ex]; rfl) (by decide) rfl (fun ls hl => ?_)
          refine lv_goto (tgt := 147) hx hb dX0_rests_186 (by decide) ?_
          exact ih w_157.2 x4 x5 x6 x7_183 _ _ _ hT (lv_sub hl [1, 2, 3, 4, 0] rfl) hf
  have hJ227 : ∀ (t : CS) (s0 : Int32) (s1 : Int32) (s2 : Int32) (H : Heap) (locs : List Loc) (ls : Array Slot), TH D A s.heap (wC d a ja t) H locs → lv_has ls 8 [] → fX0_rests_J227 N j r t s0 s1 s2 = some w → W p l e (rm_ 265 8114) s m args below meth c H locs 0 0 (MQ below (GQi D w.1 (wC d a ja w.2) (wC d a ja t0) s.heap.size) args s 0 0 A) (F0 m 227 ls [.int s0, .int s1, .int s2]) := by
    intro t s0 s1 s2 H locs ls hT hl hf
    unfold fX0_rests_J227 at hf
    refine lv_imul hx hb dX0_rests_227 ?_
    refine lv_iadd hx hb dX0_rests_228 ?_
    exact f_iret (wC d a ja) hA0 C hT hf hr hlocks dX0_rests_229
  refine W.eq (by rw [hargs]) (t_in (vs := [.ref (a 32), .int x1, .int x2, .int x3, .int x4]) (n := 8) (Nat.le_of_ble_eq_true rfl) (fun ls hl => ?_))
  have hl : lv_has ls 8 [(0, .ref (a 32)), (1, .int x1), (2, .int x2), (3, .int x3), (4, .int x4)] := hl
  unfold fX0_rests at hf
  refine lv_aload_n hx hb dX0_rests_0 rfl (lv_at hl 0 rfl) ?_
  refine lv_iload_n hx hb dX0_rests_1 rfl (lv_at hl 1 rfl) ?_
  obtain ⟨w_2, h_2, hf⟩ := bind_e hf
  refine g_calli (vs := [.int x1]) (rest := []) C hX hT (A_new hA0) (Cut.all (D_nd hT.2.1) ((wC_fst d a ja _).trans (wC_fst d a ja t0).symm)) (Ro := (fun P => JAt d ja j P ∧ RAt d (a 3) r P)) ⟨hJ.step hT.2.2 (A_full hA0 hT.2.2.1), hR.2.step hT.2.2 (A_full hA0 hT.2.2.1)⟩ (fun sz => mX0_isRoad l D d sd a ja N j r  t0 x1 _ h_2 sz) (cwV 1 C.2.2.2.2 (lw_V q890 q892 qs26 q120 q893) rfl rfl rfl hdX0_isRoad ⟨Nat.le_of_ble_eq_true rfl, Nat.le_of_ble_eq_true rfl⟩) (g_recv hV (hT.atp 0 rfl) (ci := 1) rfl) rfl hl.1 rfl (Nat.le_of_ble_eq_true rfl) dX0_rests_2 ⟨Nat.zero_le _, Nat.zero_le _⟩ (fun H locs hT => ?_)
  refine lv_if_eq (tgt := 46) hx hb dX0_rests_5 (by decide) (fun hc => ?_) (fun hc => ?_)
  · have hf := ite_t hc hf
    refine lv_iconst (v := -1) hx hb dX0_rests_46 (by decide) ?_
    exact f_iret (wC d a ja) hA0 C hT hf hr hlocks dX0_rests_47
  · have hf := ite_f hc hf
    refine lv_aload_n hx hb dX0_rests_8 rfl (lv_at hl 0 rfl) ?_
    refine lv_iload_n hx hb dX0_rests_9 rfl (lv_at hl 2 rfl) ?_
    obtain ⟨w_10, h_10, hf⟩ := bind_e hf
    refine g_calli (vs := [.int x2]) (rest := []) C hX hT (A_new hA0) (Cut.all (D_nd hT.2.1) ((wC_fst d a ja _).trans (wC_fst d a ja w_2.2).symm)) (Ro := (fun P => JAt d ja j P ∧ RAt d (a 3) r P)) ⟨hJ.step hT.2.2 (A_full hA0 hT.2.2.1), hR.2.step hT.2.2 (A_full hA0 hT.2.2.1)⟩ (fun sz => mX0_isRoad l D d sd a ja N j r  w_2.2 x2 _ h_10 sz) (cwV 1 C.2.2.2.2 (lw_V q890 q892 qs26 q120 q893) rfl rfl rfl hdX0_isRoad ⟨Nat.le_of_ble_eq_true rfl, Nat.le_of_ble_eq_true rfl⟩) (g_recv hV (hT.atp 0 rfl) (ci := 1) rfl) rfl hl.1 rfl (Nat.le_of_ble_eq_true rfl) dX0_rests_10 ⟨Nat.zero_le _, Nat.zero_le _⟩ (fun H locs hT => ?_)
    refine lv_if_eq (tgt := 46) hx hb dX0_rests_13 (by decide) (fun hc => ?_) (fun hc => ?_)
    · have hf := ite_t hc hf
      refine lv_iconst (v := -1) hx hb dX0_rests_46 (by decide) ?_
      exact f_iret (wC d a ja) hA0 C hT hf hr hlocks dX0_rests_47
    · have hf := ite_f hc hf
      refine lv_iload_n hx hb dX0_rests_16 rfl (lv_at hl 1 rfl) ?_
      refine lv_iload_n hx hb dX0_rests_17 rfl (lv_at hl 2 rfl) ?_
      refine lv_icmp_eq (tgt := 46) hx hb dX0_rests_18 (by decide) (fun hc => ?_) (fun hc => ?_)
      · have hf := ite_t hc hf
        refine lv_iconst (v := -1) hx hb dX0_rests_46 (by decide) ?_
        exact f_iret (wC d a ja) hA0 C hT hf hr hlocks dX0_rests_47
      · have hf := ite_f hc hf
        refine lv_iload_n hx hb dX0_rests_21 rfl (lv_at hl 3 rfl) ?_
        refine lv_i2l hx hb dX0_rests_22 rfl ?_
        refine lv_lconst (v := 1) hx hb dX0_rests_23 (by decide) ?_
        refine g_ldc2 (v := 20) C q1032 dX0_rests_24 ?_
        obtain ⟨w_27, h_27, hf⟩ := bind_e hf
        refine s_calli (vs := [.long (x3).toInt64, .long (1 : Int64), .long (20 : Int64)]) (rest := []) C (A_new hA0) hT (fun sz => mX0_in l N (x3).toInt64 (1 : Int64) (20 : Int64) _ h_27 sz) (va_cwS 3 C.2.2.2.2 (lw_S q885 q518 q120 q519) rfl rfl rfl hdX0_in ⟨Nat.le_of_ble_eq_true rfl, Nat.le_of_ble_eq_true rfl⟩) rfl hl.1 rfl (Nat.le_of_ble_eq_true rfl) dX0_rests_27 ⟨Nat.zero_le _, Nat.zero_le _⟩ (fun H locs hT => ?_)
        refine lv_if_eq (tgt := 46) hx hb dX0_rests_30 (by decide) (fun hc => ?_) (fun hc => ?_)
        · have hf := ite_t hc hf
          refine lv_iconst (v := -1) hx hb dX0_rests_46 (by decide) ?_
          exact f_iret (wC d a ja) hA0 C hT hf hr hlocks dX0_rests_47
        · have hf := ite_f hc hf
          refine lv_iload hx hb dX0_rests_33 (lv_at hl 4 rfl) ?_
          refine lv_i2l hx hb dX0_rests_35 rfl ?_
          refine lv_lconst (v := 0) hx hb dX0_rests_36 (by decide) ?_
          refine g_ldc2 (v := 2) C q1050 dX0_rests_37 ?_
          obtain ⟨w_40, h_40, hf⟩ := bind_e hf
          refine s_calli (vs := [.long (x4).toInt64, .long (0 : Int64), .long (2 : Int64)]) (rest := []) C (A_new hA0) hT (fun sz => mX0_in l N (x4).toInt64 (0 : Int64) (2 : Int64) _ h_40 sz) (va_cwS 3 C.2.2.2.2 (lw_S q885 q518 q120 q519) rfl rfl rfl hdX0_in ⟨Nat.le_of_ble_eq_true rfl, Nat.le_of_ble_eq_true rfl⟩) rfl hl.1 rfl (Nat.le_of_ble_eq_true rfl) dX0_rests_40 ⟨Nat.zero_le _, Nat.zero_le _⟩ (fun H locs hT => ?_)
          refine lv_if_ne (tgt := 48) hx hb dX0_rests_43 (by decide) (fun hc => ?_) (fun hc => ?_)
          · have hf := ite_t hc hf
            refine lv_iconst (v := 0) hx hb dX0_rests_48 (by decide) ?_
            refine lv_istore (lv' := [(5, .int (0 : Int32)), (0, .ref (a 32)), (1, .int x1), (2, .int x2), (3, .int x3), (4, .int x4)]) hx hb dX0_rests_49 hl (by decide) rfl (fun ls hl => ?_)
            refine hL51 _ (fun t x4 H locs ls hT hl hf => ?_) N w_10.2 x1 x2 x3 x4 (0 : Int32) _ _ _ hT (lv_sub hl [1, 2, 3, 4, 5, 0] rfl) hf
            refine lv_iconst (v := 0) hx hb dX0_rests_138 (by decide) ?_
            refine lv_istore (lv' := [(5, .int (0 : Int32)), (0, .ref (a 32)), (4, .int x4)]) hx hb dX0_rests_139 hl (by decide) rfl (fun ls hl => ?_)
            refine lv_iconst (v := -1) hx hb dX0_rests_141 (by decide) ?_
            refine lv_istore (lv' := [(6, .int (-1 : Int32)), (5, .int (0 : Int32)), (0, .ref (a 32)), (4, .int x4)]) hx hb dX0_rests_142 hl (by decide) rfl (fun ls hl => ?_)
            refine lv_iconst (v := 0) hx hb dX0_rests_144 (by decide) ?_
            refine lv_istore (lv' := [(7, .int (0 : Int32)), (6, .int (-1 : Int32)), (5, .int (0 : Int32)), (0, .ref (a 32)), (4, .int x4)]) hx hb dX0_rests_145 hl (by decide) rfl (fun ls hl => ?_)
            refine hL147 _ (fun t x4 x5 x6 H locs ls hT hl hf => ?_) N t x4 (0 : Int32) (-1 : Int32) (0 : Int32) _ _ _ hT (lv_sub hl [3, 4, 2, 1, 0] rfl) hf
            refine lv_iload hx hb dX0_rests_189 (lv_at hl 0 rfl) ?_
            refine lv_if_ne (tgt := 197) hx hb dX0_rests_191 (by decide) (fun hc => ?_) (fun hc => ?_)
            · have hf := ite_t hc hf
              refine lv_iload hx hb dX0_rests_197 (lv_at hl 2 rfl) ?_
              refine lv_iconst (v := -1) hx hb dX0_rests_199 (by decide) ?_
              refine lv_icmp_ne (tgt := 208) hx hb dX0_rests_200 (by decide) (fun hc => ?_) (fun hc => ?_)
              · have hf := ite_t hc hf
                refine lv_iconst (v := 1) hx hb dX0_rests_208 (by decide) ?_
                refine lv_iconst (v := 2) hx hb dX0_rests_209 (by decide) ?_
                refine lv_iload hx hb dX0_rests_210 (lv_at hl 0 rfl) ?_
                refine lv_iconst (v := 1) hx hb dX0_rests_212 (by decide) ?_
                refine lv_icmp_ne (tgt := 223) hx hb dX0_rests_213 (by decide) (fun hc => ?_) (fun hc => ?_)
                · have hf := ite_t hc hf
                  refine lv_iload hx hb dX0_rests_223 (lv_at hl 2 rfl) ?_
                  refine lv_iconst (v := 5) hx hb dX0_rests_225 (by decide) ?_
                  refine g_irem hx hb dX0_rests_226 (by decide) ?_
                  exact hJ227 t (irem x6 (5 : Int32)) (2 : Int32) (1 : Int32) _ _ _ hT (lv_sub hl [] rfl) hf
                · have hf := ite_f (fun q => q hc) hf
                  refine lv_iload hx hb dX0_rests_216 (lv_at hl 2 rfl) ?_
                  refine lv_iconst (v := 5) hx hb dX0_rests_218 (by decide) ?_
                  refine lv_idiv hx hb dX0_rests_219 (by decide) ?_
                  refine lv_goto (tgt := 227) hx hb dX0_rests_220 (by decide) ?_
                  exact hJ227 t (x6 / (5 : Int32)) (2 : Int32) (1 : Int32) _ _ _ hT (lv_sub hl [] rfl) hf
              · have hf := ite_f (fun q => q hc) hf
                refine lv_bipush (v := -2) hx hb dX0_rests_203 (by decide) ?_
                refine lv_goto (tgt := 229) hx hb dX0_rests_205 (by decide) ?_
                exact f_iret (wC d a ja) hA0 C hT hf hr hlocks dX0_rests_229
            · have hf := ite_f (fun q => q hc) hf
              refine lv_iload hx hb dX0_rests_194 (lv_at hl 1 rfl) ?_
              exact f_iret (wC d a ja) hA0 C hT hf hr hlocks dX0_rests_196
          · have hf := ite_f (fun q => q hc) hf
            refine lv_iconst (v := -1) hx hb dX0_rests_46 (by decide) ?_
            exact f_iret (wC d a ja) hA0 C hT hf hr hlocks dX0_rests_47
def fX0_areAlike_B18 (N : Nat) (j : JS) (r : RS) (K : CS → Option (Int32 × CS)) (kb : CS → Int32 → Int32 → Int32 → Option (Int32 × CS)) (t : CS) (x1 : Int32) (x2 : Int32) (x3 : Int32) : Option (Int32 × CS) :=
  (if (6 : Int32) ≤ x3 then (K t) else (ix (((6 : Int32) * x1) + x3) 366 (ix (((6 : Int32) * x2) + x3) 366 (if (t.2.1 29 ((((6 : Int32) * x1) + x3)).toNatClampNeg) = (t.2.1 29 ((((6 : Int32) * x2) + x3)).toNatClampNeg) then (lett (x3 + (1 : Int32)) fun x3_51 => (kb t x1 x2 x3_51)) else (some ((0 : Int32), t))))))
def fX0_areAlike_L18 (N : Nat) (j : JS) (r : RS) (K : CS → Option (Int32 × CS)) : Nat → CS → Int32 → Int32 → Int32 → Option (Int32 × CS)
  | 0 => fun _ _ _ _ => none
  | n + 1 => fun t x1 x2 x3 => fX0_areAlike_B18 N j r K (fX0_areAlike_L18 N j r K n) t x1 x2 x3
def fX0_areAlike (N : Nat) (j : JS) (r : RS) (t0 : CS) (x1 : Int32) (x2 : Int32) : Option (Int32 × CS) :=
  (nz (j.1 3) (if (irem (x2 - x1) (j.1 3)) = 0 then (fX0_areAlike_L18 N j r (fun t => (some ((1 : Int32), t))) N t0 x1 x2 (0 : Int32)) else (some ((0 : Int32), t0))))
theorem hdX0_areAlike : yX0_areAlike.cls = RX0 ∧ yX0_areAlike.cls ≠ "java/lang/invoke/MethodHandle" ∧ yX0_areAlike.cls ≠ "java/lang/invoke/VarHandle" ∧ (parseMethodDescriptor yX0_areAlike.desc).map (fun d => d.parameters.length) = some 2 := by decide +kernel
set_option maxHeartbeats 4000000 in
theorem mX0_areAlike (l : Launch) (D : va_G) (d : Nat → ClassId) (sd : Nat) (a : Nat → Nat) (ja : Nat → Nat) (N : Nat) (j : JS) (r : RS) (t0 : CS) (x1 : Int32) (x2 : Int32) (w : Int32 × CS) (hf : fX0_areAlike N j r t0 x1 x2 = some w) (sz : Nat) : Met l yX0_areAlike (ws_ yX0_areAlike cX0_areAlike 4 (some .boolean)) (rm_ 0 0) (GPc D d sd [.ref (a 32), .int x1, .int x2] (wC d a ja t0) (fun P => JAt d ja j P ∧ RAt d (a 3) r P) sz) (GQi D w.1 (wC d a ja w.2) (wC d a ja t0) sz) 0 0 (va_A (wC d a ja t0) sz) := by
  refine Met.ofW (cc := cX0_areAlike) (maxL := 4) (ret := (some .boolean)) plX0 rfl ?_
  intro p e s m args below meth c s₁ B hml hv
  obtain ⟨C, hX, hR, hT, hr, hlocks, hargs, rfl⟩ := g_enter (own := RX0) B hml rfl hv
  have hx := C.1
  have hb := C.2.1
  have hV := hX.1
  obtain ⟨A, hA0⟩ : ∃ A, A = va_A (wC d a ja t0) s.heap.size := ⟨_, rfl⟩
  rw [← hA0] at hX hR hT
  show W p l e (rm_ 0 0) s m args below meth c s.heap [] 0 0 (MQ below (GQi D w.1 (wC d a ja w.2) (wC d a ja t0) s.heap.size) args s 0 0 (va_A (wC d a ja t0) s.heap.size)) _
  rw [← hA0]
  have hJ := hR.1
  obtain ⟨rmc, rel, rcap, rf, hrl, hrel, hrc, hrg⟩ := hR.2.unpack
  have hL18 : ∀ (K : CS → Option (Int32 × CS)), (∀ (t : CS) (H : Heap) (locs : List Loc) (ls : Array Slot), TH D A s.heap (wC d a ja t) H locs → lv_has ls 4 [] → K t = some w → W p l e (rm_ 0 0) s m args below meth c H locs 0 0 (MQ below (GQi D w.1 (wC d a ja w.2) (wC d a ja t0) s.heap.size) args s 0 0 A) (F0 m 57 ls [])) → ∀ (n : Nat) (t : CS) (x1 : Int32) (x2 : Int32) (x3 : Int32) (H : Heap) (locs : List Loc) (ls : Array Slot), TH D A s.heap (wC d a ja t) H locs → lv_has ls 4 [(0, .ref (a 32)), (1, .int x1), (2, .int x2), (3, .int x3)] → fX0_areAlike_L18 N j r K n t x1 x2 x3 = some w → W p l e (rm_ 0 0) s m args below meth c H locs 0 0 (MQ below (GQi D w.1 (wC d a ja w.2) (wC d a ja t0) s.heap.size) args s 0 0 A) (F0 m 18 ls []) := by
    intro K hE n
    induction n with
    | zero =>
      intro t x1 x2 x3 H locs ls hT hl hf
      cases hf
    | succ n ih =>
      intro t x1 x2 x3 H locs ls hT hl hf
      replace hf : fX0_areAlike_B18 N j r K (fX0_areAlike_L18 N j r K n) t x1 x2 x3 = some w := hf
      unfold fX0_areAlike_B18 at hf
      refine lv_iload_n hx hb dX0_areAlike_18 rfl (lv_at hl 3 rfl) ?_
      refine lv_bipush (v := 6) hx hb dX0_areAlike_19 (by decide) ?_
      refine lv_icmp_ge (tgt := 57) hx hb dX0_areAlike_21 (by decide) (fun hc => ?_) (fun hc => ?_)
      · have hf := ite_t hc hf
        exact hE t _ _ _ hT (lv_sub hl [] rfl) hf
      · have hf := ite_f hc hf
        refine lv_aload_n hx hb dX0_areAlike_24 rfl (lv_at hl 0 rfl) ?_
        refine r_get C hV (hT.atp 0 rfl) (ci := 1) rfl in_X0 29 (by decide) q374 rfl dX0_areAlike_25 ?_
        refine lv_bipush (v := 6) hx hb dX0_areAlike_28 (by decide) ?_
        refine lv_iload_n hx hb dX0_areAlike_30 rfl (lv_at hl 1 rfl) ?_
        refine lv_imul hx hb dX0_areAlike_31 ?_
        refine lv_iload_n hx hb dX0_areAlike_32 rfl (lv_at hl 3 rfl) ?_
        refine lv_iadd hx hb dX0_areAlike_33 ?_
        obtain ⟨hi, hf⟩ := ix_e hf
        refine r_ild C hV (hT.atp 14 rfl) _ hi rfl dX0_areAlike_34 ?_
        refine lv_aload_n hx hb dX0_areAlike_35 rfl (lv_at hl 0 rfl) ?_
        refine r_get C hV (hT.atp 0 rfl) (ci := 1) rfl in_X0 29 (by decide) q374 rfl dX0_areAlike_36 ?_
        refine lv_bipush (v := 6) hx hb dX0_areAlike_39 (by decide) ?_
        refine lv_iload_n hx hb dX0_areAlike_41 rfl (lv_at hl 2 rfl) ?_
        refine lv_imul hx hb dX0_areAlike_42 ?_
        refine lv_iload_n hx hb dX0_areAlike_43 rfl (lv_at hl 3 rfl) ?_
        refine lv_iadd hx hb dX0_areAlike_44 ?_
        obtain ⟨hi, hf⟩ := ix_e hf
        refine r_ild C hV (hT.atp 14 rfl) _ hi rfl dX0_areAlike_45 ?_
        refine lv_icmp_eq (tgt := 51) hx hb dX0_areAlike_46 (by decide) (fun hc => ?_) (fun hc => ?_)
        · have hf := ite_t hc hf
          obtain ⟨x3_51, ex⟩ : ∃ y : Int32, y = (x3 + (1 : Int32)) := ⟨_, rfl⟩
          have hf := lett_e ex hf
          refine lv_iinc (v := x3_51) (lv' := [(3, .int x3_51), (0, .ref (a 32)), (1, .int x1), (2, .int x2)]) hx hb dX0_areAlike_51 hl (k := 3) rfl (by rw [ex]; rfl) (by decide) rfl (fun ls hl => ?_)
          refine lv_goto (tgt := 18) hx hb dX0_areAlike_54 (by decide) ?_
          exact ih t x1 x2 x3_51 _ _ _ hT (lv_sub hl [1, 2, 3, 0] rfl) hf
        · have hf := ite_f hc hf
          refine lv_iconst (v := 0) hx hb dX0_areAlike_49 (by decide) ?_
          exact f_zret (wC d a ja) hA0 C hT hf (Or.inl rfl) hr hlocks dX0_areAlike_50
  refine W.eq (by rw [hargs]) (t_in (vs := [.ref (a 32), .int x1, .int x2]) (n := 4) (Nat.le_of_ble_eq_true rfl) (fun ls hl => ?_))
  have hl : lv_has ls 4 [(0, .ref (a 32)), (1, .int x1), (2, .int x2)] := hl
  unfold fX0_areAlike at hf
  refine lv_iload_n hx hb dX0_areAlike_0 rfl (lv_at hl 2 rfl) ?_
  refine lv_iload_n hx hb dX0_areAlike_1 rfl (lv_at hl 1 rfl) ?_
  refine lv_isub hx hb dX0_areAlike_2 ?_
  refine lv_aload_n hx hb dX0_areAlike_3 rfl (lv_at hl 0 rfl) ?_
  refine r_get C hV (hT.atp 0 rfl) (ci := 1) rfl in_X0 0 (by decide) q334 rfl dX0_areAlike_4 ?_
  refine r_getN C hV hX.2.1 (hJ.1.at hT.2.2) (ci := 3) rfl in_X1 3 (by decide) q205 rfl dX0_areAlike_7 ?_
  obtain ⟨hn, hf⟩ := nz_e hf
  refine g_irem hx hb dX0_areAlike_10 hn ?_
  refine lv_if_eq (tgt := 16) hx hb dX0_areAlike_11 (by decide) (fun hc => ?_) (fun hc => ?_)
  · have hf := ite_t hc hf
    refine lv_iconst (v := 0) hx hb dX0_areAlike_16 (by decide) ?_
    refine lv_istore_n (lv' := [(3, .int (0 : Int32)), (0, .ref (a 32)), (1, .int x1), (2, .int x2)]) hx hb dX0_areAlike_17 rfl hl (by decide) rfl (fun ls hl => ?_)
    refine hL18 _ (fun t H locs ls hT hl hf => ?_) N t0 x1 x2 (0 : Int32) _ _ _ hT (lv_sub hl [1, 2, 3, 0] rfl) hf
    refine lv_iconst (v := 1) hx hb dX0_areAlike_57 (by decide) ?_
    exact f_zret (wC d a ja) hA0 C hT hf (Or.inr rfl) hr hlocks dX0_areAlike_58
  · have hf := ite_f hc hf
    refine lv_iconst (v := 0) hx hb dX0_areAlike_14 (by decide) ?_
    exact f_zret (wC d a ja) hA0 C hT hf (Or.inl rfl) hr hlocks dX0_areAlike_15
def fX0_ring_B40 (N : Nat) (j : JS) (r : RS) (K : CS → Int32 → Int32 → Option (Int32 × CS)) (kb : CS → Int32 → Int32 → Int32 → Option (Int32 × CS)) (t : CS) (x1 : Int32) (x2 : Int32) (x3 : Int32) : Option (Int32 × CS) :=
  (if (6 : Int32) ≤ x3 then (K t x1 x2) else (ix x3 6 (ix (((6 : Int32) * x2) + x3) 366 (lett (csA t 29 ((((6 : Int32) * x2) + x3)).toNatClampNeg ((t.2.2.2 1).1 0 (x3).toNatClampNeg)) fun t_65 => (lett (x3 + (1 : Int32)) fun x3_66 => (kb t_65 x1 x2 x3_66))))))
def fX0_ring_L40 (N : Nat) (j : JS) (r : RS) (K : CS → Int32 → Int32 → Option (Int32 × CS)) : Nat → CS → Int32 → Int32 → Int32 → Option (Int32 × CS)
  | 0 => fun _ _ _ _ => none
  | n + 1 => fun t x1 x2 x3 => fX0_ring_B40 N j r K (fX0_ring_L40 N j r K n) t x1 x2 x3
def fX0_ring_B32 (N : Nat) (j : JS) (r : RS) (K : CS → Int32 → Option (Int32 × CS)) (kb : CS → Int32 → Int32 → Option (Int32 × CS)) (t : CS) (x1 : Int32) (x2 : Int32) : Option (Int32 × CS) :=
  (if (60 : Int32) < x2 then (K t x1) else (fX0_ring_L40 N j r (fun t x1 x2 => ((fX0_goesOn N j r 1 t ).bind fun w_77 => (lett (x2 + (1 : Int32)) fun x2_81 => (kb w_77.2 x1 x2_81)))) N t x1 x2 (0 : Int32)))
def fX0_ring_L32 (N : Nat) (j : JS) (r : RS) (K : CS → Int32 → Option (Int32 × CS)) : Nat → CS → Int32 → Int32 → Option (Int32 × CS)
  | 0 => fun _ _ _ => none
  | n + 1 => fun t x1 x2 => fX0_ring_B32 N j r K (fX0_ring_L32 N j r K n) t x1 x2
def fX0_ring_B99 (N : Nat) (j : JS) (r : RS) (K : CS → Int32 → Int32 → Option (Int32 × CS)) (kb : CS → Int32 → Int32 → Int32 → Option (Int32 × CS)) (t : CS) (x1 : Int32) (x2 : Int32) (x3 : Int32) : Option (Int32 × CS) :=
  (if (60 : Int32) < x3 then (K t x1 x2) else ((fX0_areAlike N j r  t x2 x3).bind fun w_108 => (if w_108.1 = 0 then (lett (x3 + (1 : Int32)) fun x3_134 => (kb w_108.2 x1 x2 x3_134)) else (if ¬ x1 = 0 then (some ((x3 - x2), w_108.2)) else (some ((((w_108.2.2.2.2 0).2 8) + x2), w_108.2))))))
def fX0_ring_L99 (N : Nat) (j : JS) (r : RS) (K : CS → Int32 → Int32 → Option (Int32 × CS)) : Nat → CS → Int32 → Int32 → Int32 → Option (Int32 × CS)
  | 0 => fun _ _ _ _ => none
  | n + 1 => fun t x1 x2 x3 => fX0_ring_B99 N j r K (fX0_ring_L99 N j r K n) t x1 x2 x3
def fX0_ring_B89 (N : Nat) (j : JS) (r : RS) (K : CS → Option (Int32 × CS)) (kb : CS → Int32 → Int32 → Option (Int32 × CS)) (t : CS) (x1 : Int32) (x2 : Int32) : Option (Int32 × CS) :=
  (if (60 : Int32) ≤ x2 then (K t) else (lett (x2 + (1 : Int32)) fun x3_98 => (fX0_ring_L99 N j r (fun t x1 x2 => (lett (x2 + (1 : Int32)) fun x2_140 => (kb t x1 x2_140))) N t x1 x2 x3_98)))
def fX0_ring_L89 (N : Nat) (j : JS) (r : RS) (K : CS → Option (Int32 × CS)) : Nat → CS → Int32 → Int32 → Option (Int32 × CS)
  | 0 => fun _ _ _ => none
  | n + 1 => fun t x1 x2 => fX0_ring_B89 N j r K (fX0_ring_L89 N j r K n) t x1 x2
def fX0_ring (N : Nat) (j : JS) (r : RS) (t0 : CS) (x1 : Int32) : Option (Int32 × CS) :=
  ((fX0_isJunction N j r  t0 ).bind fun w_1 => (if w_1.1 = 0 then (some ((-1 : Int32), w_1.2)) else ((fX0_in N (x1).toInt64 (0 : Int64) (1 : Int64)).bind fun w_11 => (if ¬ w_11 = 0 then ((fX2_copyFrom N (w_1.2.2.2.2 0) (w_1.2.2.2.2 1) ).bind fun w_27 => (lett (csS w_1.2 1 w_27) fun t_27 => (fX0_ring_L32 N j r (fun t x1 => (fX0_ring_L89 N j r (fun t => (some ((-2 : Int32), t))) N t x1 (0 : Int32))) N t_27 x1 (0 : Int32)))) else (some ((-1 : Int32), w_1.2))))))
theorem hdX0_ring : yX0_ring.cls = RX0 ∧ yX0_ring.cls ≠ "java/lang/invoke/MethodHandle" ∧ yX0_ring.cls ≠ "java/lang/invoke/VarHandle" ∧ (parseMethodDescriptor yX0_ring.desc).map (fun d => d.parameters.length) = some 1 := by decide +kernel
set_option maxHeartbeats 4000000 in
theorem mX0_ring (l : Launch) (D : va_G) (d : Nat → ClassId) (sd : Nat) (a : Nat → Nat) (ja : Nat → Nat) (N : Nat) (j : JS) (r : RS) (t0 : CS) (x1 : Int32) (w : Int32 × CS) (hf : fX0_ring N j r t0 x1 = some w) (sz : Nat) : Met l yX0_ring (ws_ yX0_ring cX0_ring 4 (some .int)) (rm_ 264 8092) (GPc D d sd [.ref (a 32), .int x1] (wC d a ja t0) (fun P => JAt d ja j P ∧ RAt d (a 3) r P) sz) (GQi D w.1 (wC d a ja w.2) (wC d a ja t0) sz) 0 0 (va_A (wC d a ja t0) sz) := by
  refine Met.ofW (cc := cX0_ring) (maxL := 4) (ret := (some .int)) plX0 rfl ?_
  intro p e s m args below meth c s₁ B hml hv
  obtain ⟨C, hX, hR, hT, hr, hlocks, hargs, rfl⟩ := g_enter (own := RX0) B hml rfl hv
  have hx := C.1
  have hb := C.2.1
  have hV := hX.1
  obtain ⟨A, hA0⟩ : ∃ A, A = va_A (wC d a ja t0) s.heap.size := ⟨_, rfl⟩
  rw [← hA0] at hX hR hT
  show W p l e (rm_ 264 8092) s m args below meth c s.heap [] 0 0 (MQ below (GQi D w.1 (wC d a ja w.2) (wC d a ja t0) s.heap.size) args s 0 0 (va_A (wC d a ja t0) s.heap.size)) _
  rw [← hA0]
  have hJ := hR.1
  obtain ⟨rmc, rel, rcap, rf, hrl, hrel, hrc, hrg⟩ := hR.2.unpack
  have hL32 : ∀ (K : CS → Int32 → Option (Int32 × CS)), (∀ (t : CS) (x1 : Int32) (H : Heap) (locs : List Loc) (ls : Array Slot), TH D A s.heap (wC d a ja t) H locs → lv_has ls 4 [(0, .ref (a 32)), (1, .int x1)] → K t x1 = some w → W p l e (rm_ 264 8092) s m args below meth c H locs 0 0 (MQ below (GQi D w.1 (wC d a ja w.2) (wC d a ja t0) s.heap.size) args s 0 0 A) (F0 m 87 ls [])) → ∀ (n : Nat) (t : CS) (x1 : Int32) (x2 : Int32) (H : Heap) (locs : List Loc) (ls : Array Slot), TH D A s.heap (wC d a ja t) H locs → lv_has ls 4 [(0, .ref (a 32)), (1, .int x1), (2, .int x2)] → fX0_ring_L32 N j r K n t x1 x2 = some w → W p l e (rm_ 264 8092) s m args below meth c H locs 0 0 (MQ below (GQi D w.1 (wC d a ja w.2) (wC d a ja t0) s.heap.size) args s 0 0 A) (F0 m 32 ls []) := by
    intro K hE n
    induction n with
    | zero =>
      intro t x1 x2 H locs ls hT hl hf
      cases hf
    | succ n ih =>
      have hL40 : ∀ (K : CS → Int32 → Int32 → Option (Int32 × CS)), (∀ (t : CS) (x1 : Int32) (x2 : Int32) (H : Heap) (locs : List Loc) (ls : Array Slot), TH D A s.heap (wC d a ja t) H locs → lv_has ls 4 [(0, .ref (a 32)), (1, .int x1), (2, .int x2)] → K t x1 x2 = some w → W p l e (rm_ 264 8092) s m args below meth c H locs 0 0 (MQ below (GQi D w.1 (wC d a ja w.2) (wC d a ja t0) s.heap.size) args s 0 0 A) (F0 m 72 ls [])) → ∀ (n : Nat) (t : CS) (x1 : Int32) (x2 : Int32) (x3 : Int32) (H : Heap) (locs : List Loc) (ls : Array Slot), TH D A s.heap (wC d a ja t) H locs → lv_has ls 4 [(0, .ref (a 32)), (1, .int x1), (2, .int x2), (3, .int x3)] → fX0_ring_L40 N j r K n t x1 x2 x3 = some w → W p l e (rm_ 264 8092) s m args below meth c H locs 0 0 (MQ below (GQi D w.1 (wC d a ja w.2) (wC d a ja t0) s.heap.size) args s 0 0 A) (F0 m 40 ls []) := by
        intro K hE n
        induction n with
        | zero =>
          intro t x1 x2 x3 H locs ls hT hl hf
          cases hf
        | succ n ih =>
          intro t x1 x2 x3 H locs ls hT hl hf
          replace hf : fX0_ring_B40 N j r K (fX0_ring_L40 N j r K n) t x1 x2 x3 = some w := hf
          unfold fX0_ring_B40 at hf
          refine lv_iload_n hx hb dX0_ring_40 rfl (lv_at hl 3 rfl) ?_
          refine lv_bipush (v := 6) hx hb dX0_ring_41 (by decide) ?_
          refine lv_icmp_ge (tgt := 72) hx hb dX0_ring_43 (by decide) (fun hc => ?_) (fun hc => ?_)
          · have hf := ite_t hc hf
            exact hE t x1 x2 _ _ _ hT (lv_sub hl [0, 1, 2] rfl) hf
          · have hf := ite_f hc hf
            refine lv_aload_n hx hb dX0_ring_46 rfl (lv_at hl 0 rfl) ?_
            refine r_get C hV (hT.atp 0 rfl) (ci := 1) rfl in_X0 29 (by decide) q374 rfl dX0_ring_47 ?_
            refine lv_bipush (v := 6) hx hb dX0_ring_50 (by decide) ?_
            refine lv_iload_n hx hb dX0_ring_52 rfl (lv_at hl 2 rfl) ?_
            refine lv_imul hx hb dX0_ring_53 ?_
            refine lv_iload_n hx hb dX0_ring_54 rfl (lv_at hl 3 rfl) ?_
            refine lv_iadd hx hb dX0_ring_55 ?_
            refine lv_aload_n hx hb dX0_ring_56 rfl (lv_at hl 0 rfl) ?_
            refine r_get C hV (hT.atp 0 rfl) (ci := 1) rfl in_X0 2 (by decide) q337 rfl dX0_ring_57 ?_
            refine r_getN C hV hX.2.1 (hT.ats (i := 1) (by decide) 0 rfl) (ci := 2) rfl in_X2 0 (by decide) q228 rfl dX0_ring_60 ?_
            refine lv_iload_n hx hb dX0_ring_63 rfl (lv_at hl 3 rfl) ?_
            obtain ⟨hi, hf⟩ := ix_e hf
            refine r_ild C hV (hT.ats (i := 1) (by decide) 1 rfl) _ hi rfl dX0_ring_64 ?_
            obtain ⟨hi, hf⟩ := ix_e hf
            obtain ⟨t_65, et⟩ : ∃ y, y = (csA t 29 ((((6 : Int32) * x2) + x3)).toNatClampNeg ((t.2.2.2 1).1 0 (x3).toNatClampNeg)) := ⟨_, rfl⟩
            have hf := lett_e et hf
            refine w_ist (ws1 := (wC d a ja t_65)) C hV hT 14 _ rfl hi rfl (by rw [et]; exact upd_set hT.2.1 rfl (cast_29 d a ja t _ _)) dX0_ring_65 (fun H locs hT => ?_)
            obtain ⟨x3_66, ex⟩ : ∃ y : Int32, y = (x3 + (1 : Int32)) := ⟨_, rfl⟩
            have hf := lett_e ex hf
            refine lv_iinc (v := x3_66) (lv' := [(3, .int x3_66), (0, .ref (a 32)), (1, .int x1), (2, .int x2)]) hx hb dX0_ring_66 hl (k := 3) rfl (by rw [ex]; rfl) (by decide) rfl (fun ls hl => ?_)
            refine lv_goto (tgt := 40) hx hb dX0_ring_69 (by decide) ?_
            exact ih t_65 x1 x2 x3_66 _ _ _ hT (lv_sub hl [1, 2, 3, 0] rfl) hf
      intro t x1 x2 H locs ls hT hl hf
      replace hf : fX0_ring_B32 N j r K (fX0_ring_L32 N j r K n) t x1 x2 = some w := hf
      unfold fX0_ring_B32 at hf
      refine lv_iload_n hx hb dX0_ring_32 rfl (lv_at hl 2 rfl) ?_
      refine lv_bipush (v := 60) hx hb dX0_ring_33 (by decide) ?_
      refine lv_icmp_gt (tgt := 87) hx hb dX0_ring_35 (by decide) (fun hc => ?_) (fun hc => ?_)
      · have hf := ite_t hc hf
        exact hE t x1 _ _ _ hT (lv_sub hl [0, 1] rfl) hf
      · have hf := ite_f hc hf
        refine lv_iconst (v := 0) hx hb dX0_ring_38 (by decide) ?_
        refine lv_istore_n (lv' := [(3, .int (0 : Int32)), (0, .ref (a 32)), (1, .int x1), (2, .int x2)]) hx hb dX0_ring_39 rfl hl (by decide) rfl (fun ls hl => ?_)
        refine hL40 _ (fun t x1 x2 H locs ls hT hl hf => ?_) N t x1 x2 (0 : Int32) _ _ _ hT (lv_sub hl [1, 2, 3, 0] rfl) hf
        refine lv_aload_n hx hb dX0_ring_72 rfl (lv_at hl 0 rfl) ?_
        refine lv_aload_n hx hb dX0_ring_73 rfl (lv_at hl 0 rfl) ?_
        refine r_get C hV (hT.atp 0 rfl) (ci := 1) rfl in_X0 2 (by decide) q337 rfl dX0_ring_74 ?_
        obtain ⟨w_77, h_77, hf⟩ := bind_e hf
        refine g_calli (vs := [.ref (sa a 1 0)]) (rest := []) C hX hT (A_new hA0) (Cut.all (D_nd hT.2.1) ((wC_fst d a ja _).trans (wC_fst d a ja t).symm)) (Ro := (fun P => JAt d ja j P ∧ RAt d (a 3) r P)) ⟨hJ.step hT.2.2 (A_full hA0 hT.2.2.1), hR.2.step hT.2.2 (A_full hA0 hT.2.2.1)⟩ (fun sz => mX0_goesOn l D d sd a ja N j r 1 t  _ h_77 (by decide) sz) (cwV 1 C.2.2.2.2 (lw_V q932 q934 qs30 q120 q935) rfl rfl rfl hdX0_goesOn ⟨Nat.le_of_ble_eq_true rfl, Nat.le_of_ble_eq_true rfl⟩) (g_recv hV (hT.atp 0 rfl) (ci := 1) rfl) rfl hl.1 rfl (Nat.le_of_ble_eq_true rfl) dX0_ring_77 ⟨Nat.zero_le _, Nat.zero_le _⟩ (fun H locs hT => ?_)
        refine lv_pop hx hb dX0_ring_80 rfl ?_
        obtain ⟨x2_81, ex⟩ : ∃ y : Int32, y = (x2 + (1 : Int32)) := ⟨_, rfl⟩
        have hf := lett_e ex hf
        refine lv_iinc (v := x2_81) (lv' := [(2, .int x2_81), (0, .ref (a 32)), (1, .int x1)]) hx hb dX0_ring_81 hl (k := 2) rfl (by rw [ex]; rfl) (by decide) rfl (fun ls hl => ?_)
        refine lv_goto (tgt := 32) hx hb dX0_ring_84 (by decide) ?_
        exact ih w_77.2 x1 x2_81 _ _ _ hT (lv_sub hl [1, 2, 0] rfl) hf
  have hL89 : ∀ (K : CS → Option (Int32 × CS)), (∀ (t : CS) (H : Heap) (locs : List Loc) (ls : Array Slot), TH D A s.heap (wC d a ja t) H locs → lv_has ls 4 [] → K t = some w → W p l e (rm_ 264 8092) s m args below meth c H locs 0 0 (MQ below (GQi D w.1 (wC d a ja w.2) (wC d a ja t0) s.heap.size) args s 0 0 A) (F0 m 146 ls [])) → ∀ (n : Nat) (t : CS) (x1 : Int32) (x2 : Int32) (H : Heap) (locs : List Loc) (ls : Array Slot), TH D A s.heap (wC d a ja t) H locs → lv_has ls 4 [(0, .ref (a 32)), (1, .int x1), (2, .int x2)] → fX0_ring_L89 N j r K n t x1 x2 = some w → W p l e (rm_ 264 8092) s m args below meth c H locs 0 0 (MQ below (GQi D w.1 (wC d a ja w.2) (wC d a ja t0) s.heap.size) args s 0 0 A) (F0 m 89 ls []) := by
    intro K hE n
    induction n with
    | zero =>
      intro t x1 x2 H locs ls hT hl hf
      cases hf
    | succ n ih =>
      have hL99 : ∀ (K : CS → Int32 → Int32 → Option (Int32 × CS)), (∀ (t : CS) (x1 : Int32) (x2 : Int32) (H : Heap) (locs : List Loc) (ls : Array Slot), TH D A s.heap (wC d a ja t) H locs → lv_has ls 4 [(0, .ref (a 32)), (1, .int x1), (2, .int x2)] → K t x1 x2 = some w → W p l e (rm_ 264 8092) s m args below meth c H locs 0 0 (MQ below (GQi D w.1 (wC d a ja w.2) (wC d a ja t0) s.heap.size) args s 0 0 A) (F0 m 140 ls [])) → ∀ (n : Nat) (t : CS) (x1 : Int32) (x2 : Int32) (x3 : Int32) (H : Heap) (locs : List Loc) (ls : Array Slot), TH D A s.heap (wC d a ja t) H locs → lv_has ls 4 [(0, .ref (a 32)), (1, .int x1), (2, .int x2), (3, .int x3)] → fX0_ring_L99 N j r K n t x1 x2 x3 = some w → W p l e (rm_ 264 8092) s m args below meth c H locs 0 0 (MQ below (GQi D w.1 (wC d a ja w.2) (wC d a ja t0) s.heap.size) args s 0 0 A) (F0 m 99 ls []) := by
        intro K hE n
        induction n with
        | zero =>
          intro t x1 x2 x3 H locs ls hT hl hf
          cases hf
        | succ n ih =>
          intro t x1 x2 x3 H locs ls hT hl hf
          replace hf : fX0_ring_B99 N j r K (fX0_ring_L99 N j r K n) t x1 x2 x3 = some w := hf
          unfold fX0_ring_B99 at hf
          refine lv_iload_n hx hb dX0_ring_99 rfl (lv_at hl 3 rfl) ?_
          refine lv_bipush (v := 60) hx hb dX0_ring_100 (by decide) ?_
          refine lv_icmp_gt (tgt := 140) hx hb dX0_ring_102 (by decide) (fun hc => ?_) (fun hc => ?_)
          · have hf := ite_t hc hf
            exact hE t x1 x2 _ _ _ hT (lv_sub hl [0, 1, 2] rfl) hf
          · have hf := ite_f hc hf
            refine lv_aload_n hx hb dX0_ring_105 rfl (lv_at hl 0 rfl) ?_
            refine lv_iload_n hx hb dX0_ring_106 rfl (lv_at hl 2 rfl) ?_
            refine lv_iload_n hx hb dX0_ring_107 rfl (lv_at hl 3 rfl) ?_
            obtain ⟨w_108, h_108, hf⟩ := bind_e hf
            refine g_calli (vs := [.int x2, .int x3]) (rest := []) C hX hT (A_new hA0) (Cut.all (D_nd hT.2.1) ((wC_fst d a ja _).trans (wC_fst d a ja t).symm)) (Ro := (fun P => JAt d ja j P ∧ RAt d (a 3) r P)) ⟨hJ.step hT.2.2 (A_full hA0 hT.2.2.1), hR.2.step hT.2.2 (A_full hA0 hT.2.2.1)⟩ (fun sz => mX0_areAlike l D d sd a ja N j r  t x2 x3 _ h_108 sz) (cwV 2 C.2.2.2.2 (lw_V q1137 q1139 qs40 q120 q1140) rfl rfl rfl hdX0_areAlike ⟨Nat.le_of_ble_eq_true rfl, Nat.le_of_ble_eq_true rfl⟩) (g_recv hV (hT.atp 0 rfl) (ci := 1) rfl) rfl hl.1 rfl (Nat.le_of_ble_eq_true rfl) dX0_ring_108 ⟨Nat.zero_le _, Nat.zero_le _⟩ (fun H locs hT => ?_)
            refine lv_if_eq (tgt := 134) hx hb dX0_ring_111 (by decide) (fun hc => ?_) (fun hc => ?_)
            · have hf := ite_t hc hf
              obtain ⟨x3_134, ex⟩ : ∃ y : Int32, y = (x3 + (1 : Int32)) := ⟨_, rfl⟩
              have hf := lett_e ex hf
              refine lv_iinc (v := x3_134) (lv' := [(3, .int x3_134), (0, .ref (a 32)), (1, .int x1), (2, .int x2)]) hx hb dX0_ring_134 hl (k := 3) rfl (by rw [ex]; rfl) (by decide) rfl (fun ls hl => ?_)
              refine lv_goto (tgt := 99) hx hb dX0_ring_137 (by decide) ?_
              exact ih w_108.2 x1 x2 x3_134 _ _ _ hT (lv_sub hl [1, 2, 3, 0] rfl) hf
            · have hf := ite_f hc hf
              refine lv_iload_n hx hb dX0_ring_114 rfl (lv_at hl 1 rfl) ?_
              refine lv_if_ne (tgt := 130) hx hb dX0_ring_115 (by decide) (fun hc => ?_) (fun hc => ?_)
              · have hf := ite_t hc hf
                refine lv_iload_n hx hb dX0_ring_130 rfl (lv_at hl 3 rfl) ?_
                refine lv_iload_n hx hb dX0_ring_131 rfl (lv_at hl 2 rfl) ?_
                refine lv_isub hx hb dX0_ring_132 ?_
                exact f_iret (wC d a ja) hA0 C hT hf hr hlocks dX0_ring_133
              · have hf := ite_f (fun q => q hc) hf
                refine lv_aload_n hx hb dX0_ring_118 rfl (lv_at hl 0 rfl) ?_
                refine r_get C hV (hT.atp 0 rfl) (ci := 1) rfl in_X0 1 (by decide) q336 rfl dX0_ring_119 ?_
                refine r_getN C hV hX.2.1 (hT.ats (i := 0) (by decide) 0 rfl) (ci := 2) rfl in_X2 8 (by decide) q244 rfl dX0_ring_122 ?_
                refine lv_iload_n hx hb dX0_ring_125 rfl (lv_at hl 2 rfl) ?_
                refine lv_iadd hx hb dX0_ring_126 ?_
                refine lv_goto (tgt := 133) hx hb dX0_ring_127 (by decide) ?_
                exact f_iret (wC d a ja) hA0 C hT hf hr hlocks dX0_ring_133
      intro t x1 x2 H locs ls hT hl hf
      replace hf : fX0_ring_B89 N j r K (fX0_ring_L89 N j r K n) t x1 x2 = some w := hf
      unfold fX0_ring_B89 at hf
      refine lv_iload_n hx hb dX0_ring_89 rfl (lv_at hl 2 rfl) ?_
      refine lv_bipush (v := 60) hx hb dX0_ring_90 (by decide) ?_
      refine lv_icmp_ge (tgt := 146) hx hb dX0_ring_92 (by decide) (fun hc => ?_) (fun hc => ?_)
      · have hf := ite_t hc hf
        exact hE t _ _ _ hT (lv_sub hl [] rfl) hf
      · have hf := ite_f hc hf
        refine lv_iload_n hx hb dX0_ring_95 rfl (lv_at hl 2 rfl) ?_
        refine lv_iconst (v := 1) hx hb dX0_ring_96 (by decide) ?_
        refine lv_iadd hx hb dX0_ring_97 ?_
        refine lv_topi (fun x3_98 ex => ?_)
        have hf := lett_e ex hf
        refine lv_istore_n (lv' := [(3, .int x3_98), (0, .ref (a 32)), (1, .int x1), (2, .int x2)]) hx hb dX0_ring_98 rfl hl (by decide) rfl (fun ls hl => ?_)
        refine hL99 _ (fun t x1 x2 H locs ls hT hl hf => ?_) N t x1 x2 x3_98 _ _ _ hT (lv_sub hl [1, 2, 3, 0] rfl) hf
        obtain ⟨x2_140, ex⟩ : ∃ y : Int32, y = (x2 + (1 : Int32)) := ⟨_, rfl⟩
        have hf := lett_e ex hf
        refine lv_iinc (v := x2_140) (lv' := [(2, .int x2_140), (0, .ref (a 32)), (1, .int x1)]) hx hb dX0_ring_140 hl (k := 2) rfl (by rw [ex]; rfl) (by decide) rfl (fun ls hl => ?_)
        refine lv_goto (tgt := 89) hx hb dX0_ring_143 (by decide) ?_
        exact ih t x1 x2_140 _ _ _ hT (lv_sub hl [1, 2, 0] rfl) hf
  refine W.eq (by rw [hargs]) (t_in (vs := [.ref (a 32), .int x1]) (n := 4) (Nat.le_of_ble_eq_true rfl) (fun ls hl => ?_))
  have hl : lv_has ls 4 [(0, .ref (a 32)), (1, .int x1)] := hl
  unfold fX0_ring at hf
  refine lv_aload_n hx hb dX0_ring_0 rfl (lv_at hl 0 rfl) ?_
  obtain ⟨w_1, h_1, hf⟩ := bind_e hf
  refine g_calli (vs := []) (rest := []) C hX hT (A_new hA0) (Cut.all (D_nd hT.2.1) ((wC_fst d a ja _).trans (wC_fst d a ja t0).symm)) (Ro := (fun P => JAt d ja j P ∧ RAt d (a 3) r P)) ⟨hJ.step hT.2.2 (A_full hA0 hT.2.2.1), hR.2.step hT.2.2 (A_full hA0 hT.2.2.1)⟩ (fun sz => mX0_isJunction l D d sd a ja N j r  t0  _ h_1 sz) (cwV 0 C.2.2.2.2 (lw_V q923 q925 qs28 q120 q926) rfl rfl rfl hdX0_isJunction ⟨Nat.le_of_ble_eq_true rfl, Nat.le_of_ble_eq_true rfl⟩) (g_recv hV (hT.atp 0 rfl) (ci := 1) rfl) rfl hl.1 rfl (Nat.le_of_ble_eq_true rfl) dX0_ring_1 ⟨Nat.zero_le _, Nat.zero_le _⟩ (fun H locs hT => ?_)
  refine lv_if_eq (tgt := 17) hx hb dX0_ring_4 (by decide) (fun hc => ?_) (fun hc => ?_)
  · have hf := ite_t hc hf
    refine lv_iconst (v := -1) hx hb dX0_ring_17 (by decide) ?_
    exact f_iret (wC d a ja) hA0 C hT hf hr hlocks dX0_ring_18
  · have hf := ite_f hc hf
    refine lv_iload_n hx hb dX0_ring_7 rfl (lv_at hl 1 rfl) ?_
    refine lv_i2l hx hb dX0_ring_8 rfl ?_
    refine lv_lconst (v := 0) hx hb dX0_ring_9 (by decide) ?_
    refine lv_lconst (v := 1) hx hb dX0_ring_10 (by decide) ?_
    obtain ⟨w_11, h_11, hf⟩ := bind_e hf
    refine s_calli (vs := [.long (x1).toInt64, .long (0 : Int64), .long (1 : Int64)]) (rest := []) C (A_new hA0) hT (fun sz => mX0_in l N (x1).toInt64 (0 : Int64) (1 : Int64) _ h_11 sz) (va_cwS 3 C.2.2.2.2 (lw_S q885 q518 q120 q519) rfl rfl rfl hdX0_in ⟨Nat.le_of_ble_eq_true rfl, Nat.le_of_ble_eq_true rfl⟩) rfl hl.1 rfl (Nat.le_of_ble_eq_true rfl) dX0_ring_11 ⟨Nat.zero_le _, Nat.zero_le _⟩ (fun H locs hT => ?_)
    refine lv_if_ne (tgt := 19) hx hb dX0_ring_14 (by decide) (fun hc => ?_) (fun hc => ?_)
    · have hf := ite_t hc hf
      refine lv_aload_n hx hb dX0_ring_19 rfl (lv_at hl 0 rfl) ?_
      refine r_get C hV (hT.atp 0 rfl) (ci := 1) rfl in_X0 2 (by decide) q337 rfl dX0_ring_20 ?_
      refine lv_aload_n hx hb dX0_ring_23 rfl (lv_at hl 0 rfl) ?_
      refine r_get C hV (hT.atp 0 rfl) (ci := 1) rfl in_X0 1 (by decide) q336 rfl dX0_ring_24 ?_
      obtain ⟨w_27, h_27, hf⟩ := bind_e hf
      refine g_callv (vs := [.ref (sa a 0 0)]) (rest := []) C hX hT (A_new hA0) (wC_cutS hT.2.1 (by decide) _) (wC_frz hT (by decide) (by decide) ((by decide)) (w_1.2.2.2.2 1)) (fun sz => mX2_copyFrom l D d sd (sa a 1) (sa a 0) N (w_1.2.2.2.2 0) (w_1.2.2.2.2 1)  _ h_27 sz) (cwV 1 C.2.2.2.2 (lw_V q915 q916 q917 q125 q918) rfl rfl rfl hdX2_copyFrom ⟨Nat.le_of_ble_eq_true rfl, Nat.le_of_ble_eq_true rfl⟩) (g_recv hV (hT.ats (i := 1) (by decide) 0 rfl) (ci := 2) rfl) rfl hl.1 rfl (Nat.le_of_ble_eq_true rfl) dX0_ring_27 ⟨Nat.zero_le _, Nat.zero_le _⟩ (fun H locs hT => ?_)
      obtain ⟨t_27, et⟩ : ∃ y, y = (csS w_1.2 1 w_27) := ⟨_, rfl⟩
      rw [← et] at hT
      have hf := lett_e et hf
      refine lv_iconst (v := 0) hx hb dX0_ring_30 (by decide) ?_
      refine lv_istore_n (lv' := [(2, .int (0 : Int32)), (0, .ref (a 32)), (1, .int x1)]) hx hb dX0_ring_31 rfl hl (by decide) rfl (fun ls hl => ?_)
      refine hL32 _ (fun t x1 H locs ls hT hl hf => ?_) N t_27 x1 (0 : Int32) _ _ _ hT (lv_sub hl [1, 2, 0] rfl) hf
      refine lv_iconst (v := 0) hx hb dX0_ring_87 (by decide) ?_
      refine lv_istore_n (lv' := [(2, .int (0 : Int32)), (0, .ref (a 32)), (1, .int x1)]) hx hb dX0_ring_88 rfl hl (by decide) rfl (fun ls hl => ?_)
      refine hL89 _ (fun t H locs ls hT hl hf => ?_) N t x1 (0 : Int32) _ _ _ hT (lv_sub hl [1, 2, 0] rfl) hf
      refine lv_bipush (v := -2) hx hb dX0_ring_146 (by decide) ?_
      exact f_iret (wC d a ja) hA0 C hT hf hr hlocks dX0_ring_148
    · have hf := ite_f (fun q => q hc) hf
      refine lv_iconst (v := -1) hx hb dX0_ring_17 (by decide) ?_
      exact f_iret (wC d a ja) hA0 C hT hf hr hlocks dX0_ring_18
def fX0_pence_J143 (N : Nat) (j : JS) (r : RS) (K : CS → Int32 → Int32 → Int32 → Int64 → Option (Int32 × CS)) (kb : CS → Int32 → Int32 → Int32 → Int32 → Int32 → Int64 → Int32 → Option (Int32 × CS)) (t : CS) (x1 : Int32) (x2 : Int32) (x3 : Int32) (x4 : Int32) (x6 : Int64) (x8 : Int32) (s0 : Int32) (s1 : Int32) : Option (Int32 × CS) :=
  ((fX0_bit N s0).bind fun w_143 => (lett (s1 + w_143) fun x5_147 => (lett (x8 + (1 : Int32)) fun x8_149 => (kb t x1 x2 x3 x4 x5_147 x6 x8_149))))
def fX0_pence_B63 (N : Nat) (j : JS) (r : RS) (K : CS → Int32 → Int32 → Int32 → Int64 → Option (Int32 × CS)) (kb : CS → Int32 → Int32 → Int32 → Int32 → Int32 → Int64 → Int32 → Option (Int32 × CS)) (t : CS) (x1 : Int32) (x2 : Int32) (x3 : Int32) (x4 : Int32) (x5 : Int32) (x6 : Int64) (x8 : Int32) : Option (Int32 × CS) :=
  ((fX1_roads N j).bind fun w_69 => (if w_69 ≤ x8 then (K t x3 x4 x5 x6) else (ix x8 6 (lett ((x1).toInt64 * (((t.2.2.2 0).1 4 (x8).toNatClampNeg)).toInt64) fun x9_89 => (nzl (x3).toInt64 (lett (x4 - ((x9_89 / (x3).toInt64)).toInt32) fun x4_100 => (nzl (x3).toInt64 (nzl (x3).toInt64 (if 0 < (lg_cmp (lrem x9_89 (x3).toInt64) (lrem x6 (x3).toInt64)) then (fX0_pence_J143 N j r K kb t x1 x2 x3 x4_100 x6 x8 (1 : Int32) x5) else (nzl (x3).toInt64 (nzl (x3).toInt64 (if ¬ (lg_cmp (lrem x9_89 (x3).toInt64) (lrem x6 (x3).toInt64)) = 0 then (fX0_pence_J143 N j r K kb t x1 x2 x3 x4_100 x6 x8 (0 : Int32) x5) else (if x2 ≤ x8 then (fX0_pence_J143 N j r K kb t x1 x2 x3 x4_100 x6 x8 (0 : Int32) x5) else (fX0_pence_J143 N j r K kb t x1 x2 x3 x4_100 x6 x8 (1 : Int32) x5))))))))))))))
def fX0_pence_L63 (N : Nat) (j : JS) (r : RS) (K : CS → Int32 → Int32 → Int32 → Int64 → Option (Int32 × CS)) : Nat → CS → Int32 → Int32 → Int32 → Int32 → Int32 → Int64 → Int32 → Option (Int32 × CS)
  | 0 => fun _ _ _ _ _ _ _ _ => none
  | n + 1 => fun t x1 x2 x3 x4 x5 x6 x8 => fX0_pence_B63 N j r K (fX0_pence_L63 N j r K n) t x1 x2 x3 x4 x5 x6 x8
def fX0_pence_J173 (N : Nat) (j : JS) (r : RS) (t : CS) (s0 : Int32) (s1 : Int32) : Option (Int32 × CS) :=
  ((fX0_bit N s0).bind fun w_173 => (some ((s1 + w_173), t)))
def fX0_pence (N : Nat) (j : JS) (r : RS) (t0 : CS) (x1 : Int32) (x2 : Int32) : Option (Int32 × CS) :=
  ((fX0_isRoad N j r  t0 x2).bind fun w_2 => (if w_2.1 = 0 then (some ((-1 : Int32), w_2.2)) else ((fX0_in N (x1).toInt64 (0 : Int64) (9999 : Int64)).bind fun w_14 => (if ¬ w_14 = 0 then ((fX2_sumOf N 6 ((w_2.2.2.2.2 0).1 4)).bind fun w_29 => (if ¬ w_29 = 0 then (ix x2 6 (lett ((x1).toInt64 * (((w_2.2.2.2.2 0).1 4 (x2).toNatClampNeg)).toInt64) fun x6_58 => (fX0_pence_L63 N j r (fun t x3 x4 x5 x6 => (nzl (x3).toInt64 (if x4 ≤ x5 then (fX0_pence_J173 N j r t (0 : Int32) ((x6 / (x3).toInt64)).toInt32) else (fX0_pence_J173 N j r t (1 : Int32) ((x6 / (x3).toInt64)).toInt32)))) N w_2.2 x1 x2 w_29 x1 (0 : Int32) x6_58 (0 : Int32)))) else (some ((0 : Int32), w_2.2)))) else (some ((-1 : Int32), w_2.2))))))
theorem hdX0_pence : yX0_pence.cls = RX0 ∧ yX0_pence.cls ≠ "java/lang/invoke/MethodHandle" ∧ yX0_pence.cls ≠ "java/lang/invoke/VarHandle" ∧ (parseMethodDescriptor yX0_pence.desc).map (fun d => d.parameters.length) = some 2 := by decide +kernel
set_option maxHeartbeats 4000000 in
theorem mX0_pence (l : Launch) (D : va_G) (d : Nat → ClassId) (sd : Nat) (a : Nat → Nat) (ja : Nat → Nat) (N : Nat) (j : JS) (r : RS) (t0 : CS) (x1 : Int32) (x2 : Int32) (w : Int32 × CS) (hf : fX0_pence N j r t0 x1 x2 = some w) (sz : Nat) : Met l yX0_pence (ws_ yX0_pence cX0_pence 11 (some .int)) (rm_ 3 61) (GPc D d sd [.ref (a 32), .int x1, .int x2] (wC d a ja t0) (fun P => JAt d ja j P ∧ RAt d (a 3) r P) sz) (GQi D w.1 (wC d a ja w.2) (wC d a ja t0) sz) 0 0 (va_A (wC d a ja t0) sz) := by
  refine Met.ofW (cc := cX0_pence) (maxL := 11) (ret := (some .int)) plX0 rfl ?_
  intro p e s m args below meth c s₁ B hml hv
  obtain ⟨C, hX, hR, hT, hr, hlocks, hargs, rfl⟩ := g_enter (own := RX0) B hml rfl hv
  have hx := C.1
  have hb := C.2.1
  have hV := hX.1
  obtain ⟨A, hA0⟩ : ∃ A, A = va_A (wC d a ja t0) s.heap.size := ⟨_, rfl⟩
  rw [← hA0] at hX hR hT
  show W p l e (rm_ 3 61) s m args below meth c s.heap [] 0 0 (MQ below (GQi D w.1 (wC d a ja w.2) (wC d a ja t0) s.heap.size) args s 0 0 (va_A (wC d a ja t0) s.heap.size)) _
  rw [← hA0]
  have hJ := hR.1
  obtain ⟨rmc, rel, rcap, rf, hrl, hrel, hrc, hrg⟩ := hR.2.unpack
  have hL63 : ∀ (K : CS → Int32 → Int32 → Int32 → Int64 → Option (Int32 × CS)), (∀ (t : CS) (x3 : Int32) (x4 : Int32) (x5 : Int32) (x6 : Int64) (H : Heap) (locs : List Loc) (ls : Array Slot), TH D A s.heap (wC d a ja t) H locs → lv_has ls 11 [(3, .int x3), (4, .int x4), (5, .int x5), (6, .long x6)] → K t x3 x4 x5 x6 = some w → W p l e (rm_ 3 61) s m args below meth c H locs 0 0 (MQ below (GQi D w.1 (wC d a ja w.2) (wC d a ja t0) s.heap.size) args s 0 0 A) (F0 m 155 ls [])) → ∀ (n : Nat) (t : CS) (x1 : Int32) (x2 : Int32) (x3 : Int32) (x4 : Int32) (x5 : Int32) (x6 : Int64) (x8 : Int32) (H : Heap) (locs : List Loc) (ls : Array Slot), TH D A s.heap (wC d a ja t) H locs → lv_has ls 11 [(0, .ref (a 32)), (1, .int x1), (2, .int x2), (3, .int x3), (4, .int x4), (5, .int x5), (6, .long x6), (8, .int x8)] → fX0_pence_L63 N j r K n t x1 x2 x3 x4 x5 x6 x8 = some w → W p l e (rm_ 3 61) s m args below meth c H locs 0 0 (MQ below (GQi D w.1 (wC d a ja w.2) (wC d a ja t0) s.heap.size) args s 0 0 A) (F0 m 63 ls []) := by
    intro K hE n
    induction n with
    | zero =>
      intro t x1 x2 x3 x4 x5 x6 x8 H locs ls hT hl hf
      cases hf
    | succ n ih =>
      have hJ143 : ∀ (t : CS) (x1 : Int32) (x2 : Int32) (x3 : Int32) (x4 : Int32) (x6 : Int64) (x8 : Int32) (s0 : Int32) (s1 : Int32) (H : Heap) (locs : List Loc) (ls : Array Slot), TH D A s.heap (wC d a ja t) H locs → lv_has ls 11 [(0, .ref (a 32)), (1, .int x1), (2, .int x2), (3, .int x3), (4, .int x4), (6, .long x6), (8, .int x8)] → fX0_pence_J143 N j r K (fX0_pence_L63 N j r K n) t x1 x2 x3 x4 x6 x8 s0 s1 = some w → W p l e (rm_ 3 61) s m args below meth c H locs 0 0 (MQ below (GQi D w.1 (wC d a ja w.2) (wC d a ja t0) s.heap.size) args s 0 0 A) (F0 m 143 ls [.int s0, .int s1]) := by
        intro t x1 x2 x3 x4 x6 x8 s0 s1 H locs ls hT hl hf
        unfold fX0_pence_J143 at hf
        obtain ⟨w_143, h_143, hf⟩ := bind_e hf
        refine s_calli (vs := [.int s0]) (rest := [.int s1]) C (A_new hA0) hT (fun sz => mX0_bit l N s0 _ h_143 sz) (va_cwS 1 C.2.2.2.2 (lw_S q955 q956 q120 q957) rfl rfl rfl hdX0_bit ⟨Nat.le_of_ble_eq_true rfl, Nat.le_of_ble_eq_true rfl⟩) rfl hl.1 rfl (Nat.le_of_ble_eq_true rfl) dX0_pence_143 ⟨Nat.zero_le _, Nat.zero_le _⟩ (fun H locs hT => ?_)
        refine lv_iadd hx hb dX0_pence_146 ?_
        refine lv_topi (fun x5_147 ex => ?_)
        have hf := lett_e ex hf
        refine lv_istore (lv' := [(5, .int x5_147), (0, .ref (a 32)), (1, .int x1), (2, .int x2), (3, .int x3), (4, .int x4), (6, .long x6), (8, .int x8)]) hx hb dX0_pence_147 hl (by decide) rfl (fun ls hl => ?_)
        obtain ⟨x8_149, ex⟩ : ∃ y : Int32, y = (x8 + (1 : Int32)) := ⟨_, rfl⟩
        have hf := lett_e ex hf
        refine lv_iinc (v := x8_149) (lv' := [(8, .int x8_149), (5, .int x5_147), (0, .ref (a 32)), (1, .int x1), (2, .int x2), (3, .int x3), (4, .int x4), (6, .long x6)]) hx hb dX0_pence_149 hl (k := 7) rfl (by rw [ex]; rfl) (by decide) rfl (fun ls hl => ?_)
        refine lv_goto (tgt := 63) hx hb dX0_pence_152 (by decide) ?_
        exact ih t x1 x2 x3 x4 x5_147 x6 x8_149 _ _ _ hT (lv_sub hl [2, 3, 4, 5, 6, 1, 7, 0] rfl) hf
      intro t x1 x2 x3 x4 x5 x6 x8 H locs ls hT hl hf
      replace hf : fX0_pence_B63 N j r K (fX0_pence_L63 N j r K n) t x1 x2 x3 x4 x5 x6 x8 = some w := hf
      unfold fX0_pence_B63 at hf
      refine lv_iload hx hb dX0_pence_63 (lv_at hl 7 rfl) ?_
      refine lv_aload_n hx hb dX0_pence_65 rfl (lv_at hl 0 rfl) ?_
      refine r_get C hV (hT.atp 0 rfl) (ci := 1) rfl in_X0 0 (by decide) q334 rfl dX0_pence_66 ?_
      obtain ⟨w_69, h_69, hf⟩ := bind_e hf
      refine g_calli (vs := []) (rest := [.int x8]) C hX hT (A_new hA0) (Cut.none _) (hJ.step hT.2.2 (Anil (A_new hA0) hT.2.2.1)) (fun sz => mX1_roads l D d sd ja N j _ h_69 sz) (cwV 0 C.2.2.2.2 (lw_V q709 q584 q585 q121 q586) rfl rfl rfl hdX1_roads ⟨Nat.le_of_ble_eq_true rfl, Nat.le_of_ble_eq_true rfl⟩) (g_recv hV (hJ.1.at hT.2.2) (ci := 3) rfl) rfl hl.1 rfl (Nat.le_of_ble_eq_true rfl) dX0_pence_69 ⟨Nat.zero_le _, Nat.zero_le _⟩ (fun H locs hT => ?_)
      refine lv_icmp_ge (tgt := 155) hx hb dX0_pence_72 (by decide) (fun hc => ?_) (fun hc => ?_)
      · have hf := ite_t hc hf
        exact hE t x3 x4 x5 x6 _ _ _ hT (lv_sub hl [3, 4, 5, 6] rfl) hf
      · have hf := ite_f hc hf
        refine lv_iload_n hx hb dX0_pence_75 rfl (lv_at hl 1 rfl) ?_
        refine lv_i2l hx hb dX0_pence_76 rfl ?_
        refine lv_aload_n hx hb dX0_pence_77 rfl (lv_at hl 0 rfl) ?_
        refine r_get C hV (hT.atp 0 rfl) (ci := 1) rfl in_X0 1 (by decide) q336 rfl dX0_pence_78 ?_
        refine r_getN C hV hX.2.1 (hT.ats (i := 0) (by decide) 0 rfl) (ci := 2) rfl in_X2 4 (by decide) q236 rfl dX0_pence_81 ?_
        refine lv_iload hx hb dX0_pence_84 (lv_at hl 7 rfl) ?_
        obtain ⟨hi, hf⟩ := ix_e hf
        refine r_ild C hV (hT.ats (i := 0) (by decide) 5 rfl) _ hi rfl dX0_pence_86 ?_
        refine lv_i2l hx hb dX0_pence_87 rfl ?_
        refine lv_lmul hx hb dX0_pence_88 ?_
        refine lv_topl (fun x9_89 ex => ?_)
        have hf := lett_e ex hf
        refine lv_lstore (lv' := [(9, .long x9_89), (0, .ref (a 32)), (1, .int x1), (2, .int x2), (3, .int x3), (4, .int x4), (5, .int x5), (6, .long x6), (8, .int x8)]) hx hb dX0_pence_89 hl (by decide) rfl (fun ls hl => ?_)
        refine lv_iload hx hb dX0_pence_91 (lv_at hl 5 rfl) ?_
        refine lv_lload hx hb dX0_pence_93 (lv_at hl 0 rfl) ?_
        refine lv_iload_n hx hb dX0_pence_95 rfl (lv_at hl 4 rfl) ?_
        refine lv_i2l hx hb dX0_pence_96 rfl ?_
        obtain ⟨hn, hf⟩ := nzl_e hf
        refine lv_ldiv hx hb dX0_pence_97 hn ?_
        refine lv_l2i hx hb dX0_pence_98 rfl ?_
        refine lv_isub hx hb dX0_pence_99 ?_
        refine lv_topi (fun x4_100 ex => ?_)
        have hf := lett_e ex hf
        refine lv_istore (lv' := [(4, .int x4_100), (9, .long x9_89), (0, .ref (a 32)), (1, .int x1), (2, .int x2), (3, .int x3), (5, .int x5), (6, .long x6), (8, .int x8)]) hx hb dX0_pence_100 hl (by decide) rfl (fun ls hl => ?_)
        refine lv_iload hx hb dX0_pence_102 (lv_at hl 6 rfl) ?_
        refine lv_lload hx hb dX0_pence_104 (lv_at hl 1 rfl) ?_
        refine lv_iload_n hx hb dX0_pence_106 rfl (lv_at hl 5 rfl) ?_
        refine lv_i2l hx hb dX0_pence_107 rfl ?_
        obtain ⟨hn, hf⟩ := nzl_e hf
        refine g_lrem hx hb dX0_pence_108 hn ?_
        refine lv_lload hx hb dX0_pence_109 (lv_at hl 7 rfl) ?_
        refine lv_iload_n hx hb dX0_pence_111 rfl (lv_at hl 5 rfl) ?_
        refine lv_i2l hx hb dX0_pence_112 rfl ?_
        obtain ⟨hn, hf⟩ := nzl_e hf
        refine g_lrem hx hb dX0_pence_113 hn ?_
        refine W.lcmp hx hb dX0_pence_114 ?_
        refine lv_if_gt (tgt := 138) hx hb dX0_pence_115 (by decide) (fun hc => ?_) (fun hc => ?_)
        · have hf := ite_t hc hf
          refine lv_iconst (v := 1) hx hb dX0_pence_138 (by decide) ?_
          refine lv_goto (tgt := 143) hx hb dX0_pence_139 (by decide) ?_
          exact hJ143 t x1 x2 x3 x4_100 x6 x8 (1 : Int32) x5 _ _ _ hT (lv_sub hl [2, 3, 4, 5, 0, 7, 8] rfl) hf
        · have hf := ite_f hc hf
          refine lv_lload hx hb dX0_pence_118 (lv_at hl 1 rfl) ?_
          refine lv_iload_n hx hb dX0_pence_120 rfl (lv_at hl 5 rfl) ?_
          refine lv_i2l hx hb dX0_pence_121 rfl ?_
          obtain ⟨hn, hf⟩ := nzl_e hf
          refine g_lrem hx hb dX0_pence_122 hn ?_
          refine lv_lload hx hb dX0_pence_123 (lv_at hl 7 rfl) ?_
          refine lv_iload_n hx hb dX0_pence_125 rfl (lv_at hl 5 rfl) ?_
          refine lv_i2l hx hb dX0_pence_126 rfl ?_
          obtain ⟨hn, hf⟩ := nzl_e hf
          refine g_lrem hx hb dX0_pence_127 hn ?_
          refine W.lcmp hx hb dX0_pence_128 ?_
          refine lv_if_ne (tgt := 142) hx hb dX0_pence_129 (by decide) (fun hc => ?_) (fun hc => ?_)
          · have hf := ite_t hc hf
            refine lv_iconst (v := 0) hx hb dX0_pence_142 (by decide) ?_
            exact hJ143 t x1 x2 x3 x4_100 x6 x8 (0 : Int32) x5 _ _ _ hT (lv_sub hl [2, 3, 4, 5, 0, 7, 8] rfl) hf
          · have hf := ite_f (fun q => q hc) hf
            refine lv_iload hx hb dX0_pence_132 (lv_at hl 8 rfl) ?_
            refine lv_iload_n hx hb dX0_pence_134 rfl (lv_at hl 4 rfl) ?_
            refine lv_icmp_ge (tgt := 142) hx hb dX0_pence_135 (by decide) (fun hc => ?_) (fun hc => ?_)
            · have hf := ite_t hc hf
              refine lv_iconst (v := 0) hx hb dX0_pence_142 (by decide) ?_
              exact hJ143 t x1 x2 x3 x4_100 x6 x8 (0 : Int32) x5 _ _ _ hT (lv_sub hl [2, 3, 4, 5, 0, 7, 8] rfl) hf
            · have hf := ite_f hc hf
              refine lv_iconst (v := 1) hx hb dX0_pence_138 (by decide) ?_
              refine lv_goto (tgt := 143) hx hb dX0_pence_139 (by decide) ?_
              exact hJ143 t x1 x2 x3 x4_100 x6 x8 (1 : Int32) x5 _ _ _ hT (lv_sub hl [2, 3, 4, 5, 0, 7, 8] rfl) hf
  have hJ173 : ∀ (t : CS) (s0 : Int32) (s1 : Int32) (H : Heap) (locs : List Loc) (ls : Array Slot), TH D A s.heap (wC d a ja t) H locs → lv_has ls 11 [] → fX0_pence_J173 N j r t s0 s1 = some w → W p l e (rm_ 3 61) s m args below meth c H locs 0 0 (MQ below (GQi D w.1 (wC d a ja w.2) (wC d a ja t0) s.heap.size) args s 0 0 A) (F0 m 173 ls [.int s0, .int s1]) := by
    intro t s0 s1 H locs ls hT hl hf
    unfold fX0_pence_J173 at hf
    obtain ⟨w_173, h_173, hf⟩ := bind_e hf
    refine s_calli (vs := [.int s0]) (rest := [.int s1]) C (A_new hA0) hT (fun sz => mX0_bit l N s0 _ h_173 sz) (va_cwS 1 C.2.2.2.2 (lw_S q955 q956 q120 q957) rfl rfl rfl hdX0_bit ⟨Nat.le_of_ble_eq_true rfl, Nat.le_of_ble_eq_true rfl⟩) rfl hl.1 rfl (Nat.le_of_ble_eq_true rfl) dX0_pence_173 ⟨Nat.zero_le _, Nat.zero_le _⟩ (fun H locs hT => ?_)
    refine lv_iadd hx hb dX0_pence_176 ?_
    exact f_iret (wC d a ja) hA0 C hT hf hr hlocks dX0_pence_177
  refine W.eq (by rw [hargs]) (t_in (vs := [.ref (a 32), .int x1, .int x2]) (n := 11) (Nat.le_of_ble_eq_true rfl) (fun ls hl => ?_))
  have hl : lv_has ls 11 [(0, .ref (a 32)), (1, .int x1), (2, .int x2)] := hl
  unfold fX0_pence at hf
  refine lv_aload_n hx hb dX0_pence_0 rfl (lv_at hl 0 rfl) ?_
  refine lv_iload_n hx hb dX0_pence_1 rfl (lv_at hl 2 rfl) ?_
  obtain ⟨w_2, h_2, hf⟩ := bind_e hf
  refine g_calli (vs := [.int x2]) (rest := []) C hX hT (A_new hA0) (Cut.all (D_nd hT.2.1) ((wC_fst d a ja _).trans (wC_fst d a ja t0).symm)) (Ro := (fun P => JAt d ja j P ∧ RAt d (a 3) r P)) ⟨hJ.step hT.2.2 (A_full hA0 hT.2.2.1), hR.2.step hT.2.2 (A_full hA0 hT.2.2.1)⟩ (fun sz => mX0_isRoad l D d sd a ja N j r  t0 x2 _ h_2 sz) (cwV 1 C.2.2.2.2 (lw_V q890 q892 qs26 q120 q893) rfl rfl rfl hdX0_isRoad ⟨Nat.le_of_ble_eq_true rfl, Nat.le_of_ble_eq_true rfl⟩) (g_recv hV (hT.atp 0 rfl) (ci := 1) rfl) rfl hl.1 rfl (Nat.le_of_ble_eq_true rfl) dX0_pence_2 ⟨Nat.zero_le _, Nat.zero_le _⟩ (fun H locs hT => ?_)
  refine lv_if_eq (tgt := 20) hx hb dX0_pence_5 (by decide) (fun hc => ?_) (fun hc => ?_)
  · have hf := ite_t hc hf
    refine lv_iconst (v := -1) hx hb dX0_pence_20 (by decide) ?_
    exact f_iret (wC d a ja) hA0 C hT hf hr hlocks dX0_pence_21
  · have hf := ite_f hc hf
    refine lv_iload_n hx hb dX0_pence_8 rfl (lv_at hl 1 rfl) ?_
    refine lv_i2l hx hb dX0_pence_9 rfl ?_
    refine lv_lconst (v := 0) hx hb dX0_pence_10 (by decide) ?_
    refine g_ldc2 (v := 9999) C q1145 dX0_pence_11 ?_
    obtain ⟨w_14, h_14, hf⟩ := bind_e hf
    refine s_calli (vs := [.long (x1).toInt64, .long (0 : Int64), .long (9999 : Int64)]) (rest := []) C (A_new hA0) hT (fun sz => mX0_in l N (x1).toInt64 (0 : Int64) (9999 : Int64) _ h_14 sz) (va_cwS 3 C.2.2.2.2 (lw_S q885 q518 q120 q519) rfl rfl rfl hdX0_in ⟨Nat.le_of_ble_eq_true rfl, Nat.le_of_ble_eq_true rfl⟩) rfl hl.1 rfl (Nat.le_of_ble_eq_true rfl) dX0_pence_14 ⟨Nat.zero_le _, Nat.zero_le _⟩ (fun H locs hT => ?_)
    refine lv_if_ne (tgt := 22) hx hb dX0_pence_17 (by decide) (fun hc => ?_) (fun hc => ?_)
    · have hf := ite_t hc hf
      refine lv_aload_n hx hb dX0_pence_22 rfl (lv_at hl 0 rfl) ?_
      refine r_get C hV (hT.atp 0 rfl) (ci := 1) rfl in_X0 1 (by decide) q336 rfl dX0_pence_23 ?_
      refine r_getN C hV hX.2.1 (hT.ats (i := 0) (by decide) 0 rfl) (ci := 2) rfl in_X2 4 (by decide) q236 rfl dX0_pence_26 ?_
      obtain ⟨w_29, h_29, hf⟩ := bind_e hf
      refine g_scalli (vs := [.ref (sa a 0 5)]) (rest := []) C hX hT (A_new hA0) (Cut.none _) (hT.frz (wC_mem (i := 0) (by decide) (List.mem_of_getElem? (i := 5) rfl))) (fun sz => mX2_sumOf l D d sd (sa a 0 5) N 6 ((w_2.2.2.2.2 0).1 4) _ h_29 sz) (va_cwS 1 C.2.2.2.2 (lw_S q974 q975 q125 q976) rfl rfl rfl hdX2_sumOf ⟨Nat.le_of_ble_eq_true rfl, Nat.le_of_ble_eq_true rfl⟩) rfl hl.1 rfl (Nat.le_of_ble_eq_true rfl) dX0_pence_29 ⟨Nat.zero_le _, Nat.zero_le _⟩ (fun H locs hT => ?_)
      refine lv_istore_n (lv' := [(3, .int w_29), (0, .ref (a 32)), (1, .int x1), (2, .int x2)]) hx hb dX0_pence_32 rfl hl (by decide) rfl (fun ls hl => ?_)
      refine lv_iload_n hx hb dX0_pence_33 rfl (lv_at hl 0 rfl) ?_
      refine lv_if_ne (tgt := 39) hx hb dX0_pence_34 (by decide) (fun hc => ?_) (fun hc => ?_)
      · have hf := ite_t hc hf
        refine lv_iload_n hx hb dX0_pence_39 rfl (lv_at hl 2 rfl) ?_
        refine lv_istore (lv' := [(4, .int x1), (3, .int w_29), (0, .ref (a 32)), (1, .int x1), (2, .int x2)]) hx hb dX0_pence_40 hl (by decide) rfl (fun ls hl => ?_)
        refine lv_iconst (v := 0) hx hb dX0_pence_42 (by decide) ?_
        refine lv_istore (lv' := [(5, .int (0 : Int32)), (4, .int x1), (3, .int w_29), (0, .ref (a 32)), (1, .int x1), (2, .int x2)]) hx hb dX0_pence_43 hl (by decide) rfl (fun ls hl => ?_)
        refine lv_iload_n hx hb dX0_pence_45 rfl (lv_at hl 4 rfl) ?_
        refine lv_i2l hx hb dX0_pence_46 rfl ?_
        refine lv_aload_n hx hb dX0_pence_47 rfl (lv_at hl 3 rfl) ?_
        refine r_get C hV (hT.atp 0 rfl) (ci := 1) rfl in_X0 1 (by decide) q336 rfl dX0_pence_48 ?_
        refine r_getN C hV hX.2.1 (hT.ats (i := 0) (by decide) 0 rfl) (ci := 2) rfl in_X2 4 (by decide) q236 rfl dX0_pence_51 ?_
        refine lv_iload_n hx hb dX0_pence_54 rfl (lv_at hl 5 rfl) ?_
        obtain ⟨hi, hf⟩ := ix_e hf
        refine r_ild C hV (hT.ats (i := 0) (by decide) 5 rfl) _ hi rfl dX0_pence_55 ?_
        refine lv_i2l hx hb dX0_pence_56 rfl ?_
        refine lv_lmul hx hb dX0_pence_57 ?_
        refine lv_topl (fun x6_58 ex => ?_)
        have hf := lett_e ex hf
        refine lv_lstore (lv' := [(6, .long x6_58), (5, .int (0 : Int32)), (4, .int x1), (3, .int w_29), (0, .ref (a 32)), (1, .int x1), (2, .int x2)]) hx hb dX0_pence_58 hl (by decide) rfl (fun ls hl => ?_)
        refine lv_iconst (v := 0) hx hb dX0_pence_60 (by decide) ?_
        refine lv_istore (lv' := [(8, .int (0 : Int32)), (6, .long x6_58), (5, .int (0 : Int32)), (4, .int x1), (3, .int w_29), (0, .ref (a 32)), (1, .int x1), (2, .int x2)]) hx hb dX0_pence_61 hl (by decide) rfl (fun ls hl => ?_)
        refine hL63 _ (fun t x3 x4 x5 x6 H locs ls hT hl hf => ?_) N w_2.2 x1 x2 w_29 x1 (0 : Int32) x6_58 (0 : Int32) _ _ _ hT (lv_sub hl [5, 6, 7, 4, 3, 2, 1, 0] rfl) hf
        refine lv_lload hx hb dX0_pence_155 (lv_at hl 3 rfl) ?_
        refine lv_iload_n hx hb dX0_pence_157 rfl (lv_at hl 0 rfl) ?_
        refine lv_i2l hx hb dX0_pence_158 rfl ?_
        obtain ⟨hn, hf⟩ := nzl_e hf
        refine lv_ldiv hx hb dX0_pence_159 hn ?_
        refine lv_l2i hx hb dX0_pence_160 rfl ?_
        refine lv_iload hx hb dX0_pence_161 (lv_at hl 2 rfl) ?_
        refine lv_iload hx hb dX0_pence_163 (lv_at hl 1 rfl) ?_
        refine lv_icmp_ge (tgt := 172) hx hb dX0_pence_165 (by decide) (fun hc => ?_) (fun hc => ?_)
        · have hf := ite_t hc hf
          refine lv_iconst (v := 0) hx hb dX0_pence_172 (by decide) ?_
          exact hJ173 t (0 : Int32) ((x6 / (x3).toInt64)).toInt32 _ _ _ hT (lv_sub hl [] rfl) hf
        · have hf := ite_f hc hf
          refine lv_iconst (v := 1) hx hb dX0_pence_168 (by decide) ?_
          refine lv_goto (tgt := 173) hx hb dX0_pence_169 (by decide) ?_
          exact hJ173 t (1 : Int32) ((x6 / (x3).toInt64)).toInt32 _ _ _ hT (lv_sub hl [] rfl) hf
      · have hf := ite_f (fun q => q hc) hf
        refine lv_iconst (v := 0) hx hb dX0_pence_37 (by decide) ?_
        exact f_iret (wC d a ja) hA0 C hT hf hr hlocks dX0_pence_38
    · have hf := ite_f (fun q => q hc) hf
      refine lv_iconst (v := -1) hx hb dX0_pence_20 (by decide) ?_
      exact f_iret (wC d a ja) hA0 C hT hf hr hlocks dX0_pence_21
def fX0_note (N : Nat) (j : JS) (r : RS) (t0 : CS) (x1 : Int32) (x2 : Int32) (x3 : Int32) : Option (Int32 × CS) :=
  (if ¬ x1 = (-1 : Int32) then ((fX0_in N (x1).toInt64 (0 : Int64) (60 : Int64)).bind fun w_18 => (if w_18 = 0 then (some ((-2 : Int32), t0)) else ((fX0_isRoad N j r  t0 x2).bind fun w_26 => (if w_26.1 = 0 then (some ((-2 : Int32), w_26.2)) else ((fX0_in N (x3).toInt64 (0 : Int64) (9 : Int64)).bind fun w_38 => (if w_38 = 0 then (some ((-2 : Int32), w_26.2)) else (if ¬ (w_26.2.1 11) = (10 : Int32) then (ix (w_26.2.1 11) 10 (lett (csA w_26.2 8 ((w_26.2.1 11)).toNatClampNeg x1) fun t_65 => (ix (t_65.1 11) 10 (lett (csA t_65 9 ((t_65.1 11)).toNatClampNeg x2) fun t_75 => (ix (t_75.1 11) 10 (lett (csA t_75 10 ((t_75.1 11)).toNatClampNeg x3) fun t_85 => (lett (csI t_85 11 ((t_85.1 11) + (1 : Int32))) fun t_93 => (some ((t_93.1 11), t_93))))))))) else (some ((-2 : Int32), w_26.2))))))))) else (lett (csI t0 11 (0 : Int32)) fun t_7 => (some ((0 : Int32), t_7))))
theorem hdX0_note : yX0_note.cls = RX0 ∧ yX0_note.cls ≠ "java/lang/invoke/MethodHandle" ∧ yX0_note.cls ≠ "java/lang/invoke/VarHandle" ∧ (parseMethodDescriptor yX0_note.desc).map (fun d => d.parameters.length) = some 3 := by decide +kernel
set_option maxHeartbeats 4000000 in
theorem mX0_note (l : Launch) (D : va_G) (d : Nat → ClassId) (sd : Nat) (a : Nat → Nat) (ja : Nat → Nat) (N : Nat) (j : JS) (r : RS) (t0 : CS) (x1 : Int32) (x2 : Int32) (x3 : Int32) (w : Int32 × CS) (hf : fX0_note N j r t0 x1 x2 x3 = some w) (sz : Nat) : Met l yX0_note (ws_ yX0_note cX0_note 4 (some .int)) (rm_ 3 61) (GPc D d sd [.ref (a 32), .int x1, .int x2, .int x3] (wC d a ja t0) (fun P => JAt d ja j P ∧ RAt d (a 3) r P) sz) (GQi D w.1 (wC d a ja w.2) (wC d a ja t0) sz) 0 0 (va_A (wC d a ja t0) sz) := by
  refine Met.ofW (cc := cX0_note) (maxL := 4) (ret := (some .int)) plX0 rfl ?_
  intro p e s m args below meth c s₁ B hml hv
  obtain ⟨C, hX, hR, hT, hr, hlocks, hargs, rfl⟩ := g_enter (own := RX0) B hml rfl hv
  have hx := C.1
  have hb := C.2.1
  have hV := hX.1
  obtain ⟨A, hA0⟩ : ∃ A, A = va_A (wC d a ja t0) s.heap.size := ⟨_, rfl⟩
  rw [← hA0] at hX hR hT
  show W p l e (rm_ 3 61) s m args below meth c s.heap [] 0 0 (MQ below (GQi D w.1 (wC d a ja w.2) (wC d a ja t0) s.heap.size) args s 0 0 (va_A (wC d a ja t0) s.heap.size)) _
  rw [← hA0]
  have hJ := hR.1
  obtain ⟨rmc, rel, rcap, rf, hrl, hrel, hrc, hrg⟩ := hR.2.unpack
  refine W.eq (by rw [hargs]) (t_in (vs := [.ref (a 32), .int x1, .int x2, .int x3]) (n := 4) (Nat.le_of_ble_eq_true rfl) (fun ls hl => ?_))
  have hl : lv_has ls 4 [(0, .ref (a 32)), (1, .int x1), (2, .int x2), (3, .int x3)] := hl
  unfold fX0_note at hf
  refine lv_iload_n hx hb dX0_note_0 rfl (lv_at hl 1 rfl) ?_
  refine lv_iconst (v := -1) hx hb dX0_note_1 (by decide) ?_
  refine lv_icmp_ne (tgt := 12) hx hb dX0_note_2 (by decide) (fun hc => ?_) (fun hc => ?_)
  · have hf := ite_t hc hf
    refine lv_iload_n hx hb dX0_note_12 rfl (lv_at hl 1 rfl) ?_
    refine lv_i2l hx hb dX0_note_13 rfl ?_
    refine lv_lconst (v := 0) hx hb dX0_note_14 (by decide) ?_
    refine g_ldc2 (v := 60) C q1112 dX0_note_15 ?_
    obtain ⟨w_18, h_18, hf⟩ := bind_e hf
    refine s_calli (vs := [.long (x1).toInt64, .long (0 : Int64), .long (60 : Int64)]) (rest := []) C (A_new hA0) hT (fun sz => mX0_in l N (x1).toInt64 (0 : Int64) (60 : Int64) _ h_18 sz) (va_cwS 3 C.2.2.2.2 (lw_S q885 q518 q120 q519) rfl rfl rfl hdX0_in ⟨Nat.le_of_ble_eq_true rfl, Nat.le_of_ble_eq_true rfl⟩) rfl hl.1 rfl (Nat.le_of_ble_eq_true rfl) dX0_note_18 ⟨Nat.zero_le _, Nat.zero_le _⟩ (fun H locs hT => ?_)
    refine lv_if_eq (tgt := 53) hx hb dX0_note_21 (by decide) (fun hc => ?_) (fun hc => ?_)
    · have hf := ite_t hc hf
      refine lv_bipush (v := -2) hx hb dX0_note_53 (by decide) ?_
      exact f_iret (wC d a ja) hA0 C hT hf hr hlocks dX0_note_55
    · have hf := ite_f hc hf
      refine lv_aload_n hx hb dX0_note_24 rfl (lv_at hl 0 rfl) ?_
      refine lv_iload_n hx hb dX0_note_25 rfl (lv_at hl 2 rfl) ?_
      obtain ⟨w_26, h_26, hf⟩ := bind_e hf
      refine g_calli (vs := [.int x2]) (rest := []) C hX hT (A_new hA0) (Cut.all (D_nd hT.2.1) ((wC_fst d a ja _).trans (wC_fst d a ja t0).symm)) (Ro := (fun P => JAt d ja j P ∧ RAt d (a 3) r P)) ⟨hJ.step hT.2.2 (A_full hA0 hT.2.2.1), hR.2.step hT.2.2 (A_full hA0 hT.2.2.1)⟩ (fun sz => mX0_isRoad l D d sd a ja N j r  t0 x2 _ h_26 sz) (cwV 1 C.2.2.2.2 (lw_V q890 q892 qs26 q120 q893) rfl rfl rfl hdX0_isRoad ⟨Nat.le_of_ble_eq_true rfl, Nat.le_of_ble_eq_true rfl⟩) (g_recv hV (hT.atp 0 rfl) (ci := 1) rfl) rfl hl.1 rfl (Nat.le_of_ble_eq_true rfl) dX0_note_26 ⟨Nat.zero_le _, Nat.zero_le _⟩ (fun H locs hT => ?_)
      refine lv_if_eq (tgt := 53) hx hb dX0_note_29 (by decide) (fun hc => ?_) (fun hc => ?_)
      · have hf := ite_t hc hf
        refine lv_bipush (v := -2) hx hb dX0_note_53 (by decide) ?_
        exact f_iret (wC d a ja) hA0 C hT hf hr hlocks dX0_note_55
      · have hf := ite_f hc hf
        refine lv_iload_n hx hb dX0_note_32 rfl (lv_at hl 3 rfl) ?_
        refine lv_i2l hx hb dX0_note_33 rfl ?_
        refine lv_lconst (v := 0) hx hb dX0_note_34 (by decide) ?_
        refine g_ldc2 (v := 9) C q1150 dX0_note_35 ?_
        obtain ⟨w_38, h_38, hf⟩ := bind_e hf
        refine s_calli (vs := [.long (x3).toInt64, .long (0 : Int64), .long (9 : Int64)]) (rest := []) C (A_new hA0) hT (fun sz => mX0_in l N (x3).toInt64 (0 : Int64) (9 : Int64) _ h_38 sz) (va_cwS 3 C.2.2.2.2 (lw_S q885 q518 q120 q519) rfl rfl rfl hdX0_in ⟨Nat.le_of_ble_eq_true rfl, Nat.le_of_ble_eq_true rfl⟩) rfl hl.1 rfl (Nat.le_of_ble_eq_true rfl) dX0_note_38 ⟨Nat.zero_le _, Nat.zero_le _⟩ (fun H locs hT => ?_)
        refine lv_if_eq (tgt := 53) hx hb dX0_note_41 (by decide) (fun hc => ?_) (fun hc => ?_)
        · have hf := ite_t hc hf
          refine lv_bipush (v := -2) hx hb dX0_note_53 (by decide) ?_
          exact f_iret (wC d a ja) hA0 C hT hf hr hlocks dX0_note_55
        · have hf := ite_f hc hf
          refine lv_aload_n hx hb dX0_note_44 rfl (lv_at hl 0 rfl) ?_
          refine r_get C hV (hT.atp 0 rfl) (ci := 1) rfl in_X0 11 (by decide) q354 rfl dX0_note_45 ?_
          refine lv_bipush (v := 10) hx hb dX0_note_48 (by decide) ?_
          refine lv_icmp_ne (tgt := 56) hx hb dX0_note_50 (by decide) (fun hc => ?_) (fun hc => ?_)
          · have hf := ite_t hc hf
            refine lv_aload_n hx hb dX0_note_56 rfl (lv_at hl 0 rfl) ?_
            refine r_get C hV (hT.atp 0 rfl) (ci := 1) rfl in_X0 8 (by decide) q348 rfl dX0_note_57 ?_
            refine lv_aload_n hx hb dX0_note_60 rfl (lv_at hl 0 rfl) ?_
            refine r_get C hV (hT.atp 0 rfl) (ci := 1) rfl in_X0 11 (by decide) q354 rfl dX0_note_61 ?_
            refine lv_iload_n hx hb dX0_note_64 rfl (lv_at hl 1 rfl) ?_
            obtain ⟨hi, hf⟩ := ix_e hf
            obtain ⟨t_65, et⟩ : ∃ y, y = (csA w_26.2 8 ((w_26.2.1 11)).toNatClampNeg x1) := ⟨_, rfl⟩
            have hf := lett_e et hf
            refine w_ist (ws1 := (wC d a ja t_65)) C hV hT 2 _ rfl hi rfl (by rw [et]; exact upd_set hT.2.1 rfl (cast_8 d a ja w_26.2 _ _)) dX0_note_65 (fun H locs hT => ?_)
            refine lv_aload_n hx hb dX0_note_66 rfl (lv_at hl 0 rfl) ?_
            refine r_get C hV (hT.atp 0 rfl) (ci := 1) rfl in_X0 9 (by decide) q350 rfl dX0_note_67 ?_
            refine lv_aload_n hx hb dX0_note_70 rfl (lv_at hl 0 rfl) ?_
            refine r_get C hV (hT.atp 0 rfl) (ci := 1) rfl in_X0 11 (by decide) q354 rfl dX0_note_71 ?_
            refine lv_iload_n hx hb dX0_note_74 rfl (lv_at hl 2 rfl) ?_
            obtain ⟨hi, hf⟩ := ix_e hf
            obtain ⟨t_75, et⟩ : ∃ y, y = (csA t_65 9 ((t_65.1 11)).toNatClampNeg x2) := ⟨_, rfl⟩
            have hf := lett_e et hf
            refine w_ist (ws1 := (wC d a ja t_75)) C hV hT 3 _ rfl hi rfl (by rw [et]; exact upd_set hT.2.1 rfl (cast_9 d a ja t_65 _ _)) dX0_note_75 (fun H locs hT => ?_)
            refine lv_aload_n hx hb dX0_note_76 rfl (lv_at hl 0 rfl) ?_
            refine r_get C hV (hT.atp 0 rfl) (ci := 1) rfl in_X0 10 (by decide) q352 rfl dX0_note_77 ?_
            refine lv_aload_n hx hb dX0_note_80 rfl (lv_at hl 0 rfl) ?_
            refine r_get C hV (hT.atp 0 rfl) (ci := 1) rfl in_X0 11 (by decide) q354 rfl dX0_note_81 ?_
            refine lv_iload_n hx hb dX0_note_84 rfl (lv_at hl 3 rfl) ?_
            obtain ⟨hi, hf⟩ := ix_e hf
            obtain ⟨t_85, et⟩ : ∃ y, y = (csA t_75 10 ((t_75.1 11)).toNatClampNeg x3) := ⟨_, rfl⟩
            have hf := lett_e et hf
            refine w_ist (ws1 := (wC d a ja t_85)) C hV hT 4 _ rfl hi rfl (by rw [et]; exact upd_set hT.2.1 rfl (cast_10 d a ja t_75 _ _)) dX0_note_85 (fun H locs hT => ?_)
            refine lv_aload_n hx hb dX0_note_86 rfl (lv_at hl 0 rfl) ?_
            refine lv_dup hx hb dX0_note_87 rfl ?_
            refine r_get C hV (hT.atp 0 rfl) (ci := 1) rfl in_X0 11 (by decide) q354 rfl dX0_note_88 ?_
            refine lv_iconst (v := 1) hx hb dX0_note_91 (by decide) ?_
            refine lv_iadd hx hb dX0_note_92 ?_
            obtain ⟨t_93, et⟩ : ∃ y, y = (csI t_85 11 ((t_85.1 11) + (1 : Int32))) := ⟨_, rfl⟩
            have hf := lett_e et hf
            refine w_put C hV hT (ws1 := (wC d a ja t_93)) 0 rfl rfl in_X0 tyX0_ok nmX0 11 (by decide) q354 (by rw [et]; exact upd_set hT.2.1 rfl (cset_11 d a ja t_85 _)) rfl rfl rfl rfl (Nat.le_of_ble_eq_true rfl) dX0_note_93 (fun H locs hT => ?_)
            refine lv_aload_n hx hb dX0_note_96 rfl (lv_at hl 0 rfl) ?_
            refine r_get C hV (hT.atp 0 rfl) (ci := 1) rfl in_X0 11 (by decide) q354 rfl dX0_note_97 ?_
            exact f_iret (wC d a ja) hA0 C hT hf hr hlocks dX0_note_100
          · have hf := ite_f (fun q => q hc) hf
            refine lv_bipush (v := -2) hx hb dX0_note_53 (by decide) ?_
            exact f_iret (wC d a ja) hA0 C hT hf hr hlocks dX0_note_55
  · have hf := ite_f (fun q => q hc) hf
    refine lv_aload_n hx hb dX0_note_5 rfl (lv_at hl 0 rfl) ?_
    refine lv_iconst (v := 0) hx hb dX0_note_6 (by decide) ?_
    obtain ⟨t_7, et⟩ : ∃ y, y = (csI t0 11 (0 : Int32)) := ⟨_, rfl⟩
    have hf := lett_e et hf
    refine w_put C hV hT (ws1 := (wC d a ja t_7)) 0 rfl rfl in_X0 tyX0_ok nmX0 11 (by decide) q354 (by rw [et]; exact upd_set hT.2.1 rfl (cset_11 d a ja t0 _)) rfl rfl rfl rfl (Nat.le_of_ble_eq_true rfl) dX0_note_7 (fun H locs hT => ?_)
    refine lv_iconst (v := 0) hx hb dX0_note_10 (by decide) ?_
    exact f_iret (wC d a ja) hA0 C hT hf hr hlocks dX0_note_11
def fX0_couldRule_B41 (N : Nat) (j : JS) (r : RS) (K : CS → Int32 → Int32 → Option (Int32 × CS)) (kb : CS → Int32 → Int32 → Int32 → Option (Int32 × CS)) (t : CS) (x2 : Int32) (x3 : Int32) (x4 : Int32) : Option (Int32 × CS) :=
  (if (6 : Int32) ≤ x4 then (K t x2 x3) else (ix x4 6 (ix (((6 : Int32) * x3) + x4) 366 (lett (csA t 29 ((((6 : Int32) * x3) + x4)).toNatClampNeg (t.2.1 17 (x4).toNatClampNeg)) fun t_66 => (lett (x4 + (1 : Int32)) fun x4_67 => (kb t_66 x2 x3 x4_67))))))
def fX0_couldRule_L41 (N : Nat) (j : JS) (r : RS) (K : CS → Int32 → Int32 → Option (Int32 × CS)) : Nat → CS → Int32 → Int32 → Int32 → Option (Int32 × CS)
  | 0 => fun _ _ _ _ => none
  | n + 1 => fun t x2 x3 x4 => fX0_couldRule_B41 N j r K (fX0_couldRule_L41 N j r K n) t x2 x3 x4
def fX0_couldRule_B23 (N : Nat) (j : JS) (r : RS) (K : CS → Int32 → Option (Int32 × CS)) (kb : CS → Int32 → Int32 → Option (Int32 × CS)) (t : CS) (x2 : Int32) (x3 : Int32) : Option (Int32 × CS) :=
  (if (60 : Int32) < x3 then (K t x2) else ((fX0_goesOn N j r 1 t ).bind fun w_34 => (fX0_couldRule_L41 N j r (fun t x2 x3 => (lett (x3 + (1 : Int32)) fun x3_73 => (kb t x2 x3_73))) N w_34.2 x2 x3 (0 : Int32))))
def fX0_couldRule_L23 (N : Nat) (j : JS) (r : RS) (K : CS → Int32 → Option (Int32 × CS)) : Nat → CS → Int32 → Int32 → Option (Int32 × CS)
  | 0 => fun _ _ _ => none
  | n + 1 => fun t x2 x3 => fX0_couldRule_B23 N j r K (fX0_couldRule_L23 N j r K n) t x2 x3
def fX0_couldRule_B86 (N : Nat) (j : JS) (r : RS) (K : CS → Option (Int32 × CS)) (kb : CS → Int32 → Option (Int32 × CS)) (t : CS) (x3 : Int32) : Option (Int32 × CS) :=
  (if (t.1 11) ≤ x3 then (K t) else (ix x3 10 (ix x3 10 (ix (((6 : Int32) * (t.2.1 8 (x3).toNatClampNeg)) + (t.2.1 9 (x3).toNatClampNeg)) 366 (ix x3 10 (if (t.2.1 29 ((((6 : Int32) * (t.2.1 8 (x3).toNatClampNeg)) + (t.2.1 9 (x3).toNatClampNeg))).toNatClampNeg) = (t.2.1 10 (x3).toNatClampNeg) then (lett (x3 + (1 : Int32)) fun x3_126 => (kb t x3_126)) else (some ((0 : Int32), t))))))))
def fX0_couldRule_L86 (N : Nat) (j : JS) (r : RS) (K : CS → Option (Int32 × CS)) : Nat → CS → Int32 → Option (Int32 × CS)
  | 0 => fun _ _ => none
  | n + 1 => fun t x3 => fX0_couldRule_B86 N j r K (fX0_couldRule_L86 N j r K n) t x3
def fX0_couldRule (N : Nat) (j : JS) (r : RS) (t0 : CS) (x1 : Int32) : Option (Int32 × CS) :=
  (lett (t0.1 4) fun x2_4 => (lett (csI t0 4 x1) fun t_7 => ((fX2_begin N j (t_7.2.2.2 1) ).bind fun w_18 => (lett (csS t_7 1 w_18) fun t_18 => (fX0_couldRule_L23 N j r (fun t x2 => (lett (csI t 4 x2) fun t_81 => (fX0_couldRule_L86 N j r (fun t => (some ((1 : Int32), t))) N t_81 (0 : Int32)))) N t_18 x2_4 (0 : Int32))))))
theorem hdX0_couldRule : yX0_couldRule.cls = RX0 ∧ yX0_couldRule.cls ≠ "java/lang/invoke/MethodHandle" ∧ yX0_couldRule.cls ≠ "java/lang/invoke/VarHandle" ∧ (parseMethodDescriptor yX0_couldRule.desc).map (fun d => d.parameters.length) = some 1 := by decide +kernel
set_option maxHeartbeats 4000000 in
theorem mX0_couldRule (l : Launch) (D : va_G) (d : Nat → ClassId) (sd : Nat) (a : Nat → Nat) (ja : Nat → Nat) (N : Nat) (j : JS) (r : RS) (t0 : CS) (x1 : Int32) (w : Int32 × CS) (hf : fX0_couldRule N j r t0 x1 = some w) (sz : Nat) : Met l yX0_couldRule (ws_ yX0_couldRule cX0_couldRule 5 (some .boolean)) (rm_ 264 8092) (GPc D d sd [.ref (a 32), .int x1] (wC d a ja t0) (fun P => JAt d ja j P ∧ RAt d (a 3) r P) sz) (GQi D w.1 (wC d a ja w.2) (wC d a ja t0) sz) 0 0 (va_A (wC d a ja t0) sz) := by
  refine Met.ofW (cc := cX0_couldRule) (maxL := 5) (ret := (some .boolean)) plX0 rfl ?_
  intro p e s m args below meth c s₁ B hml hv
  obtain ⟨C, hX, hR, hT, hr, hlocks, hargs, rfl⟩ := g_enter (own := RX0) B hml rfl hv
  have hx := C.1
  have hb := C.2.1
  have hV := hX.1
  obtain ⟨A, hA0⟩ : ∃ A, A = va_A (wC d a ja t0) s.heap.size := ⟨_, rfl⟩
  rw [← hA0] at hX hR hT
  show W p l e (rm_ 264 8092) s m args below meth c s.heap [] 0 0 (MQ below (GQi D w.1 (wC d a ja w.2) (wC d a ja t0) s.heap.size) args s 0 0 (va_A (wC d a ja t0) s.heap.size)) _
  rw [← hA0]
  have hJ := hR.1
  obtain ⟨rmc, rel, rcap, rf, hrl, hrel, hrc, hrg⟩ := hR.2.unpack
  have hL23 : ∀ (K : CS → Int32 → Option (Int32 × CS)), (∀ (t : CS) (x2 : Int32) (H : Heap) (locs : List Loc) (ls : Array Slot), TH D A s.heap (wC d a ja t) H locs → lv_has ls 5 [(0, .ref (a 32)), (2, .int x2)] → K t x2 = some w → W p l e (rm_ 264 8092) s m args below meth c H locs 0 0 (MQ below (GQi D w.1 (wC d a ja w.2) (wC d a ja t0) s.heap.size) args s 0 0 A) (F0 m 79 ls [])) → ∀ (n : Nat) (t : CS) (x2 : Int32) (x3 : Int32) (H : Heap) (locs : List Loc) (ls : Array Slot), TH D A s.heap (wC d a ja t) H locs → lv_has ls 5 [(0, .ref (a 32)), (2, .int x2), (3, .int x3)] → fX0_couldRule_L23 N j r K n t x2 x3 = some w → W p l e (rm_ 264 8092) s m args below meth c H locs 0 0 (MQ below (GQi D w.1 (wC d a ja w.2) (wC d a ja t0) s.heap.size) args s 0 0 A) (F0 m 23 ls []) := by
    intro K hE n
    induction n with
    | zero =>
      intro t x2 x3 H locs ls hT hl hf
      cases hf
    | succ n ih =>
      have hL41 : ∀ (K : CS → Int32 → Int32 → Option (Int32 × CS)), (∀ (t : CS) (x2 : Int32) (x3 : Int32) (H : Heap) (locs : List Loc) (ls : Array Slot), TH D A s.heap (wC d a ja t) H locs → lv_has ls 5 [(0, .ref (a 32)), (2, .int x2), (3, .int x3)] → K t x2 x3 = some w → W p l e (rm_ 264 8092) s m args below meth c H locs 0 0 (MQ below (GQi D w.1 (wC d a ja w.2) (wC d a ja t0) s.heap.size) args s 0 0 A) (F0 m 73 ls [])) → ∀ (n : Nat) (t : CS) (x2 : Int32) (x3 : Int32) (x4 : Int32) (H : Heap) (locs : List Loc) (ls : Array Slot), TH D A s.heap (wC d a ja t) H locs → lv_has ls 5 [(0, .ref (a 32)), (2, .int x2), (3, .int x3), (4, .int x4)] → fX0_couldRule_L41 N j r K n t x2 x3 x4 = some w → W p l e (rm_ 264 8092) s m args below meth c H locs 0 0 (MQ below (GQi D w.1 (wC d a ja w.2) (wC d a ja t0) s.heap.size) args s 0 0 A) (F0 m 41 ls []) := by
        intro K hE n
        induction n with
        | zero =>
          intro t x2 x3 x4 H locs ls hT hl hf
          cases hf
        | succ n ih =>
          intro t x2 x3 x4 H locs ls hT hl hf
          replace hf : fX0_couldRule_B41 N j r K (fX0_couldRule_L41 N j r K n) t x2 x3 x4 = some w := hf
          unfold fX0_couldRule_B41 at hf
          refine lv_iload hx hb dX0_couldRule_41 (lv_at hl 3 rfl) ?_
          refine lv_bipush (v := 6) hx hb dX0_couldRule_43 (by decide) ?_
          refine lv_icmp_ge (tgt := 73) hx hb dX0_couldRule_45 (by decide) (fun hc => ?_) (fun hc => ?_)
          · have hf := ite_t hc hf
            exact hE t x2 x3 _ _ _ hT (lv_sub hl [0, 1, 2] rfl) hf
          · have hf := ite_f hc hf
            refine lv_aload_n hx hb dX0_couldRule_48 rfl (lv_at hl 0 rfl) ?_
            refine r_get C hV (hT.atp 0 rfl) (ci := 1) rfl in_X0 29 (by decide) q374 rfl dX0_couldRule_49 ?_
            refine lv_bipush (v := 6) hx hb dX0_couldRule_52 (by decide) ?_
            refine lv_iload_n hx hb dX0_couldRule_54 rfl (lv_at hl 2 rfl) ?_
            refine lv_imul hx hb dX0_couldRule_55 ?_
            refine lv_iload hx hb dX0_couldRule_56 (lv_at hl 3 rfl) ?_
            refine lv_iadd hx hb dX0_couldRule_58 ?_
            refine lv_aload_n hx hb dX0_couldRule_59 rfl (lv_at hl 0 rfl) ?_
            refine r_get C hV (hT.atp 0 rfl) (ci := 1) rfl in_X0 17 (by decide) q361 rfl dX0_couldRule_60 ?_
            refine lv_iload hx hb dX0_couldRule_63 (lv_at hl 3 rfl) ?_
            obtain ⟨hi, hf⟩ := ix_e hf
            refine r_ild C hV (hT.atp 6 rfl) _ hi rfl dX0_couldRule_65 ?_
            obtain ⟨hi, hf⟩ := ix_e hf
            obtain ⟨t_66, et⟩ : ∃ y, y = (csA t 29 ((((6 : Int32) * x3) + x4)).toNatClampNeg (t.2.1 17 (x4).toNatClampNeg)) := ⟨_, rfl⟩
            have hf := lett_e et hf
            refine w_ist (ws1 := (wC d a ja t_66)) C hV hT 14 _ rfl hi rfl (by rw [et]; exact upd_set hT.2.1 rfl (cast_29 d a ja t _ _)) dX0_couldRule_66 (fun H locs hT => ?_)
            obtain ⟨x4_67, ex⟩ : ∃ y : Int32, y = (x4 + (1 : Int32)) := ⟨_, rfl⟩
            have hf := lett_e ex hf
            refine lv_iinc (v := x4_67) (lv' := [(4, .int x4_67), (0, .ref (a 32)), (2, .int x2), (3, .int x3)]) hx hb dX0_couldRule_67 hl (k := 3) rfl (by rw [ex]; rfl) (by decide) rfl (fun ls hl => ?_)
            refine lv_goto (tgt := 41) hx hb dX0_couldRule_70 (by decide) ?_
            exact ih t_66 x2 x3 x4_67 _ _ _ hT (lv_sub hl [1, 2, 3, 0] rfl) hf
      intro t x2 x3 H locs ls hT hl hf
      replace hf : fX0_couldRule_B23 N j r K (fX0_couldRule_L23 N j r K n) t x2 x3 = some w := hf
      unfold fX0_couldRule_B23 at hf
      refine lv_iload_n hx hb dX0_couldRule_23 rfl (lv_at hl 2 rfl) ?_
      refine lv_bipush (v := 60) hx hb dX0_couldRule_24 (by decide) ?_
      refine lv_icmp_gt (tgt := 79) hx hb dX0_couldRule_26 (by decide) (fun hc => ?_) (fun hc => ?_)
      · have hf := ite_t hc hf
        exact hE t x2 _ _ _ hT (lv_sub hl [0, 1] rfl) hf
      · have hf := ite_f hc hf
        refine lv_aload_n hx hb dX0_couldRule_29 rfl (lv_at hl 0 rfl) ?_
        refine lv_aload_n hx hb dX0_couldRule_30 rfl (lv_at hl 0 rfl) ?_
        refine r_get C hV (hT.atp 0 rfl) (ci := 1) rfl in_X0 2 (by decide) q337 rfl dX0_couldRule_31 ?_
        obtain ⟨w_34, h_34, hf⟩ := bind_e hf
        refine g_calli (vs := [.ref (sa a 1 0)]) (rest := []) C hX hT (A_new hA0) (Cut.all (D_nd hT.2.1) ((wC_fst d a ja _).trans (wC_fst d a ja t).symm)) (Ro := (fun P => JAt d ja j P ∧ RAt d (a 3) r P)) ⟨hJ.step hT.2.2 (A_full hA0 hT.2.2.1), hR.2.step hT.2.2 (A_full hA0 hT.2.2.1)⟩ (fun sz => mX0_goesOn l D d sd a ja N j r 1 t  _ h_34 (by decide) sz) (cwV 1 C.2.2.2.2 (lw_V q932 q934 qs30 q120 q935) rfl rfl rfl hdX0_goesOn ⟨Nat.le_of_ble_eq_true rfl, Nat.le_of_ble_eq_true rfl⟩) (g_recv hV (hT.atp 0 rfl) (ci := 1) rfl) rfl hl.1 rfl (Nat.le_of_ble_eq_true rfl) dX0_couldRule_34 ⟨Nat.zero_le _, Nat.zero_le _⟩ (fun H locs hT => ?_)
        refine lv_pop hx hb dX0_couldRule_37 rfl ?_
        refine lv_iconst (v := 0) hx hb dX0_couldRule_38 (by decide) ?_
        refine lv_istore (lv' := [(4, .int (0 : Int32)), (0, .ref (a 32)), (2, .int x2), (3, .int x3)]) hx hb dX0_couldRule_39 hl (by decide) rfl (fun ls hl => ?_)
        refine hL41 _ (fun t x2 x3 H locs ls hT hl hf => ?_) N w_34.2 x2 x3 (0 : Int32) _ _ _ hT (lv_sub hl [1, 2, 3, 0] rfl) hf
        obtain ⟨x3_73, ex⟩ : ∃ y : Int32, y = (x3 + (1 : Int32)) := ⟨_, rfl⟩
        have hf := lett_e ex hf
        refine lv_iinc (v := x3_73) (lv' := [(3, .int x3_73), (0, .ref (a 32)), (2, .int x2)]) hx hb dX0_couldRule_73 hl (k := 2) rfl (by rw [ex]; rfl) (by decide) rfl (fun ls hl => ?_)
        refine lv_goto (tgt := 23) hx hb dX0_couldRule_76 (by decide) ?_
        exact ih t x2 x3_73 _ _ _ hT (lv_sub hl [1, 2, 0] rfl) hf
  have hL86 : ∀ (K : CS → Option (Int32 × CS)), (∀ (t : CS) (H : Heap) (locs : List Loc) (ls : Array Slot), TH D A s.heap (wC d a ja t) H locs → lv_has ls 5 [] → K t = some w → W p l e (rm_ 264 8092) s m args below meth c H locs 0 0 (MQ below (GQi D w.1 (wC d a ja w.2) (wC d a ja t0) s.heap.size) args s 0 0 A) (F0 m 132 ls [])) → ∀ (n : Nat) (t : CS) (x3 : Int32) (H : Heap) (locs : List Loc) (ls : Array Slot), TH D A s.heap (wC d a ja t) H locs → lv_has ls 5 [(0, .ref (a 32)), (3, .int x3)] → fX0_couldRule_L86 N j r K n t x3 = some w → W p l e (rm_ 264 8092) s m args below meth c H locs 0 0 (MQ below (GQi D w.1 (wC d a ja w.2) (wC d a ja t0) s.heap.size) args s 0 0 A) (F0 m 86 ls []) := by
    intro K hE n
    induction n with
    | zero =>
      intro t x3 H locs ls hT hl hf
      cases hf
    | succ n ih =>
      intro t x3 H locs ls hT hl hf
      replace hf : fX0_couldRule_B86 N j r K (fX0_couldRule_L86 N j r K n) t x3 = some w := hf
      unfold fX0_couldRule_B86 at hf
      refine lv_iload_n hx hb dX0_couldRule_86 rfl (lv_at hl 1 rfl) ?_
      refine lv_aload_n hx hb dX0_couldRule_87 rfl (lv_at hl 0 rfl) ?_
      refine r_get C hV (hT.atp 0 rfl) (ci := 1) rfl in_X0 11 (by decide) q354 rfl dX0_couldRule_88 ?_
      refine lv_icmp_ge (tgt := 132) hx hb dX0_couldRule_91 (by decide) (fun hc => ?_) (fun hc => ?_)
      · have hf := ite_t hc hf
        exact hE t _ _ _ hT (lv_sub hl [] rfl) hf
      · have hf := ite_f hc hf
        refine lv_aload_n hx hb dX0_couldRule_94 rfl (lv_at hl 0 rfl) ?_
        refine r_get C hV (hT.atp 0 rfl) (ci := 1) rfl in_X0 29 (by decide) q374 rfl dX0_couldRule_95 ?_
        refine lv_bipush (v := 6) hx hb dX0_couldRule_98 (by decide) ?_
        refine lv_aload_n hx hb dX0_couldRule_100 rfl (lv_at hl 0 rfl) ?_
        refine r_get C hV (hT.atp 0 rfl) (ci := 1) rfl in_X0 8 (by decide) q348 rfl dX0_couldRule_101 ?_
        refine lv_iload_n hx hb dX0_couldRule_104 rfl (lv_at hl 1 rfl) ?_
        obtain ⟨hi, hf⟩ := ix_e hf
        refine r_ild C hV (hT.atp 2 rfl) _ hi rfl dX0_couldRule_105 ?_
        refine lv_imul hx hb dX0_couldRule_106 ?_
        refine lv_aload_n hx hb dX0_couldRule_107 rfl (lv_at hl 0 rfl) ?_
        refine r_get C hV (hT.atp 0 rfl) (ci := 1) rfl in_X0 9 (by decide) q350 rfl dX0_couldRule_108 ?_
        refine lv_iload_n hx hb dX0_couldRule_111 rfl (lv_at hl 1 rfl) ?_
        obtain ⟨hi, hf⟩ := ix_e hf
        refine r_ild C hV (hT.atp 3 rfl) _ hi rfl dX0_couldRule_112 ?_
        refine lv_iadd hx hb dX0_couldRule_113 ?_
        obtain ⟨hi, hf⟩ := ix_e hf
        refine r_ild C hV (hT.atp 14 rfl) _ hi rfl dX0_couldRule_114 ?_
        refine lv_aload_n hx hb dX0_couldRule_115 rfl (lv_at hl 0 rfl) ?_
        refine r_get C hV (hT.atp 0 rfl) (ci := 1) rfl in_X0 10 (by decide) q352 rfl dX0_couldRule_116 ?_
        refine lv_iload_n hx hb dX0_couldRule_119 rfl (lv_at hl 1 rfl) ?_
        obtain ⟨hi, hf⟩ := ix_e hf
        refine r_ild C hV (hT.atp 4 rfl) _ hi rfl dX0_couldRule_120 ?_
        refine lv_icmp_eq (tgt := 126) hx hb dX0_couldRule_121 (by decide) (fun hc => ?_) (fun hc => ?_)
        · have hf := ite_t hc hf
          obtain ⟨x3_126, ex⟩ : ∃ y : Int32, y = (x3 + (1 : Int32)) := ⟨_, rfl⟩
          have hf := lett_e ex hf
          refine lv_iinc (v := x3_126) (lv' := [(3, .int x3_126), (0, .ref (a 32))]) hx hb dX0_couldRule_126 hl (k := 1) rfl (by rw [ex]; rfl) (by decide) rfl (fun ls hl => ?_)
          refine lv_goto (tgt := 86) hx hb dX0_couldRule_129 (by decide) ?_
          exact ih t x3_126 _ _ _ hT (lv_sub hl [1, 0] rfl) hf
        · have hf := ite_f hc hf
          refine lv_iconst (v := 0) hx hb dX0_couldRule_124 (by decide) ?_
          exact f_zret (wC d a ja) hA0 C hT hf (Or.inl rfl) hr hlocks dX0_couldRule_125
  refine W.eq (by rw [hargs]) (t_in (vs := [.ref (a 32), .int x1]) (n := 5) (Nat.le_of_ble_eq_true rfl) (fun ls hl => ?_))
  have hl : lv_has ls 5 [(0, .ref (a 32)), (1, .int x1)] := hl
  unfold fX0_couldRule at hf
  refine lv_aload_n hx hb dX0_couldRule_0 rfl (lv_at hl 0 rfl) ?_
  refine r_get C hV (hT.atp 0 rfl) (ci := 1) rfl in_X0 4 (by decide) q341 rfl dX0_couldRule_1 ?_
  refine lv_topi (fun x2_4 ex => ?_)
  have hf := lett_e ex hf
  refine lv_istore_n (lv' := [(2, .int x2_4), (0, .ref (a 32)), (1, .int x1)]) hx hb dX0_couldRule_4 rfl hl (by decide) rfl (fun ls hl => ?_)
  refine lv_aload_n hx hb dX0_couldRule_5 rfl (lv_at hl 1 rfl) ?_
  refine lv_iload_n hx hb dX0_couldRule_6 rfl (lv_at hl 2 rfl) ?_
  obtain ⟨t_7, et⟩ : ∃ y, y = (csI t0 4 x1) := ⟨_, rfl⟩
  have hf := lett_e et hf
  refine w_put C hV hT (ws1 := (wC d a ja t_7)) 0 rfl rfl in_X0 tyX0_ok nmX0 4 (by decide) q341 (by rw [et]; exact upd_set hT.2.1 rfl (cset_4 d a ja t0 _)) rfl rfl rfl rfl (Nat.le_of_ble_eq_true rfl) dX0_couldRule_7 (fun H locs hT => ?_)
  refine lv_aload_n hx hb dX0_couldRule_10 rfl (lv_at hl 1 rfl) ?_
  refine r_get C hV (hT.atp 0 rfl) (ci := 1) rfl in_X0 2 (by decide) q337 rfl dX0_couldRule_11 ?_
  refine lv_aload_n hx hb dX0_couldRule_14 rfl (lv_at hl 1 rfl) ?_
  refine r_get C hV (hT.atp 0 rfl) (ci := 1) rfl in_X0 0 (by decide) q334 rfl dX0_couldRule_15 ?_
  obtain ⟨w_18, h_18, hf⟩ := bind_e hf
  refine g_callv (vs := [.ref (ja 0)]) (rest := []) C hX hT (A_new hA0) (wC_cutS hT.2.1 (by decide) _) (hJ.step hT.2.2 (A_st hA0 hT (by decide))) (fun sz => mX2_begin l D d sd (sa a 1) ja N j (t_7.2.2.2 1)  _ h_18 sz) (cwV 1 C.2.2.2.2 (lw_V q691 q692 q693 q125 q694) rfl rfl rfl hdX2_begin ⟨Nat.le_of_ble_eq_true rfl, Nat.le_of_ble_eq_true rfl⟩) (g_recv hV (hT.ats (i := 1) (by decide) 0 rfl) (ci := 2) rfl) rfl hl.1 rfl (Nat.le_of_ble_eq_true rfl) dX0_couldRule_18 ⟨Nat.zero_le _, Nat.zero_le _⟩ (fun H locs hT => ?_)
  obtain ⟨t_18, et⟩ : ∃ y, y = (csS t_7 1 w_18) := ⟨_, rfl⟩
  rw [← et] at hT
  have hf := lett_e et hf
  refine lv_iconst (v := 0) hx hb dX0_couldRule_21 (by decide) ?_
  refine lv_istore_n (lv' := [(3, .int (0 : Int32)), (2, .int x2_4), (0, .ref (a 32)), (1, .int x1)]) hx hb dX0_couldRule_22 rfl hl (by decide) rfl (fun ls hl => ?_)
  refine hL23 _ (fun t x2 H locs ls hT hl hf => ?_) N t_18 x2_4 (0 : Int32) _ _ _ hT (lv_sub hl [2, 1, 0] rfl) hf
  refine lv_aload_n hx hb dX0_couldRule_79 rfl (lv_at hl 0 rfl) ?_
  refine lv_iload_n hx hb dX0_couldRule_80 rfl (lv_at hl 1 rfl) ?_
  obtain ⟨t_81, et⟩ : ∃ y, y = (csI t 4 x2) := ⟨_, rfl⟩
  have hf := lett_e et hf
  refine w_put C hV hT (ws1 := (wC d a ja t_81)) 0 rfl rfl in_X0 tyX0_ok nmX0 4 (by decide) q341 (by rw [et]; exact upd_set hT.2.1 rfl (cset_4 d a ja t _)) rfl rfl rfl rfl (Nat.le_of_ble_eq_true rfl) dX0_couldRule_81 (fun H locs hT => ?_)
  refine lv_iconst (v := 0) hx hb dX0_couldRule_84 (by decide) ?_
  refine lv_istore_n (lv' := [(3, .int (0 : Int32)), (0, .ref (a 32)), (2, .int x2)]) hx hb dX0_couldRule_85 rfl hl (by decide) rfl (fun ls hl => ?_)
  refine hL86 _ (fun t H locs ls hT hl hf => ?_) N t_81 (0 : Int32) _ _ _ hT (lv_sub hl [1, 0] rfl) hf
  refine lv_iconst (v := 1) hx hb dX0_couldRule_132 (by decide) ?_
  exact f_zret (wC d a ja) hA0 C hT hf (Or.inr rfl) hr hlocks dX0_couldRule_133
def fX0_ruled_B28 (N : Nat) (j : JS) (r : RS) (K : CS → Int32 → Int32 → Int32 → Option (Int32 × CS)) (kb : CS → Int32 → Int32 → Int32 → Int32 → Option (Int32 × CS)) (t : CS) (x1 : Int32) (x2 : Int32) (x3 : Int32) (x4 : Int32) : Option (Int32 × CS) :=
  (if r.1 ≤ x4 then (K t x1 x2 x3) else ((fX0_couldRule N j r  t x4).bind fun w_43 => (if ¬ w_43.1 = 0 then (if ¬ x2 = 0 then (lett (x2 + (1 : Int32)) fun x2_63 => (lett (x4 + (1 : Int32)) fun x4_66 => (kb w_43.2 x1 x2_63 x3 x4_66))) else (lett (x2 + (1 : Int32)) fun x2_63 => (lett (x4 + (1 : Int32)) fun x4_66 => (kb w_43.2 x1 x2_63 x4 x4_66)))) else (lett (x4 + (1 : Int32)) fun x4_66 => (kb w_43.2 x1 x2 x3 x4_66)))))
def fX0_ruled_L28 (N : Nat) (j : JS) (r : RS) (K : CS → Int32 → Int32 → Int32 → Option (Int32 × CS)) : Nat → CS → Int32 → Int32 → Int32 → Int32 → Option (Int32 × CS)
  | 0 => fun _ _ _ _ _ => none
  | n + 1 => fun t x1 x2 x3 x4 => fX0_ruled_B28 N j r K (fX0_ruled_L28 N j r K n) t x1 x2 x3 x4
def fX0_ruled (N : Nat) (j : JS) (r : RS) (t0 : CS) (x1 : Int32) : Option (Int32 × CS) :=
  ((fX0_isJunction N j r  t0 ).bind fun w_1 => (if w_1.1 = 0 then (some ((-3 : Int32), w_1.2)) else ((fX0_in N (x1).toInt64 (0 : Int64) (1 : Int64)).bind fun w_11 => (if ¬ w_11 = 0 then (fX0_ruled_L28 N j r (fun t x1 x2 x3 => (if ¬ x1 = 0 then (some (x3, t)) else (some (x2, t)))) N w_1.2 x1 (0 : Int32) (-2 : Int32) (-1 : Int32)) else (some ((-3 : Int32), w_1.2))))))
theorem hdX0_ruled : yX0_ruled.cls = RX0 ∧ yX0_ruled.cls ≠ "java/lang/invoke/MethodHandle" ∧ yX0_ruled.cls ≠ "java/lang/invoke/VarHandle" ∧ (parseMethodDescriptor yX0_ruled.desc).map (fun d => d.parameters.length) = some 1 := by decide +kernel
set_option maxHeartbeats 4000000 in
theorem mX0_ruled (l : Launch) (D : va_G) (d : Nat → ClassId) (sd : Nat) (a : Nat → Nat) (ja : Nat → Nat) (N : Nat) (j : JS) (r : RS) (t0 : CS) (x1 : Int32) (w : Int32 × CS) (hf : fX0_ruled N j r t0 x1 = some w) (sz : Nat) : Met l yX0_ruled (ws_ yX0_ruled cX0_ruled 5 (some .int)) (rm_ 265 8116) (GPc D d sd [.ref (a 32), .int x1] (wC d a ja t0) (fun P => JAt d ja j P ∧ RAt d (a 3) r P) sz) (GQi D w.1 (wC d a ja w.2) (wC d a ja t0) sz) 0 0 (va_A (wC d a ja t0) sz) := by
  refine Met.ofW (cc := cX0_ruled) (maxL := 5) (ret := (some .int)) plX0 rfl ?_
  intro p e s m args below meth c s₁ B hml hv
  obtain ⟨C, hX, hR, hT, hr, hlocks, hargs, rfl⟩ := g_enter (own := RX0) B hml rfl hv
  have hx := C.1
  have hb := C.2.1
  have hV := hX.1
  obtain ⟨A, hA0⟩ : ∃ A, A = va_A (wC d a ja t0) s.heap.size := ⟨_, rfl⟩
  rw [← hA0] at hX hR hT
  show W p l e (rm_ 265 8116) s m args below meth c s.heap [] 0 0 (MQ below (GQi D w.1 (wC d a ja w.2) (wC d a ja t0) s.heap.size) args s 0 0 (va_A (wC d a ja t0) s.heap.size)) _
  rw [← hA0]
  have hJ := hR.1
  obtain ⟨rmc, rel, rcap, rf, hrl, hrel, hrc, hrg⟩ := hR.2.unpack
  have hL28 : ∀ (K : CS → Int32 → Int32 → Int32 → Option (Int32 × CS)), (∀ (t : CS) (x1 : Int32) (x2 : Int32) (x3 : Int32) (H : Heap) (locs : List Loc) (ls : Array Slot), TH D A s.heap (wC d a ja t) H locs → lv_has ls 5 [(1, .int x1), (2, .int x2), (3, .int x3)] → K t x1 x2 x3 = some w → W p l e (rm_ 265 8116) s m args below meth c H locs 0 0 (MQ below (GQi D w.1 (wC d a ja w.2) (wC d a ja t0) s.heap.size) args s 0 0 A) (F0 m 72 ls [])) → ∀ (n : Nat) (t : CS) (x1 : Int32) (x2 : Int32) (x3 : Int32) (x4 : Int32) (H : Heap) (locs : List Loc) (ls : Array Slot), TH D A s.heap (wC d a ja t) H locs → lv_has ls 5 [(0, .ref (a 32)), (1, .int x1), (2, .int x2), (3, .int x3), (4, .int x4)] → fX0_ruled_L28 N j r K n t x1 x2 x3 x4 = some w → W p l e (rm_ 265 8116) s m args below meth c H locs 0 0 (MQ below (GQi D w.1 (wC d a ja w.2) (wC d a ja t0) s.heap.size) args s 0 0 A) (F0 m 28 ls []) := by
    intro K hE n
    induction n with
    | zero =>
      intro t x1 x2 x3 x4 H locs ls hT hl hf
      cases hf
    | succ n ih =>
      intro t x1 x2 x3 x4 H locs ls hT hl hf
      replace hf : fX0_ruled_B28 N j r K (fX0_ruled_L28 N j r K n) t x1 x2 x3 x4 = some w := hf
      unfold fX0_ruled_B28 at hf
      refine lv_iload hx hb dX0_ruled_28 (lv_at hl 4 rfl) ?_
      refine lv_aload_n hx hb dX0_ruled_30 rfl (lv_at hl 0 rfl) ?_
      refine r_get C hV (hT.atp 0 rfl) (ci := 1) rfl in_X0 3 (by decide) q338 rfl dX0_ruled_31 ?_
      refine g_calli (vs := []) (rest := [.int x4]) C hX hT (A_new hA0) (Cut.none _) (hrl.step hT.2.2 (Anil (A_new hA0) hT.2.2.1)) (fun sz => mJ2_size l D d sd (a 3) rel N rmc r.1 _ rfl sz) (cwV 0 C.2.2.2.2 (lw_V q714 q588 q589 q124 q590) rfl rfl rfl hdJ2_size ⟨Nat.le_of_ble_eq_true rfl, Nat.le_of_ble_eq_true rfl⟩) (g_recv hV (hrl.at hT.2.2) (ci := 4) rfl) rfl hl.1 rfl (Nat.le_of_ble_eq_true rfl) dX0_ruled_34 ⟨Nat.zero_le _, Nat.zero_le _⟩ (fun H locs hT => ?_)
      refine lv_icmp_ge (tgt := 72) hx hb dX0_ruled_37 (by decide) (fun hc => ?_) (fun hc => ?_)
      · have hf := ite_t hc hf
        exact hE t x1 x2 x3 _ _ _ hT (lv_sub hl [1, 2, 3] rfl) hf
      · have hf := ite_f hc hf
        refine lv_aload_n hx hb dX0_ruled_40 rfl (lv_at hl 0 rfl) ?_
        refine lv_iload hx hb dX0_ruled_41 (lv_at hl 4 rfl) ?_
        obtain ⟨w_43, h_43, hf⟩ := bind_e hf
        refine g_calli (vs := [.int x4]) (rest := []) C hX hT (A_new hA0) (Cut.all (D_nd hT.2.1) ((wC_fst d a ja _).trans (wC_fst d a ja t).symm)) (Ro := (fun P => JAt d ja j P ∧ RAt d (a 3) r P)) ⟨hJ.step hT.2.2 (A_full hA0 hT.2.2.1), hR.2.step hT.2.2 (A_full hA0 hT.2.2.1)⟩ (fun sz => mX0_couldRule l D d sd a ja N j r  t x4 _ h_43 sz) (cwV 1 C.2.2.2.2 (lw_V q1155 q1157 qs41 q120 q1158) rfl rfl rfl hdX0_couldRule ⟨Nat.le_of_ble_eq_true rfl, Nat.le_of_ble_eq_true rfl⟩) (g_recv hV (hT.atp 0 rfl) (ci := 1) rfl) rfl hl.1 rfl (Nat.le_of_ble_eq_true rfl) dX0_ruled_43 ⟨Nat.zero_le _, Nat.zero_le _⟩ (fun H locs hT => ?_)
        refine lv_if_ne (tgt := 52) hx hb dX0_ruled_46 (by decide) (fun hc => ?_) (fun hc => ?_)
        · have hf := ite_t hc hf
          refine lv_iload_n hx hb dX0_ruled_52 rfl (lv_at hl 2 rfl) ?_
          refine lv_if_ne (tgt := 61) hx hb dX0_ruled_53 (by decide) (fun hc => ?_) (fun hc => ?_)
          · have hf := ite_t hc hf
            refine lv_iload_n hx hb dX0_ruled_61 rfl (lv_at hl 3 rfl) ?_
            refine lv_istore_n (lv' := [(3, .int x3), (0, .ref (a 32)), (1, .int x1), (2, .int x2), (4, .int x4)]) hx hb dX0_ruled_62 rfl hl (by decide) rfl (fun ls hl => ?_)
            obtain ⟨x2_63, ex⟩ : ∃ y : Int32, y = (x2 + (1 : Int32)) := ⟨_, rfl⟩
            have hf := lett_e ex hf
            refine lv_iinc (v := x2_63) (lv' := [(2, .int x2_63), (3, .int x3), (0, .ref (a 32)), (1, .int x1), (4, .int x4)]) hx hb dX0_ruled_63 hl (k := 3) rfl (by rw [ex]; rfl) (by decide) rfl (fun ls hl => ?_)
            obtain ⟨x4_66, ex⟩ : ∃ y : Int32, y = (x4 + (1 : Int32)) := ⟨_, rfl⟩
            have hf := lett_e ex hf
            refine lv_iinc (v := x4_66) (lv' := [(4, .int x4_66), (2, .int x2_63), (3, .int x3), (0, .ref (a 32)), (1, .int x1)]) hx hb dX0_ruled_66 hl (k := 4) rfl (by rw [ex]; rfl) (by decide) rfl (fun ls hl => ?_)
            refine lv_goto (tgt := 28) hx hb dX0_ruled_69 (by decide) ?_
            exact ih w_43.2 x1 x2_63 x3 x4_66 _ _ _ hT (lv_sub hl [3, 4, 1, 2, 0] rfl) hf
          · have hf := ite_f (fun q => q hc) hf
            refine lv_iload hx hb dX0_ruled_56 (lv_at hl 4 rfl) ?_
            refine lv_goto (tgt := 62) hx hb dX0_ruled_58 (by decide) ?_
            refine lv_istore_n (lv' := [(3, .int x4), (0, .ref (a 32)), (1, .int x1), (2, .int x2), (4, .int x4)]) hx hb dX0_ruled_62 rfl hl (by decide) rfl (fun ls hl => ?_)
            obtain ⟨x2_63, ex⟩ : ∃ y : Int32, y = (x2 + (1 : Int32)) := ⟨_, rfl⟩
            have hf := lett_e ex hf
            refine lv_iinc (v := x2_63) (lv' := [(2, .int x2_63), (3, .int x4), (0, .ref (a 32)), (1, .int x1), (4, .int x4)]) hx hb dX0_ruled_63 hl (k := 3) rfl (by rw [ex]; rfl) (by decide) rfl (fun ls hl => ?_)
            obtain ⟨x4_66, ex⟩ : ∃ y : Int32, y = (x4 + (1 : Int32)) := ⟨_, rfl⟩
            have hf := lett_e ex hf
            refine lv_iinc (v := x4_66) (lv' := [(4, .int x4_66), (2, .int x2_63), (3, .int x4), (0, .ref (a 32)), (1, .int x1)]) hx hb dX0_ruled_66 hl (k := 4) rfl (by rw [ex]; rfl) (by decide) rfl (fun ls hl => ?_)
            refine lv_goto (tgt := 28) hx hb dX0_ruled_69 (by decide) ?_
            exact ih w_43.2 x1 x2_63 x4 x4_66 _ _ _ hT (lv_sub hl [3, 4, 1, 2, 0] rfl) hf
        · have hf := ite_f (fun q => q hc) hf
          refine lv_goto (tgt := 66) hx hb dX0_ruled_49 (by decide) ?_
          obtain ⟨x4_66, ex⟩ : ∃ y : Int32, y = (x4 + (1 : Int32)) := ⟨_, rfl⟩
          have hf := lett_e ex hf
          refine lv_iinc (v := x4_66) (lv' := [(4, .int x4_66), (0, .ref (a 32)), (1, .int x1), (2, .int x2), (3, .int x3)]) hx hb dX0_ruled_66 hl (k := 4) rfl (by rw [ex]; rfl) (by decide) rfl (fun ls hl => ?_)
          refine lv_goto (tgt := 28) hx hb dX0_ruled_69 (by decide) ?_
          exact ih w_43.2 x1 x2 x3 x4_66 _ _ _ hT (lv_sub hl [1, 2, 3, 4, 0] rfl) hf
  refine W.eq (by rw [hargs]) (t_in (vs := [.ref (a 32), .int x1]) (n := 5) (Nat.le_of_ble_eq_true rfl) (fun ls hl => ?_))
  have hl : lv_has ls 5 [(0, .ref (a 32)), (1, .int x1)] := hl
  unfold fX0_ruled at hf
  refine lv_aload_n hx hb dX0_ruled_0 rfl (lv_at hl 0 rfl) ?_
  obtain ⟨w_1, h_1, hf⟩ := bind_e hf
  refine g_calli (vs := []) (rest := []) C hX hT (A_new hA0) (Cut.all (D_nd hT.2.1) ((wC_fst d a ja _).trans (wC_fst d a ja t0).symm)) (Ro := (fun P => JAt d ja j P ∧ RAt d (a 3) r P)) ⟨hJ.step hT.2.2 (A_full hA0 hT.2.2.1), hR.2.step hT.2.2 (A_full hA0 hT.2.2.1)⟩ (fun sz => mX0_isJunction l D d sd a ja N j r  t0  _ h_1 sz) (cwV 0 C.2.2.2.2 (lw_V q923 q925 qs28 q120 q926) rfl rfl rfl hdX0_isJunction ⟨Nat.le_of_ble_eq_true rfl, Nat.le_of_ble_eq_true rfl⟩) (g_recv hV (hT.atp 0 rfl) (ci := 1) rfl) rfl hl.1 rfl (Nat.le_of_ble_eq_true rfl) dX0_ruled_1 ⟨Nat.zero_le _, Nat.zero_le _⟩ (fun H locs hT => ?_)
  refine lv_if_eq (tgt := 17) hx hb dX0_ruled_4 (by decide) (fun hc => ?_) (fun hc => ?_)
  · have hf := ite_t hc hf
    refine lv_bipush (v := -3) hx hb dX0_ruled_17 (by decide) ?_
    exact f_iret (wC d a ja) hA0 C hT hf hr hlocks dX0_ruled_19
  · have hf := ite_f hc hf
    refine lv_iload_n hx hb dX0_ruled_7 rfl (lv_at hl 1 rfl) ?_
    refine lv_i2l hx hb dX0_ruled_8 rfl ?_
    refine lv_lconst (v := 0) hx hb dX0_ruled_9 (by decide) ?_
    refine lv_lconst (v := 1) hx hb dX0_ruled_10 (by decide) ?_
    obtain ⟨w_11, h_11, hf⟩ := bind_e hf
    refine s_calli (vs := [.long (x1).toInt64, .long (0 : Int64), .long (1 : Int64)]) (rest := []) C (A_new hA0) hT (fun sz => mX0_in l N (x1).toInt64 (0 : Int64) (1 : Int64) _ h_11 sz) (va_cwS 3 C.2.2.2.2 (lw_S q885 q518 q120 q519) rfl rfl rfl hdX0_in ⟨Nat.le_of_ble_eq_true rfl, Nat.le_of_ble_eq_true rfl⟩) rfl hl.1 rfl (Nat.le_of_ble_eq_true rfl) dX0_ruled_11 ⟨Nat.zero_le _, Nat.zero_le _⟩ (fun H locs hT => ?_)
    refine lv_if_ne (tgt := 20) hx hb dX0_ruled_14 (by decide) (fun hc => ?_) (fun hc => ?_)
    · have hf := ite_t hc hf
      refine lv_iconst (v := 0) hx hb dX0_ruled_20 (by decide) ?_
      refine lv_istore_n (lv' := [(2, .int (0 : Int32)), (0, .ref (a 32)), (1, .int x1)]) hx hb dX0_ruled_21 rfl hl (by decide) rfl (fun ls hl => ?_)
      refine lv_bipush (v := -2) hx hb dX0_ruled_22 (by decide) ?_
      refine lv_istore_n (lv' := [(3, .int (-2 : Int32)), (2, .int (0 : Int32)), (0, .ref (a 32)), (1, .int x1)]) hx hb dX0_ruled_24 rfl hl (by decide) rfl (fun ls hl => ?_)
      refine lv_iconst (v := -1) hx hb dX0_ruled_25 (by decide) ?_
      refine lv_istore (lv' := [(4, .int (-1 : Int32)), (3, .int (-2 : Int32)), (2, .int (0 : Int32)), (0, .ref (a 32)), (1, .int x1)]) hx hb dX0_ruled_26 hl (by decide) rfl (fun ls hl => ?_)
      refine hL28 _ (fun t x1 x2 x3 H locs ls hT hl hf => ?_) N w_1.2 x1 (0 : Int32) (-2 : Int32) (-1 : Int32) _ _ _ hT (lv_sub hl [3, 4, 2, 1, 0] rfl) hf
      refine lv_iload_n hx hb dX0_ruled_72 rfl (lv_at hl 0 rfl) ?_
      refine lv_if_ne (tgt := 80) hx hb dX0_ruled_73 (by decide) (fun hc => ?_) (fun hc => ?_)
      · have hf := ite_t hc hf
        refine lv_iload_n hx hb dX0_ruled_80 rfl (lv_at hl 2 rfl) ?_
        exact f_iret (wC d a ja) hA0 C hT hf hr hlocks dX0_ruled_81
      · have hf := ite_f (fun q => q hc) hf
        refine lv_iload_n hx hb dX0_ruled_76 rfl (lv_at hl 1 rfl) ?_
        refine lv_goto (tgt := 81) hx hb dX0_ruled_77 (by decide) ?_
        exact f_iret (wC d a ja) hA0 C hT hf hr hlocks dX0_ruled_81
    · have hf := ite_f (fun q => q hc) hf
      refine lv_bipush (v := -3) hx hb dX0_ruled_17 (by decide) ?_
      exact f_iret (wC d a ja) hA0 C hT hf hr hlocks dX0_ruled_19
def fX0_mostAlike_J57 (N : Nat) (j : JS) (r : RS) (K : CS → Int32 → Int32 → Int32 → Int32 → Int32 → Option (Int32 × CS)) (kb : CS → Int32 → Int32 → Int32 → Int32 → Int32 → Int32 → Option (Int32 × CS)) (t : CS) (x1 : Int32) (x2 : Int32) (x3 : Int32) (x4 : Int32) (x6 : Int32) (s0 : Int32) (s1 : Int32) : Option (Int32 × CS) :=
  ((fX0_bit N s0).bind fun w_57 => (lett (s1 + w_57) fun x5_61 => (lett (x6 + (1 : Int32)) fun x6_63 => (kb t x1 x2 x3 x4 x5_61 x6_63))))
def fX0_mostAlike_B17 (N : Nat) (j : JS) (r : RS) (K : CS → Int32 → Int32 → Int32 → Int32 → Int32 → Option (Int32 × CS)) (kb : CS → Int32 → Int32 → Int32 → Int32 → Int32 → Int32 → Option (Int32 × CS)) (t : CS) (x1 : Int32) (x2 : Int32) (x3 : Int32) (x4 : Int32) (x5 : Int32) (x6 : Int32) : Option (Int32 × CS) :=
  (if x2 ≤ x6 then (K t x1 x2 x3 x4 x5) else (ix (((6 : Int32) * x6) + x1) 42 (ix (((6 : Int32) * x4) + x1) 42 (if ¬ (t.2.1 30 ((((6 : Int32) * x6) + x1)).toNatClampNeg) = (t.2.1 30 ((((6 : Int32) * x4) + x1)).toNatClampNeg) then (fX0_mostAlike_J57 N j r K kb t x1 x2 x3 x4 x6 (0 : Int32) x5) else (fX0_mostAlike_J57 N j r K kb t x1 x2 x3 x4 x6 (1 : Int32) x5)))))
def fX0_mostAlike_L17 (N : Nat) (j : JS) (r : RS) (K : CS → Int32 → Int32 → Int32 → Int32 → Int32 → Option (Int32 × CS)) : Nat → CS → Int32 → Int32 → Int32 → Int32 → Int32 → Int32 → Option (Int32 × CS)
  | 0 => fun _ _ _ _ _ _ _ => none
  | n + 1 => fun t x1 x2 x3 x4 x5 x6 => fX0_mostAlike_B17 N j r K (fX0_mostAlike_L17 N j r K n) t x1 x2 x3 x4 x5 x6
def fX0_mostAlike_B5 (N : Nat) (j : JS) (r : RS) (K : CS → Int32 → Option (Int32 × CS)) (kb : CS → Int32 → Int32 → Int32 → Int32 → Option (Int32 × CS)) (t : CS) (x1 : Int32) (x2 : Int32) (x3 : Int32) (x4 : Int32) : Option (Int32 × CS) :=
  (if x2 ≤ x4 then (K t x3) else (fX0_mostAlike_L17 N j r (fun t x1 x2 x3 x4 x5 => (lett (jmax x3 x5) fun x3_75 => (lett (x4 + (1 : Int32)) fun x4_76 => (kb t x1 x2 x3_75 x4_76)))) N t x1 x2 x3 x4 (0 : Int32) (0 : Int32)))
def fX0_mostAlike_L5 (N : Nat) (j : JS) (r : RS) (K : CS → Int32 → Option (Int32 × CS)) : Nat → CS → Int32 → Int32 → Int32 → Int32 → Option (Int32 × CS)
  | 0 => fun _ _ _ _ _ => none
  | n + 1 => fun t x1 x2 x3 x4 => fX0_mostAlike_B5 N j r K (fX0_mostAlike_L5 N j r K n) t x1 x2 x3 x4
def fX0_mostAlike (N : Nat) (j : JS) (r : RS) (t0 : CS) (x1 : Int32) (x2 : Int32) : Option (Int32 × CS) :=
  (fX0_mostAlike_L5 N j r (fun t x3 => (some (x3, t))) N t0 x1 x2 (0 : Int32) (0 : Int32))
theorem hdX0_mostAlike : yX0_mostAlike.cls = RX0 ∧ yX0_mostAlike.cls ≠ "java/lang/invoke/MethodHandle" ∧ yX0_mostAlike.cls ≠ "java/lang/invoke/VarHandle" ∧ (parseMethodDescriptor yX0_mostAlike.desc).map (fun d => d.parameters.length) = some 2 := by decide +kernel
set_option maxHeartbeats 4000000 in
theorem mX0_mostAlike (l : Launch) (D : va_G) (d : Nat → ClassId) (sd : Nat) (a : Nat → Nat) (ja : Nat → Nat) (N : Nat) (j : JS) (r : RS) (t0 : CS) (x1 : Int32) (x2 : Int32) (w : Int32 × CS) (hf : fX0_mostAlike N j r t0 x1 x2 = some w) (sz : Nat) : Met l yX0_mostAlike (ws_ yX0_mostAlike cX0_mostAlike 7 (some .int)) (rm_ 1 21) (GPc D d sd [.ref (a 32), .int x1, .int x2] (wC d a ja t0) (fun P => JAt d ja j P ∧ RAt d (a 3) r P) sz) (GQi D w.1 (wC d a ja w.2) (wC d a ja t0) sz) 0 0 (va_A (wC d a ja t0) sz) := by
  refine Met.ofW (cc := cX0_mostAlike) (maxL := 7) (ret := (some .int)) plX0 rfl ?_
  intro p e s m args below meth c s₁ B hml hv
  obtain ⟨C, hX, hR, hT, hr, hlocks, hargs, rfl⟩ := g_enter (own := RX0) B hml rfl hv
  have hx := C.1
  have hb := C.2.1
  have hV := hX.1
  obtain ⟨A, hA0⟩ : ∃ A, A = va_A (wC d a ja t0) s.heap.size := ⟨_, rfl⟩
  rw [← hA0] at hX hR hT
  show W p l e (rm_ 1 21) s m args below meth c s.heap [] 0 0 (MQ below (GQi D w.1 (wC d a ja w.2) (wC d a ja t0) s.heap.size) args s 0 0 (va_A (wC d a ja t0) s.heap.size)) _
  rw [← hA0]
  have hJ := hR.1
  obtain ⟨rmc, rel, rcap, rf, hrl, hrel, hrc, hrg⟩ := hR.2.unpack
  have hL5 : ∀ (K : CS → Int32 → Option (Int32 × CS)), (∀ (t : CS) (x3 : Int32) (H : Heap) (locs : List Loc) (ls : Array Slot), TH D A s.heap (wC d a ja t) H locs → lv_has ls 7 [(3, .int x3)] → K t x3 = some w → W p l e (rm_ 1 21) s m args below meth c H locs 0 0 (MQ below (GQi D w.1 (wC d a ja w.2) (wC d a ja t0) s.heap.size) args s 0 0 A) (F0 m 82 ls [])) → ∀ (n : Nat) (t : CS) (x1 : Int32) (x2 : Int32) (x3 : Int32) (x4 : Int32) (H : Heap) (locs : List Loc) (ls : Array Slot), TH D A s.heap (wC d a ja t) H locs → lv_has ls 7 [(0, .ref (a 32)), (1, .int x1), (2, .int x2), (3, .int x3), (4, .int x4)] → fX0_mostAlike_L5 N j r K n t x1 x2 x3 x4 = some w → W p l e (rm_ 1 21) s m args below meth c H locs 0 0 (MQ below (GQi D w.1 (wC d a ja w.2) (wC d a ja t0) s.heap.size) args s 0 0 A) (F0 m 5 ls []) := by
    intro K hE n
    induction n with
    | zero =>
      intro t x1 x2 x3 x4 H locs ls hT hl hf
      cases hf
    | succ n ih =>
      have hL17 : ∀ (K : CS → Int32 → Int32 → Int32 → Int32 → Int32 → Option (Int32 × CS)), (∀ (t : CS) (x1 : Int32) (x2 : Int32) (x3 : Int32) (x4 : Int32) (x5 : Int32) (H : Heap) (locs : List Loc) (ls : Array Slot), TH D A s.heap (wC d a ja t) H locs → lv_has ls 7 [(0, .ref (a 32)), (1, .int x1), (2, .int x2), (3, .int x3), (4, .int x4), (5, .int x5)] → K t x1 x2 x3 x4 x5 = some w → W p l e (rm_ 1 21) s m args below meth c H locs 0 0 (MQ below (GQi D w.1 (wC d a ja w.2) (wC d a ja t0) s.heap.size) args s 0 0 A) (F0 m 69 ls [])) → ∀ (n : Nat) (t : CS) (x1 : Int32) (x2 : Int32) (x3 : Int32) (x4 : Int32) (x5 : Int32) (x6 : Int32) (H : Heap) (locs : List Loc) (ls : Array Slot), TH D A s.heap (wC d a ja t) H locs → lv_has ls 7 [(0, .ref (a 32)), (1, .int x1), (2, .int x2), (3, .int x3), (4, .int x4), (5, .int x5), (6, .int x6)] → fX0_mostAlike_L17 N j r K n t x1 x2 x3 x4 x5 x6 = some w → W p l e (rm_ 1 21) s m args below meth c H locs 0 0 (MQ below (GQi D w.1 (wC d a ja w.2) (wC d a ja t0) s.heap.size) args s 0 0 A) (F0 m 17 ls []) := by
        intro K hE n
        induction n with
        | zero =>
          intro t x1 x2 x3 x4 x5 x6 H locs ls hT hl hf
          cases hf
        | succ n ih =>
          have hJ57 : ∀ (t : CS) (x1 : Int32) (x2 : Int32) (x3 : Int32) (x4 : Int32) (x6 : Int32) (s0 : Int32) (s1 : Int32) (H : Heap) (locs : List Loc) (ls : Array Slot), TH D A s.heap (wC d a ja t) H locs → lv_has ls 7 [(0, .ref (a 32)), (1, .int x1), (2, .int x2), (3, .int x3), (4, .int x4), (6, .int x6)] → fX0_mostAlike_J57 N j r K (fX0_mostAlike_L17 N j r K n) t x1 x2 x3 x4 x6 s0 s1 = some w → W p l e (rm_ 1 21) s m args below meth c H locs 0 0 (MQ below (GQi D w.1 (wC d a ja w.2) (wC d a ja t0) s.heap.size) args s 0 0 A) (F0 m 57 ls [.int s0, .int s1]) := by
            intro t x1 x2 x3 x4 x6 s0 s1 H locs ls hT hl hf
            unfold fX0_mostAlike_J57 at hf
            obtain ⟨w_57, h_57, hf⟩ := bind_e hf
            refine s_calli (vs := [.int s0]) (rest := [.int s1]) C (A_new hA0) hT (fun sz => mX0_bit l N s0 _ h_57 sz) (va_cwS 1 C.2.2.2.2 (lw_S q955 q956 q120 q957) rfl rfl rfl hdX0_bit ⟨Nat.le_of_ble_eq_true rfl, Nat.le_of_ble_eq_true rfl⟩) rfl hl.1 rfl (Nat.le_of_ble_eq_true rfl) dX0_mostAlike_57 ⟨Nat.zero_le _, Nat.zero_le _⟩ (fun H locs hT => ?_)
            refine lv_iadd hx hb dX0_mostAlike_60 ?_
            refine lv_topi (fun x5_61 ex => ?_)
            have hf := lett_e ex hf
            refine lv_istore (lv' := [(5, .int x5_61), (0, .ref (a 32)), (1, .int x1), (2, .int x2), (3, .int x3), (4, .int x4), (6, .int x6)]) hx hb dX0_mostAlike_61 hl (by decide) rfl (fun ls hl => ?_)
            obtain ⟨x6_63, ex⟩ : ∃ y : Int32, y = (x6 + (1 : Int32)) := ⟨_, rfl⟩
            have hf := lett_e ex hf
            refine lv_iinc (v := x6_63) (lv' := [(6, .int x6_63), (5, .int x5_61), (0, .ref (a 32)), (1, .int x1), (2, .int x2), (3, .int x3), (4, .int x4)]) hx hb dX0_mostAlike_63 hl (k := 6) rfl (by rw [ex]; rfl) (by decide) rfl (fun ls hl => ?_)
            refine lv_goto (tgt := 17) hx hb dX0_mostAlike_66 (by decide) ?_
            exact ih t x1 x2 x3 x4 x5_61 x6_63 _ _ _ hT (lv_sub hl [2, 3, 4, 5, 6, 1, 0] rfl) hf
          intro t x1 x2 x3 x4 x5 x6 H locs ls hT hl hf
          replace hf : fX0_mostAlike_B17 N j r K (fX0_mostAlike_L17 N j r K n) t x1 x2 x3 x4 x5 x6 = some w := hf
          unfold fX0_mostAlike_B17 at hf
          refine lv_iload hx hb dX0_mostAlike_17 (lv_at hl 6 rfl) ?_
          refine lv_iload_n hx hb dX0_mostAlike_19 rfl (lv_at hl 2 rfl) ?_
          refine lv_icmp_ge (tgt := 69) hx hb dX0_mostAlike_20 (by decide) (fun hc => ?_) (fun hc => ?_)
          · have hf := ite_t hc hf
            exact hE t x1 x2 x3 x4 x5 _ _ _ hT (lv_sub hl [0, 1, 2, 3, 4, 5] rfl) hf
          · have hf := ite_f hc hf
            refine lv_iload hx hb dX0_mostAlike_23 (lv_at hl 5 rfl) ?_
            refine lv_aload_n hx hb dX0_mostAlike_25 rfl (lv_at hl 0 rfl) ?_
            refine r_get C hV (hT.atp 0 rfl) (ci := 1) rfl in_X0 30 (by decide) q375 rfl dX0_mostAlike_26 ?_
            refine lv_bipush (v := 6) hx hb dX0_mostAlike_29 (by decide) ?_
            refine lv_iload hx hb dX0_mostAlike_31 (lv_at hl 6 rfl) ?_
            refine lv_imul hx hb dX0_mostAlike_33 ?_
            refine lv_iload_n hx hb dX0_mostAlike_34 rfl (lv_at hl 1 rfl) ?_
            refine lv_iadd hx hb dX0_mostAlike_35 ?_
            obtain ⟨hi, hf⟩ := ix_e hf
            refine r_ild C hV (hT.atp 15 rfl) _ hi rfl dX0_mostAlike_36 ?_
            refine lv_aload_n hx hb dX0_mostAlike_37 rfl (lv_at hl 0 rfl) ?_
            refine r_get C hV (hT.atp 0 rfl) (ci := 1) rfl in_X0 30 (by decide) q375 rfl dX0_mostAlike_38 ?_
            refine lv_bipush (v := 6) hx hb dX0_mostAlike_41 (by decide) ?_
            refine lv_iload hx hb dX0_mostAlike_43 (lv_at hl 4 rfl) ?_
            refine lv_imul hx hb dX0_mostAlike_45 ?_
            refine lv_iload_n hx hb dX0_mostAlike_46 rfl (lv_at hl 1 rfl) ?_
            refine lv_iadd hx hb dX0_mostAlike_47 ?_
            obtain ⟨hi, hf⟩ := ix_e hf
            refine r_ild C hV (hT.atp 15 rfl) _ hi rfl dX0_mostAlike_48 ?_
            refine lv_icmp_ne (tgt := 56) hx hb dX0_mostAlike_49 (by decide) (fun hc => ?_) (fun hc => ?_)
            · have hf := ite_t hc hf
              refine lv_iconst (v := 0) hx hb dX0_mostAlike_56 (by decide) ?_
              exact hJ57 t x1 x2 x3 x4 x6 (0 : Int32) x5 _ _ _ hT (lv_sub hl [0, 1, 2, 3, 4, 6] rfl) hf
            · have hf := ite_f (fun q => q hc) hf
              refine lv_iconst (v := 1) hx hb dX0_mostAlike_52 (by decide) ?_
              refine lv_goto (tgt := 57) hx hb dX0_mostAlike_53 (by decide) ?_
              exact hJ57 t x1 x2 x3 x4 x6 (1 : Int32) x5 _ _ _ hT (lv_sub hl [0, 1, 2, 3, 4, 6] rfl) hf
      intro t x1 x2 x3 x4 H locs ls hT hl hf
      replace hf : fX0_mostAlike_B5 N j r K (fX0_mostAlike_L5 N j r K n) t x1 x2 x3 x4 = some w := hf
      unfold fX0_mostAlike_B5 at hf
      refine lv_iload hx hb dX0_mostAlike_5 (lv_at hl 4 rfl) ?_
      refine lv_iload_n hx hb dX0_mostAlike_7 rfl (lv_at hl 2 rfl) ?_
      refine lv_icmp_ge (tgt := 82) hx hb dX0_mostAlike_8 (by decide) (fun hc => ?_) (fun hc => ?_)
      · have hf := ite_t hc hf
        exact hE t x3 _ _ _ hT (lv_sub hl [3] rfl) hf
      · have hf := ite_f hc hf
        refine lv_iconst (v := 0) hx hb dX0_mostAlike_11 (by decide) ?_
        refine lv_istore (lv' := [(5, .int (0 : Int32)), (0, .ref (a 32)), (1, .int x1), (2, .int x2), (3, .int x3), (4, .int x4)]) hx hb dX0_mostAlike_12 hl (by decide) rfl (fun ls hl => ?_)
        refine lv_iconst (v := 0) hx hb dX0_mostAlike_14 (by decide) ?_
        refine lv_istore (lv' := [(6, .int (0 : Int32)), (5, .int (0 : Int32)), (0, .ref (a 32)), (1, .int x1), (2, .int x2), (3, .int x3), (4, .int x4)]) hx hb dX0_mostAlike_15 hl (by decide) rfl (fun ls hl => ?_)
        refine hL17 _ (fun t x1 x2 x3 x4 x5 H locs ls hT hl hf => ?_) N t x1 x2 x3 x4 (0 : Int32) (0 : Int32) _ _ _ hT (lv_sub hl [2, 3, 4, 5, 6, 1, 0] rfl) hf
        refine lv_iload_n hx hb dX0_mostAlike_69 rfl (lv_at hl 3 rfl) ?_
        refine lv_iload hx hb dX0_mostAlike_70 (lv_at hl 5 rfl) ?_
        refine g_max C hl.1 q1022 q639 q138 q640 (Nat.le_of_ble_eq_true rfl) (Nat.le_of_ble_eq_true rfl) ⟨Nat.zero_le _, Nat.zero_le _⟩ dX0_mostAlike_72 ?_
        refine lv_topi (fun x3_75 ex => ?_)
        have hf := lett_e ex hf
        refine lv_istore_n (lv' := [(3, .int x3_75), (0, .ref (a 32)), (1, .int x1), (2, .int x2), (4, .int x4), (5, .int x5)]) hx hb dX0_mostAlike_75 rfl hl (by decide) rfl (fun ls hl => ?_)
        obtain ⟨x4_76, ex⟩ : ∃ y : Int32, y = (x4 + (1 : Int32)) := ⟨_, rfl⟩
        have hf := lett_e ex hf
        refine lv_iinc (v := x4_76) (lv' := [(4, .int x4_76), (3, .int x3_75), (0, .ref (a 32)), (1, .int x1), (2, .int x2), (5, .int x5)]) hx hb dX0_mostAlike_76 hl (k := 4) rfl (by rw [ex]; rfl) (by decide) rfl (fun ls hl => ?_)
        refine lv_goto (tgt := 5) hx hb dX0_mostAlike_79 (by decide) ?_
        exact ih t x1 x2 x3_75 x4_76 _ _ _ hT (lv_sub hl [2, 3, 4, 1, 0] rfl) hf
  refine W.eq (by rw [hargs]) (t_in (vs := [.ref (a 32), .int x1, .int x2]) (n := 7) (Nat.le_of_ble_eq_true rfl) (fun ls hl => ?_))
  have hl : lv_has ls 7 [(0, .ref (a 32)), (1, .int x1), (2, .int x2)] := hl
  unfold fX0_mostAlike at hf
  refine lv_iconst (v := 0) hx hb dX0_mostAlike_0 (by decide) ?_
  refine lv_istore_n (lv' := [(3, .int (0 : Int32)), (0, .ref (a 32)), (1, .int x1), (2, .int x2)]) hx hb dX0_mostAlike_1 rfl hl (by decide) rfl (fun ls hl => ?_)
  refine lv_iconst (v := 0) hx hb dX0_mostAlike_2 (by decide) ?_
  refine lv_istore (lv' := [(4, .int (0 : Int32)), (3, .int (0 : Int32)), (0, .ref (a 32)), (1, .int x1), (2, .int x2)]) hx hb dX0_mostAlike_3 hl (by decide) rfl (fun ls hl => ?_)
  refine hL5 _ (fun t x3 H locs ls hT hl hf => ?_) N t0 x1 x2 (0 : Int32) (0 : Int32) _ _ _ hT (lv_sub hl [2, 3, 4, 1, 0] rfl) hf
  refine lv_iload_n hx hb dX0_mostAlike_82 rfl (lv_at hl 0 rfl) ?_
  exact f_iret (wC d a ja) hA0 C hT hf hr hlocks dX0_mostAlike_83
def fX0_look_B63 (N : Nat) (j : JS) (r : RS) (K : CS → Int32 → Int32 → Int32 → Int32 → Option (Int32 × CS)) (kb : CS → Int32 → Int32 → Int32 → Int32 → Int32 → Option (Int32 × CS)) (t : CS) (x1 : Int32) (x2 : Int32) (x3 : Int32) (x4 : Int32) (x5 : Int32) : Option (Int32 × CS) :=
  (if (6 : Int32) ≤ x5 then (K t x1 x2 x3 x4) else (ix (((6 : Int32) * x1) + x5) 366 (ix (((6 : Int32) * x3) + x5) 42 (lett (csA t 30 ((((6 : Int32) * x3) + x5)).toNatClampNeg (t.2.1 29 ((((6 : Int32) * x1) + x5)).toNatClampNeg)) fun t_93 => (lett (x5 + (1 : Int32)) fun x5_94 => (kb t_93 x1 x2 x3 x4 x5_94))))))
def fX0_look_L63 (N : Nat) (j : JS) (r : RS) (K : CS → Int32 → Int32 → Int32 → Int32 → Option (Int32 × CS)) : Nat → CS → Int32 → Int32 → Int32 → Int32 → Int32 → Option (Int32 × CS)
  | 0 => fun _ _ _ _ _ _ => none
  | n + 1 => fun t x1 x2 x3 x4 x5 => fX0_look_B63 N j r K (fX0_look_L63 N j r K n) t x1 x2 x3 x4 x5
def fX0_look_B36 (N : Nat) (j : JS) (r : RS) (K : CS → Int32 → Int32 → Option (Int32 × CS)) (kb : CS → Int32 → Int32 → Int32 → Int32 → Option (Int32 × CS)) (t : CS) (x1 : Int32) (x2 : Int32) (x3 : Int32) (x4 : Int32) : Option (Int32 × CS) :=
  (if r.1 ≤ x4 then (K t x2 x3) else ((fX0_couldRule N j r  t x4).bind fun w_51 => (if ¬ w_51.1 = 0 then (fX0_look_L63 N j r (fun t x1 x2 x3 x4 => (lett (x3 + (1 : Int32)) fun x3_100 => (lett (x4 + (1 : Int32)) fun x4_103 => (kb t x1 x2 x3_100 x4_103)))) N w_51.2 x1 x2 x3 x4 (0 : Int32)) else (lett (x4 + (1 : Int32)) fun x4_103 => (kb w_51.2 x1 x2 x3 x4_103)))))
def fX0_look_L36 (N : Nat) (j : JS) (r : RS) (K : CS → Int32 → Int32 → Option (Int32 × CS)) : Nat → CS → Int32 → Int32 → Int32 → Int32 → Option (Int32 × CS)
  | 0 => fun _ _ _ _ _ => none
  | n + 1 => fun t x1 x2 x3 x4 => fX0_look_B36 N j r K (fX0_look_L36 N j r K n) t x1 x2 x3 x4
def fX0_look_B132 (N : Nat) (j : JS) (r : RS) (K : CS → Int32 → Int32 → Int32 → Option (Int32 × CS)) (kb : CS → Int32 → Int32 → Int32 → Int32 → Option (Int32 × CS)) (t : CS) (x2 : Int32) (x3 : Int32) (x4 : Int32) (x5 : Int32) : Option (Int32 × CS) :=
  ((fX1_roads N j).bind fun w_138 => (if w_138 ≤ x5 then (K t x2 x3 x4) else ((fX0_mostAlike N j r  t x5 x3).bind fun w_148 => ((fX0_mostAlike N j r  w_148.2 x4 x3).bind fun w_155 => (if w_155.1 ≤ w_148.1 then (lett (x5 + (1 : Int32)) fun x5_165 => (kb w_155.2 x2 x3 x4 x5_165)) else (lett (x5 + (1 : Int32)) fun x5_165 => (kb w_155.2 x2 x3 x5 x5_165)))))))
def fX0_look_L132 (N : Nat) (j : JS) (r : RS) (K : CS → Int32 → Int32 → Int32 → Option (Int32 × CS)) : Nat → CS → Int32 → Int32 → Int32 → Int32 → Option (Int32 × CS)
  | 0 => fun _ _ _ _ _ => none
  | n + 1 => fun t x2 x3 x4 x5 => fX0_look_B132 N j r K (fX0_look_L132 N j r K n) t x2 x3 x4 x5
def fX0_look (N : Nat) (j : JS) (r : RS) (t0 : CS) (x1 : Int32) (x2 : Int32) : Option (Int32 × CS) :=
  ((fX0_isJunction N j r  t0 ).bind fun w_1 => (if w_1.1 = 0 then (some ((-1 : Int32), w_1.2)) else ((fX0_in N (x1).toInt64 (0 : Int64) (60 : Int64)).bind fun w_13 => (if w_13 = 0 then (some ((-1 : Int32), w_1.2)) else ((fX0_in N (x2).toInt64 (0 : Int64) (1 : Int64)).bind fun w_23 => (if ¬ w_23 = 0 then (fX0_look_L36 N j r (fun t x2 x3 => (if x3 = 0 then (some ((-2 : Int32), t)) else ((fX1_roads N j).bind fun w_117 => (if ¬ w_117 = 0 then (fX0_look_L132 N j r (fun t x2 x3 x4 => (if ¬ x2 = 0 then ((fX0_mostAlike N j r  t x4 x3).bind fun w_184 => (some (w_184.1, w_184.2))) else (some (x4, t)))) N t x2 x3 (0 : Int32) (1 : Int32)) else (some ((-2 : Int32), t)))))) N w_1.2 x1 x2 (0 : Int32) (-1 : Int32)) else (some ((-1 : Int32), w_1.2))))))))
theorem hdX0_look : yX0_look.cls = RX0 ∧ yX0_look.cls ≠ "java/lang/invoke/MethodHandle" ∧ yX0_look.cls ≠ "java/lang/invoke/VarHandle" ∧ (parseMethodDescriptor yX0_look.desc).map (fun d => d.parameters.length) = some 2 := by decide +kernel
set_option maxHeartbeats 4000000 in
theorem mX0_look (l : Launch) (D : va_G) (d : Nat → ClassId) (sd : Nat) (a : Nat → Nat) (ja : Nat → Nat) (N : Nat) (j : JS) (r : RS) (t0 : CS) (x1 : Int32) (x2 : Int32) (w : Int32 × CS) (hf : fX0_look N j r t0 x1 x2 = some w) (sz : Nat) : Met l yX0_look (ws_ yX0_look cX0_look 6 (some .int)) (rm_ 265 8116) (GPc D d sd [.ref (a 32), .int x1, .int x2] (wC d a ja t0) (fun P => JAt d ja j P ∧ RAt d (a 3) r P) sz) (GQi D w.1 (wC d a ja w.2) (wC d a ja t0) sz) 0 0 (va_A (wC d a ja t0) sz) := by
  refine Met.ofW (cc := cX0_look) (maxL := 6) (ret := (some .int)) plX0 rfl ?_
  intro p e s m args below meth c s₁ B hml hv
  obtain ⟨C, hX, hR, hT, hr, hlocks, hargs, rfl⟩ := g_enter (own := RX0) B hml rfl hv
  have hx := C.1
  have hb := C.2.1
  have hV := hX.1
  obtain ⟨A, hA0⟩ : ∃ A, A = va_A (wC d a ja t0) s.heap.size := ⟨_, rfl⟩
  rw [← hA0] at hX hR hT
  show W p l e (rm_ 265 8116) s m args below meth c s.heap [] 0 0 (MQ below (GQi D w.1 (wC d a ja w.2) (wC d a ja t0) s.heap.size) args s 0 0 (va_A (wC d a ja t0) s.heap.size)) _
  rw [← hA0]
  have hJ := hR.1
  obtain ⟨rmc, rel, rcap, rf, hrl, hrel, hrc, hrg⟩ := hR.2.unpack
  have hL36 : ∀ (K : CS → Int32 → Int32 → Option (Int32 × CS)), (∀ (t : CS) (x2 : Int32) (x3 : Int32) (H : Heap) (locs : List Loc) (ls : Array Slot), TH D A s.heap (wC d a ja t) H locs → lv_has ls 6 [(0, .ref (a 32)), (2, .int x2), (3, .int x3)] → K t x2 x3 = some w → W p l e (rm_ 265 8116) s m args below meth c H locs 0 0 (MQ below (GQi D w.1 (wC d a ja w.2) (wC d a ja t0) s.heap.size) args s 0 0 A) (F0 m 109 ls [])) → ∀ (n : Nat) (t : CS) (x1 : Int32) (x2 : Int32) (x3 : Int32) (x4 : Int32) (H : Heap) (locs : List Loc) (ls : Array Slot), TH D A s.heap (wC d a ja t) H locs → lv_has ls 6 [(0, .ref (a 32)), (1, .int x1), (2, .int x2), (3, .int x3), (4, .int x4)] → fX0_look_L36 N j r K n t x1 x2 x3 x4 = some w → W p l e (rm_ 265 8116) s m args below meth c H locs 0 0 (MQ below (GQi D w.1 (wC d a ja w.2) (wC d a ja t0) s.heap.size) args s 0 0 A) (F0 m 36 ls []) := by
    intro K hE n
    induction n with
    | zero =>
      intro t x1 x2 x3 x4 H locs ls hT hl hf
      cases hf
    | succ n ih =>
      have hL63 : ∀ (K : CS → Int32 → Int32 → Int32 → Int32 → Option (Int32 × CS)), (∀ (t : CS) (x1 : Int32) (x2 : Int32) (x3 : Int32) (x4 : Int32) (H : Heap) (locs : List Loc) (ls : Array Slot), TH D A s.heap (wC d a ja t) H locs → lv_has ls 6 [(0, .ref (a 32)), (1, .int x1), (2, .int x2), (3, .int x3), (4, .int x4)] → K t x1 x2 x3 x4 = some w → W p l e (rm_ 265 8116) s m args below meth c H locs 0 0 (MQ below (GQi D w.1 (wC d a ja w.2) (wC d a ja t0) s.heap.size) args s 0 0 A) (F0 m 100 ls [])) → ∀ (n : Nat) (t : CS) (x1 : Int32) (x2 : Int32) (x3 : Int32) (x4 : Int32) (x5 : Int32) (H : Heap) (locs : List Loc) (ls : Array Slot), TH D A s.heap (wC d a ja t) H locs → lv_has ls 6 [(0, .ref (a 32)), (1, .int x1), (2, .int x2), (3, .int x3), (4, .int x4), (5, .int x5)] → fX0_look_L63 N j r K n t x1 x2 x3 x4 x5 = some w → W p l e (rm_ 265 8116) s m args below meth c H locs 0 0 (MQ below (GQi D w.1 (wC d a ja w.2) (wC d a ja t0) s.heap.size) args s 0 0 A) (F0 m 63 ls []) := by
        intro K hE n
        induction n with
        | zero =>
          intro t x1 x2 x3 x4 x5 H locs ls hT hl hf
          cases hf
        | succ n ih =>
          intro t x1 x2 x3 x4 x5 H locs ls hT hl hf
          replace hf : fX0_look_B63 N j r K (fX0_look_L63 N j r K n) t x1 x2 x3 x4 x5 = some w := hf
          unfold fX0_look_B63 at hf
          refine lv_iload hx hb dX0_look_63 (lv_at hl 5 rfl) ?_
          refine lv_bipush (v := 6) hx hb dX0_look_65 (by decide) ?_
          refine lv_icmp_ge (tgt := 100) hx hb dX0_look_67 (by decide) (fun hc => ?_) (fun hc => ?_)
          · have hf := ite_t hc hf
            exact hE t x1 x2 x3 x4 _ _ _ hT (lv_sub hl [0, 1, 2, 3, 4] rfl) hf
          · have hf := ite_f hc hf
            refine lv_aload_n hx hb dX0_look_70 rfl (lv_at hl 0 rfl) ?_
            refine r_get C hV (hT.atp 0 rfl) (ci := 1) rfl in_X0 30 (by decide) q375 rfl dX0_look_71 ?_
            refine lv_bipush (v := 6) hx hb dX0_look_74 (by decide) ?_
            refine lv_iload_n hx hb dX0_look_76 rfl (lv_at hl 3 rfl) ?_
            refine lv_imul hx hb dX0_look_77 ?_
            refine lv_iload hx hb dX0_look_78 (lv_at hl 5 rfl) ?_
            refine lv_iadd hx hb dX0_look_80 ?_
            refine lv_aload_n hx hb dX0_look_81 rfl (lv_at hl 0 rfl) ?_
            refine r_get C hV (hT.atp 0 rfl) (ci := 1) rfl in_X0 29 (by decide) q374 rfl dX0_look_82 ?_
            refine lv_bipush (v := 6) hx hb dX0_look_85 (by decide) ?_
            refine lv_iload_n hx hb dX0_look_87 rfl (lv_at hl 1 rfl) ?_
            refine lv_imul hx hb dX0_look_88 ?_
            refine lv_iload hx hb dX0_look_89 (lv_at hl 5 rfl) ?_
            refine lv_iadd hx hb dX0_look_91 ?_
            obtain ⟨hi, hf⟩ := ix_e hf
            refine r_ild C hV (hT.atp 14 rfl) _ hi rfl dX0_look_92 ?_
            obtain ⟨hi, hf⟩ := ix_e hf
            obtain ⟨t_93, et⟩ : ∃ y, y = (csA t 30 ((((6 : Int32) * x3) + x5)).toNatClampNeg (t.2.1 29 ((((6 : Int32) * x1) + x5)).toNatClampNeg)) := ⟨_, rfl⟩
            have hf := lett_e et hf
            refine w_ist (ws1 := (wC d a ja t_93)) C hV hT 15 _ rfl hi rfl (by rw [et]; exact upd_set hT.2.1 rfl (cast_30 d a ja t _ _)) dX0_look_93 (fun H locs hT => ?_)
            obtain ⟨x5_94, ex⟩ : ∃ y : Int32, y = (x5 + (1 : Int32)) := ⟨_, rfl⟩
            have hf := lett_e ex hf
            refine lv_iinc (v := x5_94) (lv' := [(5, .int x5_94), (0, .ref (a 32)), (1, .int x1), (2, .int x2), (3, .int x3), (4, .int x4)]) hx hb dX0_look_94 hl (k := 5) rfl (by rw [ex]; rfl) (by decide) rfl (fun ls hl => ?_)
            refine lv_goto (tgt := 63) hx hb dX0_look_97 (by decide) ?_
            exact ih t_93 x1 x2 x3 x4 x5_94 _ _ _ hT (lv_sub hl [1, 2, 3, 4, 5, 0] rfl) hf
      intro t x1 x2 x3 x4 H locs ls hT hl hf
      replace hf : fX0_look_B36 N j r K (fX0_look_L36 N j r K n) t x1 x2 x3 x4 = some w := hf
      unfold fX0_look_B36 at hf
      refine lv_iload hx hb dX0_look_36 (lv_at hl 4 rfl) ?_
      refine lv_aload_n hx hb dX0_look_38 rfl (lv_at hl 0 rfl) ?_
      refine r_get C hV (hT.atp 0 rfl) (ci := 1) rfl in_X0 3 (by decide) q338 rfl dX0_look_39 ?_
      refine g_calli (vs := []) (rest := [.int x4]) C hX hT (A_new hA0) (Cut.none _) (hrl.step hT.2.2 (Anil (A_new hA0) hT.2.2.1)) (fun sz => mJ2_size l D d sd (a 3) rel N rmc r.1 _ rfl sz) (cwV 0 C.2.2.2.2 (lw_V q714 q588 q589 q124 q590) rfl rfl rfl hdJ2_size ⟨Nat.le_of_ble_eq_true rfl, Nat.le_of_ble_eq_true rfl⟩) (g_recv hV (hrl.at hT.2.2) (ci := 4) rfl) rfl hl.1 rfl (Nat.le_of_ble_eq_true rfl) dX0_look_42 ⟨Nat.zero_le _, Nat.zero_le _⟩ (fun H locs hT => ?_)
      refine lv_icmp_ge (tgt := 109) hx hb dX0_look_45 (by decide) (fun hc => ?_) (fun hc => ?_)
      · have hf := ite_t hc hf
        exact hE t x2 x3 _ _ _ hT (lv_sub hl [0, 2, 3] rfl) hf
      · have hf := ite_f hc hf
        refine lv_aload_n hx hb dX0_look_48 rfl (lv_at hl 0 rfl) ?_
        refine lv_iload hx hb dX0_look_49 (lv_at hl 4 rfl) ?_
        obtain ⟨w_51, h_51, hf⟩ := bind_e hf
        refine g_calli (vs := [.int x4]) (rest := []) C hX hT (A_new hA0) (Cut.all (D_nd hT.2.1) ((wC_fst d a ja _).trans (wC_fst d a ja t).symm)) (Ro := (fun P => JAt d ja j P ∧ RAt d (a 3) r P)) ⟨hJ.step hT.2.2 (A_full hA0 hT.2.2.1), hR.2.step hT.2.2 (A_full hA0 hT.2.2.1)⟩ (fun sz => mX0_couldRule l D d sd a ja N j r  t x4 _ h_51 sz) (cwV 1 C.2.2.2.2 (lw_V q1155 q1157 qs41 q120 q1158) rfl rfl rfl hdX0_couldRule ⟨Nat.le_of_ble_eq_true rfl, Nat.le_of_ble_eq_true rfl⟩) (g_recv hV (hT.atp 0 rfl) (ci := 1) rfl) rfl hl.1 rfl (Nat.le_of_ble_eq_true rfl) dX0_look_51 ⟨Nat.zero_le _, Nat.zero_le _⟩ (fun H locs hT => ?_)
        refine lv_if_ne (tgt := 60) hx hb dX0_look_54 (by decide) (fun hc => ?_) (fun hc => ?_)
        · have hf := ite_t hc hf
          refine lv_iconst (v := 0) hx hb dX0_look_60 (by decide) ?_
          refine lv_istore (lv' := [(5, .int (0 : Int32)), (0, .ref (a 32)), (1, .int x1), (2, .int x2), (3, .int x3), (4, .int x4)]) hx hb dX0_look_61 hl (by decide) rfl (fun ls hl => ?_)
          refine hL63 _ (fun t x1 x2 x3 x4 H locs ls hT hl hf => ?_) N w_51.2 x1 x2 x3 x4 (0 : Int32) _ _ _ hT (lv_sub hl [1, 2, 3, 4, 5, 0] rfl) hf
          obtain ⟨x3_100, ex⟩ : ∃ y : Int32, y = (x3 + (1 : Int32)) := ⟨_, rfl⟩
          have hf := lett_e ex hf
          refine lv_iinc (v := x3_100) (lv' := [(3, .int x3_100), (0, .ref (a 32)), (1, .int x1), (2, .int x2), (4, .int x4)]) hx hb dX0_look_100 hl (k := 3) rfl (by rw [ex]; rfl) (by decide) rfl (fun ls hl => ?_)
          obtain ⟨x4_103, ex⟩ : ∃ y : Int32, y = (x4 + (1 : Int32)) := ⟨_, rfl⟩
          have hf := lett_e ex hf
          refine lv_iinc (v := x4_103) (lv' := [(4, .int x4_103), (3, .int x3_100), (0, .ref (a 32)), (1, .int x1), (2, .int x2)]) hx hb dX0_look_103 hl (k := 4) rfl (by rw [ex]; rfl) (by decide) rfl (fun ls hl => ?_)
          refine lv_goto (tgt := 36) hx hb dX0_look_106 (by decide) ?_
          exact ih t x1 x2 x3_100 x4_103 _ _ _ hT (lv_sub hl [2, 3, 4, 1, 0] rfl) hf
        · have hf := ite_f (fun q => q hc) hf
          refine lv_goto (tgt := 103) hx hb dX0_look_57 (by decide) ?_
          obtain ⟨x4_103, ex⟩ : ∃ y : Int32, y = (x4 + (1 : Int32)) := ⟨_, rfl⟩
          have hf := lett_e ex hf
          refine lv_iinc (v := x4_103) (lv' := [(4, .int x4_103), (0, .ref (a 32)), (1, .int x1), (2, .int x2), (3, .int x3)]) hx hb dX0_look_103 hl (k := 4) rfl (by rw [ex]; rfl) (by decide) rfl (fun ls hl => ?_)
          refine lv_goto (tgt := 36) hx hb dX0_look_106 (by decide) ?_
          exact ih w_51.2 x1 x2 x3 x4_103 _ _ _ hT (lv_sub hl [1, 2, 3, 4, 0] rfl) hf
  have hL132 : ∀ (K : CS → Int32 → Int32 → Int32 → Option (Int32 × CS)), (∀ (t : CS) (x2 : Int32) (x3 : Int32) (x4 : Int32) (H : Heap) (locs : List Loc) (ls : Array Slot), TH D A s.heap (wC d a ja t) H locs → lv_has ls 6 [(0, .ref (a 32)), (2, .int x2), (3, .int x3), (4, .int x4)] → K t x2 x3 x4 = some w → W p l e (rm_ 265 8116) s m args below meth c H locs 0 0 (MQ below (GQi D w.1 (wC d a ja w.2) (wC d a ja t0) s.heap.size) args s 0 0 A) (F0 m 171 ls [])) → ∀ (n : Nat) (t : CS) (x2 : Int32) (x3 : Int32) (x4 : Int32) (x5 : Int32) (H : Heap) (locs : List Loc) (ls : Array Slot), TH D A s.heap (wC d a ja t) H locs → lv_has ls 6 [(0, .ref (a 32)), (2, .int x2), (3, .int x3), (4, .int x4), (5, .int x5)] → fX0_look_L132 N j r K n t x2 x3 x4 x5 = some w → W p l e (rm_ 265 8116) s m args below meth c H locs 0 0 (MQ below (GQi D w.1 (wC d a ja w.2) (wC d a ja t0) s.heap.size) args s 0 0 A) (F0 m 132 ls []) := by
    intro K hE n
    induction n with
    | zero =>
      intro t x2 x3 x4 x5 H locs ls hT hl hf
      cases hf
    | succ n ih =>
      intro t x2 x3 x4 x5 H locs ls hT hl hf
      replace hf : fX0_look_B132 N j r K (fX0_look_L132 N j r K n) t x2 x3 x4 x5 = some w := hf
      unfold fX0_look_B132 at hf
      refine lv_iload hx hb dX0_look_132 (lv_at hl 4 rfl) ?_
      refine lv_aload_n hx hb dX0_look_134 rfl (lv_at hl 0 rfl) ?_
      refine r_get C hV (hT.atp 0 rfl) (ci := 1) rfl in_X0 0 (by decide) q334 rfl dX0_look_135 ?_
      obtain ⟨w_138, h_138, hf⟩ := bind_e hf
      refine g_calli (vs := []) (rest := [.int x5]) C hX hT (A_new hA0) (Cut.none _) (hJ.step hT.2.2 (Anil (A_new hA0) hT.2.2.1)) (fun sz => mX1_roads l D d sd ja N j _ h_138 sz) (cwV 0 C.2.2.2.2 (lw_V q709 q584 q585 q121 q586) rfl rfl rfl hdX1_roads ⟨Nat.le_of_ble_eq_true rfl, Nat.le_of_ble_eq_true rfl⟩) (g_recv hV (hJ.1.at hT.2.2) (ci := 3) rfl) rfl hl.1 rfl (Nat.le_of_ble_eq_true rfl) dX0_look_138 ⟨Nat.zero_le _, Nat.zero_le _⟩ (fun H locs hT => ?_)
      refine lv_icmp_ge (tgt := 171) hx hb dX0_look_141 (by decide) (fun hc => ?_) (fun hc => ?_)
      · have hf := ite_t hc hf
        exact hE t x2 x3 x4 _ _ _ hT (lv_sub hl [0, 1, 2, 3] rfl) hf
      · have hf := ite_f hc hf
        refine lv_aload_n hx hb dX0_look_144 rfl (lv_at hl 0 rfl) ?_
        refine lv_iload hx hb dX0_look_145 (lv_at hl 4 rfl) ?_
        refine lv_iload_n hx hb dX0_look_147 rfl (lv_at hl 2 rfl) ?_
        obtain ⟨w_148, h_148, hf⟩ := bind_e hf
        refine g_calli (vs := [.int x5, .int x3]) (rest := []) C hX hT (A_new hA0) (Cut.all (D_nd hT.2.1) ((wC_fst d a ja _).trans (wC_fst d a ja t).symm)) (Ro := (fun P => JAt d ja j P ∧ RAt d (a 3) r P)) ⟨hJ.step hT.2.2 (A_full hA0 hT.2.2.1), hR.2.step hT.2.2 (A_full hA0 hT.2.2.1)⟩ (fun sz => mX0_mostAlike l D d sd a ja N j r  t x5 x3 _ h_148 sz) (cwV 2 C.2.2.2.2 (lw_V q1163 q1165 qs42 q120 q1166) rfl rfl rfl hdX0_mostAlike ⟨Nat.le_of_ble_eq_true rfl, Nat.le_of_ble_eq_true rfl⟩) (g_recv hV (hT.atp 0 rfl) (ci := 1) rfl) rfl hl.1 rfl (Nat.le_of_ble_eq_true rfl) dX0_look_148 ⟨Nat.zero_le _, Nat.zero_le _⟩ (fun H locs hT => ?_)
        refine lv_aload_n hx hb dX0_look_151 rfl (lv_at hl 0 rfl) ?_
        refine lv_iload hx hb dX0_look_152 (lv_at hl 3 rfl) ?_
        refine lv_iload_n hx hb dX0_look_154 rfl (lv_at hl 2 rfl) ?_
        obtain ⟨w_155, h_155, hf⟩ := bind_e hf
        refine g_calli (vs := [.int x4, .int x3]) (rest := [.int w_148.1]) C hX hT (A_new hA0) (Cut.all (D_nd hT.2.1) ((wC_fst d a ja _).trans (wC_fst d a ja w_148.2).symm)) (Ro := (fun P => JAt d ja j P ∧ RAt d (a 3) r P)) ⟨hJ.step hT.2.2 (A_full hA0 hT.2.2.1), hR.2.step hT.2.2 (A_full hA0 hT.2.2.1)⟩ (fun sz => mX0_mostAlike l D d sd a ja N j r  w_148.2 x4 x3 _ h_155 sz) (cwV 2 C.2.2.2.2 (lw_V q1163 q1165 qs42 q120 q1166) rfl rfl rfl hdX0_mostAlike ⟨Nat.le_of_ble_eq_true rfl, Nat.le_of_ble_eq_true rfl⟩) (g_recv hV (hT.atp 0 rfl) (ci := 1) rfl) rfl hl.1 rfl (Nat.le_of_ble_eq_true rfl) dX0_look_155 ⟨Nat.zero_le _, Nat.zero_le _⟩ (fun H locs hT => ?_)
        refine lv_icmp_ge (tgt := 165) hx hb dX0_look_158 (by decide) (fun hc => ?_) (fun hc => ?_)
        · have hf := ite_t hc hf
          obtain ⟨x5_165, ex⟩ : ∃ y : Int32, y = (x5 + (1 : Int32)) := ⟨_, rfl⟩
          have hf := lett_e ex hf
          refine lv_iinc (v := x5_165) (lv' := [(5, .int x5_165), (0, .ref (a 32)), (2, .int x2), (3, .int x3), (4, .int x4)]) hx hb dX0_look_165 hl (k := 4) rfl (by rw [ex]; rfl) (by decide) rfl (fun ls hl => ?_)
          refine lv_goto (tgt := 132) hx hb dX0_look_168 (by decide) ?_
          exact ih w_155.2 x2 x3 x4 x5_165 _ _ _ hT (lv_sub hl [1, 2, 3, 4, 0] rfl) hf
        · have hf := ite_f hc hf
          refine lv_iload hx hb dX0_look_161 (lv_at hl 4 rfl) ?_
          refine lv_istore (lv' := [(4, .int x5), (0, .ref (a 32)), (2, .int x2), (3, .int x3), (5, .int x5)]) hx hb dX0_look_163 hl (by decide) rfl (fun ls hl => ?_)
          obtain ⟨x5_165, ex⟩ : ∃ y : Int32, y = (x5 + (1 : Int32)) := ⟨_, rfl⟩
          have hf := lett_e ex hf
          refine lv_iinc (v := x5_165) (lv' := [(5, .int x5_165), (4, .int x5), (0, .ref (a 32)), (2, .int x2), (3, .int x3)]) hx hb dX0_look_165 hl (k := 4) rfl (by rw [ex]; rfl) (by decide) rfl (fun ls hl => ?_)
          refine lv_goto (tgt := 132) hx hb dX0_look_168 (by decide) ?_
          exact ih w_155.2 x2 x3 x5 x5_165 _ _ _ hT (lv_sub hl [2, 3, 4, 1, 0] rfl) hf
  refine W.eq (by rw [hargs]) (t_in (vs := [.ref (a 32), .int x1, .int x2]) (n := 6) (Nat.le_of_ble_eq_true rfl) (fun ls hl => ?_))
  have hl : lv_has ls 6 [(0, .ref (a 32)), (1, .int x1), (2, .int x2)] := hl
  unfold fX0_look at hf
  refine lv_aload_n hx hb dX0_look_0 rfl (lv_at hl 0 rfl) ?_
  obtain ⟨w_1, h_1, hf⟩ := bind_e hf
  refine g_calli (vs := []) (rest := []) C hX hT (A_new hA0) (Cut.all (D_nd hT.2.1) ((wC_fst d a ja _).trans (wC_fst d a ja t0).symm)) (Ro := (fun P => JAt d ja j P ∧ RAt d (a 3) r P)) ⟨hJ.step hT.2.2 (A_full hA0 hT.2.2.1), hR.2.step hT.2.2 (A_full hA0 hT.2.2.1)⟩ (fun sz => mX0_isJunction l D d sd a ja N j r  t0  _ h_1 sz) (cwV 0 C.2.2.2.2 (lw_V q923 q925 qs28 q120 q926) rfl rfl rfl hdX0_isJunction ⟨Nat.le_of_ble_eq_true rfl, Nat.le_of_ble_eq_true rfl⟩) (g_recv hV (hT.atp 0 rfl) (ci := 1) rfl) rfl hl.1 rfl (Nat.le_of_ble_eq_true rfl) dX0_look_1 ⟨Nat.zero_le _, Nat.zero_le _⟩ (fun H locs hT => ?_)
  refine lv_if_eq (tgt := 29) hx hb dX0_look_4 (by decide) (fun hc => ?_) (fun hc => ?_)
  · have hf := ite_t hc hf
    refine lv_iconst (v := -1) hx hb dX0_look_29 (by decide) ?_
    exact f_iret (wC d a ja) hA0 C hT hf hr hlocks dX0_look_30
  · have hf := ite_f hc hf
    refine lv_iload_n hx hb dX0_look_7 rfl (lv_at hl 1 rfl) ?_
    refine lv_i2l hx hb dX0_look_8 rfl ?_
    refine lv_lconst (v := 0) hx hb dX0_look_9 (by decide) ?_
    refine g_ldc2 (v := 60) C q1112 dX0_look_10 ?_
    obtain ⟨w_13, h_13, hf⟩ := bind_e hf
    refine s_calli (vs := [.long (x1).toInt64, .long (0 : Int64), .long (60 : Int64)]) (rest := []) C (A_new hA0) hT (fun sz => mX0_in l N (x1).toInt64 (0 : Int64) (60 : Int64) _ h_13 sz) (va_cwS 3 C.2.2.2.2 (lw_S q885 q518 q120 q519) rfl rfl rfl hdX0_in ⟨Nat.le_of_ble_eq_true rfl, Nat.le_of_ble_eq_true rfl⟩) rfl hl.1 rfl (Nat.le_of_ble_eq_true rfl) dX0_look_13 ⟨Nat.zero_le _, Nat.zero_le _⟩ (fun H locs hT => ?_)
    refine lv_if_eq (tgt := 29) hx hb dX0_look_16 (by decide) (fun hc => ?_) (fun hc => ?_)
    · have hf := ite_t hc hf
      refine lv_iconst (v := -1) hx hb dX0_look_29 (by decide) ?_
      exact f_iret (wC d a ja) hA0 C hT hf hr hlocks dX0_look_30
    · have hf := ite_f hc hf
      refine lv_iload_n hx hb dX0_look_19 rfl (lv_at hl 2 rfl) ?_
      refine lv_i2l hx hb dX0_look_20 rfl ?_
      refine lv_lconst (v := 0) hx hb dX0_look_21 (by decide) ?_
      refine lv_lconst (v := 1) hx hb dX0_look_22 (by decide) ?_
      obtain ⟨w_23, h_23, hf⟩ := bind_e hf
      refine s_calli (vs := [.long (x2).toInt64, .long (0 : Int64), .long (1 : Int64)]) (rest := []) C (A_new hA0) hT (fun sz => mX0_in l N (x2).toInt64 (0 : Int64) (1 : Int64) _ h_23 sz) (va_cwS 3 C.2.2.2.2 (lw_S q885 q518 q120 q519) rfl rfl rfl hdX0_in ⟨Nat.le_of_ble_eq_true rfl, Nat.le_of_ble_eq_true rfl⟩) rfl hl.1 rfl (Nat.le_of_ble_eq_true rfl) dX0_look_23 ⟨Nat.zero_le _, Nat.zero_le _⟩ (fun H locs hT => ?_)
      refine lv_if_ne (tgt := 31) hx hb dX0_look_26 (by decide) (fun hc => ?_) (fun hc => ?_)
      · have hf := ite_t hc hf
        refine lv_iconst (v := 0) hx hb dX0_look_31 (by decide) ?_
        refine lv_istore_n (lv' := [(3, .int (0 : Int32)), (0, .ref (a 32)), (1, .int x1), (2, .int x2)]) hx hb dX0_look_32 rfl hl (by decide) rfl (fun ls hl => ?_)
        refine lv_iconst (v := -1) hx hb dX0_look_33 (by decide) ?_
        refine lv_istore (lv' := [(4, .int (-1 : Int32)), (3, .int (0 : Int32)), (0, .ref (a 32)), (1, .int x1), (2, .int x2)]) hx hb dX0_look_34 hl (by decide) rfl (fun ls hl => ?_)
        refine hL36 _ (fun t x2 x3 H locs ls hT hl hf => ?_) N w_1.2 x1 x2 (0 : Int32) (-1 : Int32) _ _ _ hT (lv_sub hl [2, 3, 4, 1, 0] rfl) hf
        refine lv_iload_n hx hb dX0_look_109 rfl (lv_at hl 2 rfl) ?_
        refine lv_if_eq (tgt := 123) hx hb dX0_look_110 (by decide) (fun hc => ?_) (fun hc => ?_)
        · have hf := ite_t hc hf
          refine lv_bipush (v := -2) hx hb dX0_look_123 (by decide) ?_
          exact f_iret (wC d a ja) hA0 C hT hf hr hlocks dX0_look_125
        · have hf := ite_f hc hf
          refine lv_aload_n hx hb dX0_look_113 rfl (lv_at hl 0 rfl) ?_
          refine r_get C hV (hT.atp 0 rfl) (ci := 1) rfl in_X0 0 (by decide) q334 rfl dX0_look_114 ?_
          obtain ⟨w_117, h_117, hf⟩ := bind_e hf
          refine g_calli (vs := []) (rest := []) C hX hT (A_new hA0) (Cut.none _) (hJ.step hT.2.2 (Anil (A_new hA0) hT.2.2.1)) (fun sz => mX1_roads l D d sd ja N j _ h_117 sz) (cwV 0 C.2.2.2.2 (lw_V q709 q584 q585 q121 q586) rfl rfl rfl hdX1_roads ⟨Nat.le_of_ble_eq_true rfl, Nat.le_of_ble_eq_true rfl⟩) (g_recv hV (hJ.1.at hT.2.2) (ci := 3) rfl) rfl hl.1 rfl (Nat.le_of_ble_eq_true rfl) dX0_look_117 ⟨Nat.zero_le _, Nat.zero_le _⟩ (fun H locs hT => ?_)
          refine lv_if_ne (tgt := 126) hx hb dX0_look_120 (by decide) (fun hc => ?_) (fun hc => ?_)
          · have hf := ite_t hc hf
            refine lv_iconst (v := 0) hx hb dX0_look_126 (by decide) ?_
            refine lv_istore (lv' := [(4, .int (0 : Int32)), (0, .ref (a 32)), (2, .int x2), (3, .int x3)]) hx hb dX0_look_127 hl (by decide) rfl (fun ls hl => ?_)
            refine lv_iconst (v := 1) hx hb dX0_look_129 (by decide) ?_
            refine lv_istore (lv' := [(5, .int (1 : Int32)), (4, .int (0 : Int32)), (0, .ref (a 32)), (2, .int x2), (3, .int x3)]) hx hb dX0_look_130 hl (by decide) rfl (fun ls hl => ?_)
            refine hL132 _ (fun t x2 x3 x4 H locs ls hT hl hf => ?_) N t x2 x3 (0 : Int32) (1 : Int32) _ _ _ hT (lv_sub hl [2, 3, 4, 1, 0] rfl) hf
            refine lv_iload_n hx hb dX0_look_171 rfl (lv_at hl 1 rfl) ?_
            refine lv_if_ne (tgt := 180) hx hb dX0_look_172 (by decide) (fun hc => ?_) (fun hc => ?_)
            · have hf := ite_t hc hf
              refine lv_aload_n hx hb dX0_look_180 rfl (lv_at hl 0 rfl) ?_
              refine lv_iload hx hb dX0_look_181 (lv_at hl 3 rfl) ?_
              refine lv_iload_n hx hb dX0_look_183 rfl (lv_at hl 2 rfl) ?_
              obtain ⟨w_184, h_184, hf⟩ := bind_e hf
              refine g_calli (vs := [.int x4, .int x3]) (rest := []) C hX hT (A_new hA0) (Cut.all (D_nd hT.2.1) ((wC_fst d a ja _).trans (wC_fst d a ja t).symm)) (Ro := (fun P => JAt d ja j P ∧ RAt d (a 3) r P)) ⟨hJ.step hT.2.2 (A_full hA0 hT.2.2.1), hR.2.step hT.2.2 (A_full hA0 hT.2.2.1)⟩ (fun sz => mX0_mostAlike l D d sd a ja N j r  t x4 x3 _ h_184 sz) (cwV 2 C.2.2.2.2 (lw_V q1163 q1165 qs42 q120 q1166) rfl rfl rfl hdX0_mostAlike ⟨Nat.le_of_ble_eq_true rfl, Nat.le_of_ble_eq_true rfl⟩) (g_recv hV (hT.atp 0 rfl) (ci := 1) rfl) rfl hl.1 rfl (Nat.le_of_ble_eq_true rfl) dX0_look_184 ⟨Nat.zero_le _, Nat.zero_le _⟩ (fun H locs hT => ?_)
              exact f_iret (wC d a ja) hA0 C hT hf hr hlocks dX0_look_187
            · have hf := ite_f (fun q => q hc) hf
              refine lv_iload hx hb dX0_look_175 (lv_at hl 3 rfl) ?_
              refine lv_goto (tgt := 187) hx hb dX0_look_177 (by decide) ?_
              exact f_iret (wC d a ja) hA0 C hT hf hr hlocks dX0_look_187
          · have hf := ite_f (fun q => q hc) hf
            refine lv_bipush (v := -2) hx hb dX0_look_123 (by decide) ?_
            exact f_iret (wC d a ja) hA0 C hT hf hr hlocks dX0_look_125
      · have hf := ite_f (fun q => q hc) hf
        refine lv_iconst (v := -1) hx hb dX0_look_29 (by decide) ?_
        exact f_iret (wC d a ja) hA0 C hT hf hr hlocks dX0_look_30
def fX0_seed (N : Nat) (j : JS) (r : RS) (t0 : CS) (x1 : Int32) : Option (Int32 × CS) :=
  (if 0 ≤ x1 then (lett (t0.1 12) fun x2_10 => (lett (csI t0 12 x1) fun t_13 => (some (x2_10, t_13)))) else (some ((-1 : Int32), t0)))
theorem hdX0_seed : yX0_seed.cls = RX0 ∧ yX0_seed.cls ≠ "java/lang/invoke/MethodHandle" ∧ yX0_seed.cls ≠ "java/lang/invoke/VarHandle" ∧ (parseMethodDescriptor yX0_seed.desc).map (fun d => d.parameters.length) = some 1 := by decide +kernel
set_option maxHeartbeats 4000000 in
theorem mX0_seed (l : Launch) (D : va_G) (d : Nat → ClassId) (sd : Nat) (a : Nat → Nat) (ja : Nat → Nat) (N : Nat) (j : JS) (r : RS) (t0 : CS) (x1 : Int32) (w : Int32 × CS) (hf : fX0_seed N j r t0 x1 = some w) (sz : Nat) : Met l yX0_seed (ws_ yX0_seed cX0_seed 3 (some .int)) (rm_ 0 0) (GPc D d sd [.ref (a 32), .int x1] (wC d a ja t0) (fun P => JAt d ja j P ∧ RAt d (a 3) r P) sz) (GQi D w.1 (wC d a ja w.2) (wC d a ja t0) sz) 0 0 (va_A (wC d a ja t0) sz) := by
  refine Met.ofW (cc := cX0_seed) (maxL := 3) (ret := (some .int)) plX0 rfl ?_
  intro p e s m args below meth c s₁ B hml hv
  obtain ⟨C, hX, hR, hT, hr, hlocks, hargs, rfl⟩ := g_enter (own := RX0) B hml rfl hv
  have hx := C.1
  have hb := C.2.1
  have hV := hX.1
  obtain ⟨A, hA0⟩ : ∃ A, A = va_A (wC d a ja t0) s.heap.size := ⟨_, rfl⟩
  rw [← hA0] at hX hR hT
  show W p l e (rm_ 0 0) s m args below meth c s.heap [] 0 0 (MQ below (GQi D w.1 (wC d a ja w.2) (wC d a ja t0) s.heap.size) args s 0 0 (va_A (wC d a ja t0) s.heap.size)) _
  rw [← hA0]
  have hJ := hR.1
  obtain ⟨rmc, rel, rcap, rf, hrl, hrel, hrc, hrg⟩ := hR.2.unpack
  refine W.eq (by rw [hargs]) (t_in (vs := [.ref (a 32), .int x1]) (n := 3) (Nat.le_of_ble_eq_true rfl) (fun ls hl => ?_))
  have hl : lv_has ls 3 [(0, .ref (a 32)), (1, .int x1)] := hl
  unfold fX0_seed at hf
  refine lv_iload_n hx hb dX0_seed_0 rfl (lv_at hl 1 rfl) ?_
  refine lv_if_ge (tgt := 6) hx hb dX0_seed_1 (by decide) (fun hc => ?_) (fun hc => ?_)
  · have hf := ite_t hc hf
    refine lv_aload_n hx hb dX0_seed_6 rfl (lv_at hl 0 rfl) ?_
    refine r_get C hV (hT.atp 0 rfl) (ci := 1) rfl in_X0 12 (by decide) q356 rfl dX0_seed_7 ?_
    refine lv_topi (fun x2_10 ex => ?_)
    have hf := lett_e ex hf
    refine lv_istore_n (lv' := [(2, .int x2_10), (0, .ref (a 32)), (1, .int x1)]) hx hb dX0_seed_10 rfl hl (by decide) rfl (fun ls hl => ?_)
    refine lv_aload_n hx hb dX0_seed_11 rfl (lv_at hl 1 rfl) ?_
    refine lv_iload_n hx hb dX0_seed_12 rfl (lv_at hl 2 rfl) ?_
    obtain ⟨t_13, et⟩ : ∃ y, y = (csI t0 12 x1) := ⟨_, rfl⟩
    have hf := lett_e et hf
    refine w_put C hV hT (ws1 := (wC d a ja t_13)) 0 rfl rfl in_X0 tyX0_ok nmX0 12 (by decide) q356 (by rw [et]; exact upd_set hT.2.1 rfl (cset_12 d a ja t0 _)) rfl rfl rfl rfl (Nat.le_of_ble_eq_true rfl) dX0_seed_13 (fun H locs hT => ?_)
    refine lv_iload_n hx hb dX0_seed_16 rfl (lv_at hl 0 rfl) ?_
    exact f_iret (wC d a ja) hA0 C hT hf hr hlocks dX0_seed_17
  · have hf := ite_f hc hf
    refine lv_iconst (v := -1) hx hb dX0_seed_4 (by decide) ?_
    exact f_iret (wC d a ja) hA0 C hT hf hr hlocks dX0_seed_5
def fX0_draws (N : Nat) (j : JS) (r : RS) (t0 : CS) (x1 : Int32) : Option (Int32 × CS) :=
  (lett (csI t0 12 ((lrem ((((t0.1 12)).toInt64 * (1103515245 : Int64)) + (12345 : Int64)) (2147483648 : Int64))).toInt32) fun t_19 => (nz x1 (some ((irem ((t_19.1 12) / (65536 : Int32)) x1), t_19))))
theorem hdX0_draws : yX0_draws.cls = RX0 ∧ yX0_draws.cls ≠ "java/lang/invoke/MethodHandle" ∧ yX0_draws.cls ≠ "java/lang/invoke/VarHandle" ∧ (parseMethodDescriptor yX0_draws.desc).map (fun d => d.parameters.length) = some 1 := by decide +kernel
set_option maxHeartbeats 4000000 in
theorem mX0_draws (l : Launch) (D : va_G) (d : Nat → ClassId) (sd : Nat) (a : Nat → Nat) (ja : Nat → Nat) (N : Nat) (j : JS) (r : RS) (t0 : CS) (x1 : Int32) (w : Int32 × CS) (hf : fX0_draws N j r t0 x1 = some w) (sz : Nat) : Met l yX0_draws (ws_ yX0_draws cX0_draws 2 (some .int)) (rm_ 0 0) (GPc D d sd [.ref (a 32), .int x1] (wC d a ja t0) (fun P => JAt d ja j P ∧ RAt d (a 3) r P) sz) (GQi D w.1 (wC d a ja w.2) (wC d a ja t0) sz) 0 0 (va_A (wC d a ja t0) sz) := by
  refine Met.ofW (cc := cX0_draws) (maxL := 2) (ret := (some .int)) plX0 rfl ?_
  intro p e s m args below meth c s₁ B hml hv
  obtain ⟨C, hX, hR, hT, hr, hlocks, hargs, rfl⟩ := g_enter (own := RX0) B hml rfl hv
  have hx := C.1
  have hb := C.2.1
  have hV := hX.1
  obtain ⟨A, hA0⟩ : ∃ A, A = va_A (wC d a ja t0) s.heap.size := ⟨_, rfl⟩
  rw [← hA0] at hX hR hT
  show W p l e (rm_ 0 0) s m args below meth c s.heap [] 0 0 (MQ below (GQi D w.1 (wC d a ja w.2) (wC d a ja t0) s.heap.size) args s 0 0 (va_A (wC d a ja t0) s.heap.size)) _
  rw [← hA0]
  have hJ := hR.1
  obtain ⟨rmc, rel, rcap, rf, hrl, hrel, hrc, hrg⟩ := hR.2.unpack
  refine W.eq (by rw [hargs]) (t_in (vs := [.ref (a 32), .int x1]) (n := 2) (Nat.le_of_ble_eq_true rfl) (fun ls hl => ?_))
  have hl : lv_has ls 2 [(0, .ref (a 32)), (1, .int x1)] := hl
  unfold fX0_draws at hf
  refine lv_aload_n hx hb dX0_draws_0 rfl (lv_at hl 0 rfl) ?_
  refine lv_aload_n hx hb dX0_draws_1 rfl (lv_at hl 0 rfl) ?_
  refine r_get C hV (hT.atp 0 rfl) (ci := 1) rfl in_X0 12 (by decide) q356 rfl dX0_draws_2 ?_
  refine lv_i2l hx hb dX0_draws_5 rfl ?_
  refine g_ldc2 (v := 1103515245) C q1181 dX0_draws_6 ?_
  refine lv_lmul hx hb dX0_draws_9 ?_
  refine g_ldc2 (v := 12345) C q1182 dX0_draws_10 ?_
  refine lv_ladd hx hb dX0_draws_13 ?_
  refine g_ldc2 (v := 2147483648) C q1183 dX0_draws_14 ?_
  refine g_lrem hx hb dX0_draws_17 (by decide) ?_
  refine lv_l2i hx hb dX0_draws_18 rfl ?_
  obtain ⟨t_19, et⟩ : ∃ y, y = (csI t0 12 ((lrem ((((t0.1 12)).toInt64 * (1103515245 : Int64)) + (12345 : Int64)) (2147483648 : Int64))).toInt32) := ⟨_, rfl⟩
  have hf := lett_e et hf
  refine w_put C hV hT (ws1 := (wC d a ja t_19)) 0 rfl rfl in_X0 tyX0_ok nmX0 12 (by decide) q356 (by rw [et]; exact upd_set hT.2.1 rfl (cset_12 d a ja t0 _)) rfl rfl rfl rfl (Nat.le_of_ble_eq_true rfl) dX0_draws_19 (fun H locs hT => ?_)
  refine lv_aload_n hx hb dX0_draws_22 rfl (lv_at hl 0 rfl) ?_
  refine r_get C hV (hT.atp 0 rfl) (ci := 1) rfl in_X0 12 (by decide) q356 rfl dX0_draws_23 ?_
  refine g_ldcw (v := 65536) C q1184 dX0_draws_26 ?_
  refine lv_idiv hx hb dX0_draws_29 (by decide) ?_
  refine lv_iload_n hx hb dX0_draws_30 rfl (lv_at hl 1 rfl) ?_
  obtain ⟨hn, hf⟩ := nz_e hf
  refine g_irem hx hb dX0_draws_31 hn ?_
  exact f_iret (wC d a ja) hA0 C hT hf hr hlocks dX0_draws_32
def fX0_mornings_J54 (N : Nat) (j : JS) (r : RS) (t : CS) : Option (Int32 × CS) :=
  (some ((-100000 : Int32), t))
def fX0_mornings_J138 (N : Nat) (j : JS) (r : RS) (K : CS → Int32 → Int32 → Int32 → Int32 → Int32 → Int32 → Int32 → Int32 → Option (Int32 × CS)) (kb : CS → Int32 → Int32 → Int32 → Int32 → Int32 → Int32 → Int32 → Int32 → Int32 → Option (Int32 × CS)) (t : CS) (x1 : Int32) (x2 : Int32) (x3 : Int32) (x4 : Int32) (x5 : Int32) (x6 : Int32) (x7 : Int32) (x8 : Int32) (x9 : Int32) : Option (Int32 × CS) :=
  ((fX0_goesOn N j r 1 t ).bind fun w_143 => (lett (x9 + (1 : Int32)) fun x9_147 => (kb w_143.2 x1 x2 x3 x4 x5 x6 x7 x8 x9_147)))
def fX0_mornings_B93 (N : Nat) (j : JS) (r : RS) (K : CS → Int32 → Int32 → Int32 → Int32 → Int32 → Int32 → Int32 → Int32 → Option (Int32 × CS)) (kb : CS → Int32 → Int32 → Int32 → Int32 → Int32 → Int32 → Int32 → Int32 → Int32 → Option (Int32 × CS)) (t : CS) (x1 : Int32) (x2 : Int32) (x3 : Int32) (x4 : Int32) (x5 : Int32) (x6 : Int32) (x7 : Int32) (x8 : Int32) (x9 : Int32) : Option (Int32 × CS) :=
  (if x2 ≤ x9 then (K t x1 x2 x3 x4 x5 x6 x7 x8) else ((fX0_draws N j r  t (100 : Int32)).bind fun w_102 => (if x3 ≤ w_102.1 then (fX0_mornings_J138 N j r K kb w_102.2 x1 x2 x3 x4 x5 x6 x7 x8 x9) else ((fX1_roads N j).bind fun w_113 => (if w_113 ≤ 0 then (fX0_mornings_J138 N j r K kb w_102.2 x1 x2 x3 x4 x5 x6 x7 x8 x9) else ((fX1_roads N j).bind fun w_128 => ((fX0_draws N j r  w_102.2 w_128).bind fun w_131 => ((fX2_comes N (w_131.2.2.2.2 1) w_131.1 (3 : Int32)).bind fun w_135 => (lett (csS w_131.2 1 w_135) fun t_135 => (fX0_mornings_J138 N j r K kb t_135 x1 x2 x3 x4 x5 x6 x7 x8 x9))))))))))
def fX0_mornings_L93 (N : Nat) (j : JS) (r : RS) (K : CS → Int32 → Int32 → Int32 → Int32 → Int32 → Int32 → Int32 → Int32 → Option (Int32 × CS)) : Nat → CS → Int32 → Int32 → Int32 → Int32 → Int32 → Int32 → Int32 → Int32 → Int32 → Option (Int32 × CS)
  | 0 => fun _ _ _ _ _ _ _ _ _ _ => none
  | n + 1 => fun t x1 x2 x3 x4 x5 x6 x7 x8 x9 => fX0_mornings_B93 N j r K (fX0_mornings_L93 N j r K n) t x1 x2 x3 x4 x5 x6 x7 x8 x9
def fX0_mornings_B73 (N : Nat) (j : JS) (r : RS) (K : CS → Int32 → Int32 → Int32 → Int32 → Option (Int32 × CS)) (kb : CS → Int32 → Int32 → Int32 → Int32 → Int32 → Int32 → Int32 → Int32 → Option (Int32 × CS)) (t : CS) (x1 : Int32) (x2 : Int32) (x3 : Int32) (x4 : Int32) (x5 : Int32) (x6 : Int32) (x7 : Int32) (x8 : Int32) : Option (Int32 × CS) :=
  (if x1 ≤ x8 then (K t x4 x5 x6 x7) else ((fX2_copyFrom N (t.2.2.2 0) (t.2.2.2 1) ).bind fun w_87 => (lett (csS t 1 w_87) fun t_87 => (fX0_mornings_L93 N j r (fun t x1 x2 x3 x4 x5 x6 x7 x8 => ((fX2_sumOf N 6 ((t.2.2.2 1).1 3)).bind fun w_162 => ((fX2_sumOf N 6 ((t.2.2.2 0).1 3)).bind fun w_172 => (lett (x6 + (w_162 - w_172)) fun x6_177 => (lett (x7 + (((t.2.2.2 1).2 7) - ((t.2.2.2 0).2 7))) fun x7_197 => (lett (x8 + (1 : Int32)) fun x8_199 => (kb t x1 x2 x3 x4 x5 x6_177 x7_197 x8_199))))))) N t_87 x1 x2 x3 x4 x5 x6 x7 x8 (0 : Int32)))))
def fX0_mornings_L73 (N : Nat) (j : JS) (r : RS) (K : CS → Int32 → Int32 → Int32 → Int32 → Option (Int32 × CS)) : Nat → CS → Int32 → Int32 → Int32 → Int32 → Int32 → Int32 → Int32 → Int32 → Option (Int32 × CS)
  | 0 => fun _ _ _ _ _ _ _ _ _ => none
  | n + 1 => fun t x1 x2 x3 x4 x5 x6 x7 x8 => fX0_mornings_B73 N j r K (fX0_mornings_L73 N j r K n) t x1 x2 x3 x4 x5 x6 x7 x8
def fX0_mornings (N : Nat) (j : JS) (r : RS) (t0 : CS) (x1 : Int32) (x2 : Int32) (x3 : Int32) (x4 : Int32) : Option (Int32 × CS) :=
  ((fX0_isJunction N j r  t0 ).bind fun w_1 => (if w_1.1 = 0 then (fX0_mornings_J54 N j r w_1.2) else ((fX0_in N (x1).toInt64 (1 : Int64) (10 : Int64)).bind fun w_13 => (if w_13 = 0 then (fX0_mornings_J54 N j r w_1.2) else ((fX0_in N (x2).toInt64 (1 : Int64) (60 : Int64)).bind fun w_25 => (if w_25 = 0 then (fX0_mornings_J54 N j r w_1.2) else ((fX0_in N (x3).toInt64 (0 : Int64) (100 : Int64)).bind fun w_37 => (if w_37 = 0 then (fX0_mornings_J54 N j r w_1.2) else ((fX0_in N (x4).toInt64 (0 : Int64) (1 : Int64)).bind fun w_48 => (if ¬ w_48 = 0 then (lett (w_1.2.1 12) fun x5_62 => (fX0_mornings_L73 N j r (fun t x4 x5 x6 x7 => (lett (csI t 12 x5) fun t_208 => (if ¬ x4 = 0 then (some (x7, t_208)) else (some (x6, t_208))))) N w_1.2 x1 x2 x3 x4 x5_62 (0 : Int32) (0 : Int32) (0 : Int32))) else (fX0_mornings_J54 N j r w_1.2)))))))))))
theorem hdX0_mornings : yX0_mornings.cls = RX0 ∧ yX0_mornings.cls ≠ "java/lang/invoke/MethodHandle" ∧ yX0_mornings.cls ≠ "java/lang/invoke/VarHandle" ∧ (parseMethodDescriptor yX0_mornings.desc).map (fun d => d.parameters.length) = some 4 := by decide +kernel
set_option maxHeartbeats 4000000 in
theorem mX0_mornings (l : Launch) (D : va_G) (d : Nat → ClassId) (sd : Nat) (a : Nat → Nat) (ja : Nat → Nat) (N : Nat) (j : JS) (r : RS) (t0 : CS) (x1 : Int32) (x2 : Int32) (x3 : Int32) (x4 : Int32) (w : Int32 × CS) (hf : fX0_mornings N j r t0 x1 x2 x3 x4 = some w) (sz : Nat) : Met l yX0_mornings (ws_ yX0_mornings cX0_mornings 10 (some .int)) (rm_ 264 8092) (GPc D d sd [.ref (a 32), .int x1, .int x2, .int x3, .int x4] (wC d a ja t0) (fun P => JAt d ja j P ∧ RAt d (a 3) r P) sz) (GQi D w.1 (wC d a ja w.2) (wC d a ja t0) sz) 0 0 (va_A (wC d a ja t0) sz) := by
  refine Met.ofW (cc := cX0_mornings) (maxL := 10) (ret := (some .int)) plX0 rfl ?_
  intro p e s m args below meth c s₁ B hml hv
  obtain ⟨C, hX, hR, hT, hr, hlocks, hargs, rfl⟩ := g_enter (own := RX0) B hml rfl hv
  have hx := C.1
  have hb := C.2.1
  have hV := hX.1
  obtain ⟨A, hA0⟩ : ∃ A, A = va_A (wC d a ja t0) s.heap.size := ⟨_, rfl⟩
  rw [← hA0] at hX hR hT
  show W p l e (rm_ 264 8092) s m args below meth c s.heap [] 0 0 (MQ below (GQi D w.1 (wC d a ja w.2) (wC d a ja t0) s.heap.size) args s 0 0 (va_A (wC d a ja t0) s.heap.size)) _
  rw [← hA0]
  have hJ := hR.1
  obtain ⟨rmc, rel, rcap, rf, hrl, hrel, hrc, hrg⟩ := hR.2.unpack
  have hJ54 : ∀ (t : CS) (H : Heap) (locs : List Loc) (ls : Array Slot), TH D A s.heap (wC d a ja t) H locs → lv_has ls 10 [] → fX0_mornings_J54 N j r t = some w → W p l e (rm_ 264 8092) s m args below meth c H locs 0 0 (MQ below (GQi D w.1 (wC d a ja w.2) (wC d a ja t0) s.heap.size) args s 0 0 A) (F0 m 54 ls []) := by
    intro t H locs ls hT hl hf
    unfold fX0_mornings_J54 at hf
    refine g_ldcw (v := -100000) C q1176 dX0_mornings_54 ?_
    exact f_iret (wC d a ja) hA0 C hT hf hr hlocks dX0_mornings_57
  have hL73 : ∀ (K : CS → Int32 → Int32 → Int32 → Int32 → Option (Int32 × CS)), (∀ (t : CS) (x4 : Int32) (x5 : Int32) (x6 : Int32) (x7 : Int32) (H : Heap) (locs : List Loc) (ls : Array Slot), TH D A s.heap (wC d a ja t) H locs → lv_has ls 10 [(0, .ref (a 32)), (4, .int x4), (5, .int x5), (6, .int x6), (7, .int x7)] → K t x4 x5 x6 x7 = some w → W p l e (rm_ 264 8092) s m args below meth c H locs 0 0 (MQ below (GQi D w.1 (wC d a ja w.2) (wC d a ja t0) s.heap.size) args s 0 0 A) (F0 m 205 ls [])) → ∀ (n : Nat) (t : CS) (x1 : Int32) (x2 : Int32) (x3 : Int32) (x4 : Int32) (x5 : Int32) (x6 : Int32) (x7 : Int32) (x8 : Int32) (H : Heap) (locs : List Loc) (ls : Array Slot), TH D A s.heap (wC d a ja t) H locs → lv_has ls 10 [(0, .ref (a 32)), (1, .int x1), (2, .int x2), (3, .int x3), (4, .int x4), (5, .int x5), (6, .int x6), (7, .int x7), (8, .int x8)] → fX0_mornings_L73 N j r K n t x1 x2 x3 x4 x5 x6 x7 x8 = some w → W p l e (rm_ 264 8092) s m args below meth c H locs 0 0 (MQ below (GQi D w.1 (wC d a ja w.2) (wC d a ja t0) s.heap.size) args s 0 0 A) (F0 m 73 ls []) := by
    intro K hE n
    induction n with
    | zero =>
      intro t x1 x2 x3 x4 x5 x6 x7 x8 H locs ls hT hl hf
      cases hf
    | succ n ih =>
      have hL93 : ∀ (K : CS → Int32 → Int32 → Int32 → Int32 → Int32 → Int32 → Int32 → Int32 → Option (Int32 × CS)), (∀ (t : CS) (x1 : Int32) (x2 : Int32) (x3 : Int32) (x4 : Int32) (x5 : Int32) (x6 : Int32) (x7 : Int32) (x8 : Int32) (H : Heap) (locs : List Loc) (ls : Array Slot), TH D A s.heap (wC d a ja t) H locs → lv_has ls 10 [(0, .ref (a 32)), (1, .int x1), (2, .int x2), (3, .int x3), (4, .int x4), (5, .int x5), (6, .int x6), (7, .int x7), (8, .int x8)] → K t x1 x2 x3 x4 x5 x6 x7 x8 = some w → W p l e (rm_ 264 8092) s m args below meth c H locs 0 0 (MQ below (GQi D w.1 (wC d a ja w.2) (wC d a ja t0) s.heap.size) args s 0 0 A) (F0 m 153 ls [])) → ∀ (n : Nat) (t : CS) (x1 : Int32) (x2 : Int32) (x3 : Int32) (x4 : Int32) (x5 : Int32) (x6 : Int32) (x7 : Int32) (x8 : Int32) (x9 : Int32) (H : Heap) (locs : List Loc) (ls : Array Slot), TH D A s.heap (wC d a ja t) H locs → lv_has ls 10 [(0, .ref (a 32)), (1, .int x1), (2, .int x2), (3, .int x3), (4, .int x4), (5, .int x5), (6, .int x6), (7, .int x7), (8, .int x8), (9, .int x9)] → fX0_mornings_L93 N j r K n t x1 x2 x3 x4 x5 x6 x7 x8 x9 = some w → W p l e (rm_ 264 8092) s m args below meth c H locs 0 0 (MQ below (GQi D w.1 (wC d a ja w.2) (wC d a ja t0) s.heap.size) args s 0 0 A) (F0 m 93 ls []) := by
        intro K hE n
        induction n with
        | zero =>
          intro t x1 x2 x3 x4 x5 x6 x7 x8 x9 H locs ls hT hl hf
          cases hf
        | succ n ih =>
          have hJ138 : ∀ (t : CS) (x1 : Int32) (x2 : Int32) (x3 : Int32) (x4 : Int32) (x5 : Int32) (x6 : Int32) (x7 : Int32) (x8 : Int32) (x9 : Int32) (H : Heap) (locs : List Loc) (ls : Array Slot), TH D A s.heap (wC d a ja t) H locs → lv_has ls 10 [(0, .ref (a 32)), (1, .int x1), (2, .int x2), (3, .int x3), (4, .int x4), (5, .int x5), (6, .int x6), (7, .int x7), (8, .int x8), (9, .int x9)] → fX0_mornings_J138 N j r K (fX0_mornings_L93 N j r K n) t x1 x2 x3 x4 x5 x6 x7 x8 x9 = some w → W p l e (rm_ 264 8092) s m args below meth c H locs 0 0 (MQ below (GQi D w.1 (wC d a ja w.2) (wC d a ja t0) s.heap.size) args s 0 0 A) (F0 m 138 ls []) := by
            intro t x1 x2 x3 x4 x5 x6 x7 x8 x9 H locs ls hT hl hf
            unfold fX0_mornings_J138 at hf
            refine lv_aload_n hx hb dX0_mornings_138 rfl (lv_at hl 0 rfl) ?_
            refine lv_aload_n hx hb dX0_mornings_139 rfl (lv_at hl 0 rfl) ?_
            refine r_get C hV (hT.atp 0 rfl) (ci := 1) rfl in_X0 2 (by decide) q337 rfl dX0_mornings_140 ?_
            obtain ⟨w_143, h_143, hf⟩ := bind_e hf
            refine g_calli (vs := [.ref (sa a 1 0)]) (rest := []) C hX hT (A_new hA0) (Cut.all (D_nd hT.2.1) ((wC_fst d a ja _).trans (wC_fst d a ja t).symm)) (Ro := (fun P => JAt d ja j P ∧ RAt d (a 3) r P)) ⟨hJ.step hT.2.2 (A_full hA0 hT.2.2.1), hR.2.step hT.2.2 (A_full hA0 hT.2.2.1)⟩ (fun sz => mX0_goesOn l D d sd a ja N j r 1 t  _ h_143 (by decide) sz) (cwV 1 C.2.2.2.2 (lw_V q932 q934 qs30 q120 q935) rfl rfl rfl hdX0_goesOn ⟨Nat.le_of_ble_eq_true rfl, Nat.le_of_ble_eq_true rfl⟩) (g_recv hV (hT.atp 0 rfl) (ci := 1) rfl) rfl hl.1 rfl (Nat.le_of_ble_eq_true rfl) dX0_mornings_143 ⟨Nat.zero_le _, Nat.zero_le _⟩ (fun H locs hT => ?_)
            refine lv_pop hx hb dX0_mornings_146 rfl ?_
            obtain ⟨x9_147, ex⟩ : ∃ y : Int32, y = (x9 + (1 : Int32)) := ⟨_, rfl⟩
            have hf := lett_e ex hf
            refine lv_iinc (v := x9_147) (lv' := [(9, .int x9_147), (0, .ref (a 32)), (1, .int x1), (2, .int x2), (3, .int x3), (4, .int x4), (5, .int x5), (6, .int x6), (7, .int x7), (8, .int x8)]) hx hb dX0_mornings_147 hl (k := 9) rfl (by rw [ex]; rfl) (by decide) rfl (fun ls hl => ?_)
            refine lv_goto (tgt := 93) hx hb dX0_mornings_150 (by decide) ?_
            exact ih w_143.2 x1 x2 x3 x4 x5 x6 x7 x8 x9_147 _ _ _ hT (lv_sub hl [1, 2, 3, 4, 5, 6, 7, 8, 9, 0] rfl) hf
          intro t x1 x2 x3 x4 x5 x6 x7 x8 x9 H locs ls hT hl hf
          replace hf : fX0_mornings_B93 N j r K (fX0_mornings_L93 N j r K n) t x1 x2 x3 x4 x5 x6 x7 x8 x9 = some w := hf
          unfold fX0_mornings_B93 at hf
          refine lv_iload hx hb dX0_mornings_93 (lv_at hl 9 rfl) ?_
          refine lv_iload_n hx hb dX0_mornings_95 rfl (lv_at hl 2 rfl) ?_
          refine lv_icmp_ge (tgt := 153) hx hb dX0_mornings_96 (by decide) (fun hc => ?_) (fun hc => ?_)
          · have hf := ite_t hc hf
            exact hE t x1 x2 x3 x4 x5 x6 x7 x8 _ _ _ hT (lv_sub hl [0, 1, 2, 3, 4, 5, 6, 7, 8] rfl) hf
          · have hf := ite_f hc hf
            refine lv_aload_n hx hb dX0_mornings_99 rfl (lv_at hl 0 rfl) ?_
            refine lv_bipush (v := 100) hx hb dX0_mornings_100 (by decide) ?_
            obtain ⟨w_102, h_102, hf⟩ := bind_e hf
            refine g_calli (vs := [.int (100 : Int32)]) (rest := []) C hX hT (A_new hA0) (Cut.all (D_nd hT.2.1) ((wC_fst d a ja _).trans (wC_fst d a ja t).symm)) (Ro := (fun P => JAt d ja j P ∧ RAt d (a 3) r P)) ⟨hJ.step hT.2.2 (A_full hA0 hT.2.2.1), hR.2.step hT.2.2 (A_full hA0 hT.2.2.1)⟩ (fun sz => mX0_draws l D d sd a ja N j r  t (100 : Int32) _ h_102 sz) (cwV 1 C.2.2.2.2 (lw_V q1177 q1179 qs43 q120 q1180) rfl rfl rfl hdX0_draws ⟨Nat.le_of_ble_eq_true rfl, Nat.le_of_ble_eq_true rfl⟩) (g_recv hV (hT.atp 0 rfl) (ci := 1) rfl) rfl hl.1 rfl (Nat.le_of_ble_eq_true rfl) dX0_mornings_102 ⟨Nat.zero_le _, Nat.zero_le _⟩ (fun H locs hT => ?_)
            refine lv_iload_n hx hb dX0_mornings_105 rfl (lv_at hl 3 rfl) ?_
            refine lv_icmp_ge (tgt := 138) hx hb dX0_mornings_106 (by decide) (fun hc => ?_) (fun hc => ?_)
            · have hf := ite_t hc hf
              exact hJ138 w_102.2 x1 x2 x3 x4 x5 x6 x7 x8 x9 _ _ _ hT hl hf
            · have hf := ite_f hc hf
              refine lv_aload_n hx hb dX0_mornings_109 rfl (lv_at hl 0 rfl) ?_
              refine r_get C hV (hT.atp 0 rfl) (ci := 1) rfl in_X0 0 (by decide) q334 rfl dX0_mornings_110 ?_
              obtain ⟨w_113, h_113, hf⟩ := bind_e hf
              refine g_calli (vs := []) (rest := []) C hX hT (A_new hA0) (Cut.none _) (hJ.step hT.2.2 (Anil (A_new hA0) hT.2.2.1)) (fun sz => mX1_roads l D d sd ja N j _ h_113 sz) (cwV 0 C.2.2.2.2 (lw_V q709 q584 q585 q121 q586) rfl rfl rfl hdX1_roads ⟨Nat.le_of_ble_eq_true rfl, Nat.le_of_ble_eq_true rfl⟩) (g_recv hV (hJ.1.at hT.2.2) (ci := 3) rfl) rfl hl.1 rfl (Nat.le_of_ble_eq_true rfl) dX0_mornings_113 ⟨Nat.zero_le _, Nat.zero_le _⟩ (fun H locs hT => ?_)
              refine lv_if_le (tgt := 138) hx hb dX0_mornings_116 (by decide) (fun hc => ?_) (fun hc => ?_)
              · have hf := ite_t hc hf
                exact hJ138 w_102.2 x1 x2 x3 x4 x5 x6 x7 x8 x9 _ _ _ hT hl hf
              · have hf := ite_f hc hf
                refine lv_aload_n hx hb dX0_mornings_119 rfl (lv_at hl 0 rfl) ?_
                refine r_get C hV (hT.atp 0 rfl) (ci := 1) rfl in_X0 2 (by decide) q337 rfl dX0_mornings_120 ?_
                refine lv_aload_n hx hb dX0_mornings_123 rfl (lv_at hl 0 rfl) ?_
                refine lv_aload_n hx hb dX0_mornings_124 rfl (lv_at hl 0 rfl) ?_
                refine r_get C hV (hT.atp 0 rfl) (ci := 1) rfl in_X0 0 (by decide) q334 rfl dX0_mornings_125 ?_
                obtain ⟨w_128, h_128, hf⟩ := bind_e hf
                refine g_calli (vs := []) (rest := [.ref (a 32), .ref (sa a 1 0)]) C hX hT (A_new hA0) (Cut.none _) (hJ.step hT.2.2 (Anil (A_new hA0) hT.2.2.1)) (fun sz => mX1_roads l D d sd ja N j _ h_128 sz) (cwV 0 C.2.2.2.2 (lw_V q709 q584 q585 q121 q586) rfl rfl rfl hdX1_roads ⟨Nat.le_of_ble_eq_true rfl, Nat.le_of_ble_eq_true rfl⟩) (g_recv hV (hJ.1.at hT.2.2) (ci := 3) rfl) rfl hl.1 rfl (Nat.le_of_ble_eq_true rfl) dX0_mornings_128 ⟨Nat.zero_le _, Nat.zero_le _⟩ (fun H locs hT => ?_)
                obtain ⟨w_131, h_131, hf⟩ := bind_e hf
                refine g_calli (vs := [.int w_128]) (rest := [.ref (sa a 1 0)]) C hX hT (A_new hA0) (Cut.all (D_nd hT.2.1) ((wC_fst d a ja _).trans (wC_fst d a ja w_102.2).symm)) (Ro := (fun P => JAt d ja j P ∧ RAt d (a 3) r P)) ⟨hJ.step hT.2.2 (A_full hA0 hT.2.2.1), hR.2.step hT.2.2 (A_full hA0 hT.2.2.1)⟩ (fun sz => mX0_draws l D d sd a ja N j r  w_102.2 w_128 _ h_131 sz) (cwV 1 C.2.2.2.2 (lw_V q1177 q1179 qs43 q120 q1180) rfl rfl rfl hdX0_draws ⟨Nat.le_of_ble_eq_true rfl, Nat.le_of_ble_eq_true rfl⟩) (g_recv hV (hT.atp 0 rfl) (ci := 1) rfl) rfl hl.1 rfl (Nat.le_of_ble_eq_true rfl) dX0_mornings_131 ⟨Nat.zero_le _, Nat.zero_le _⟩ (fun H locs hT => ?_)
                refine lv_iconst (v := 3) hx hb dX0_mornings_134 (by decide) ?_
                obtain ⟨w_135, h_135, hf⟩ := bind_e hf
                refine g_callv (vs := [.int w_131.1, .int (3 : Int32)]) (rest := []) C hX hT (A_new hA0) (wC_cutS hT.2.1 (by decide) _) trivial (fun sz => mX2_comes l D d sd (sa a 1) N (w_131.2.2.2.2 1) w_131.1 (3 : Int32) _ h_135 sz) (cwV 2 C.2.2.2.2 (lw_V q936 q937 q938 q125 q939) rfl rfl rfl hdX2_comes ⟨Nat.le_of_ble_eq_true rfl, Nat.le_of_ble_eq_true rfl⟩) (g_recv hV (hT.ats (i := 1) (by decide) 0 rfl) (ci := 2) rfl) rfl hl.1 rfl (Nat.le_of_ble_eq_true rfl) dX0_mornings_135 ⟨Nat.zero_le _, Nat.zero_le _⟩ (fun H locs hT => ?_)
                obtain ⟨t_135, et⟩ : ∃ y, y = (csS w_131.2 1 w_135) := ⟨_, rfl⟩
                rw [← et] at hT
                have hf := lett_e et hf
                exact hJ138 t_135 x1 x2 x3 x4 x5 x6 x7 x8 x9 _ _ _ hT hl hf
      intro t x1 x2 x3 x4 x5 x6 x7 x8 H locs ls hT hl hf
      replace hf : fX0_mornings_B73 N j r K (fX0_mornings_L73 N j r K n) t x1 x2 x3 x4 x5 x6 x7 x8 = some w := hf
      unfold fX0_mornings_B73 at hf
      refine lv_iload hx hb dX0_mornings_73 (lv_at hl 8 rfl) ?_
      refine lv_iload_n hx hb dX0_mornings_75 rfl (lv_at hl 1 rfl) ?_
      refine lv_icmp_ge (tgt := 205) hx hb dX0_mornings_76 (by decide) (fun hc => ?_) (fun hc => ?_)
      · have hf := ite_t hc hf
        exact hE t x4 x5 x6 x7 _ _ _ hT (lv_sub hl [0, 4, 5, 6, 7] rfl) hf
      · have hf := ite_f hc hf
        refine lv_aload_n hx hb dX0_mornings_79 rfl (lv_at hl 0 rfl) ?_
        refine r_get C hV (hT.atp 0 rfl) (ci := 1) rfl in_X0 2 (by decide) q337 rfl dX0_mornings_80 ?_
        refine lv_aload_n hx hb dX0_mornings_83 rfl (lv_at hl 0 rfl) ?_
        refine r_get C hV (hT.atp 0 rfl) (ci := 1) rfl in_X0 1 (by decide) q336 rfl dX0_mornings_84 ?_
        obtain ⟨w_87, h_87, hf⟩ := bind_e hf
        refine g_callv (vs := [.ref (sa a 0 0)]) (rest := []) C hX hT (A_new hA0) (wC_cutS hT.2.1 (by decide) _) (wC_frz hT (by decide) (by decide) ((by decide)) (t.2.2.2 1)) (fun sz => mX2_copyFrom l D d sd (sa a 1) (sa a 0) N (t.2.2.2 0) (t.2.2.2 1)  _ h_87 sz) (cwV 1 C.2.2.2.2 (lw_V q915 q916 q917 q125 q918) rfl rfl rfl hdX2_copyFrom ⟨Nat.le_of_ble_eq_true rfl, Nat.le_of_ble_eq_true rfl⟩) (g_recv hV (hT.ats (i := 1) (by decide) 0 rfl) (ci := 2) rfl) rfl hl.1 rfl (Nat.le_of_ble_eq_true rfl) dX0_mornings_87 ⟨Nat.zero_le _, Nat.zero_le _⟩ (fun H locs hT => ?_)
        obtain ⟨t_87, et⟩ : ∃ y, y = (csS t 1 w_87) := ⟨_, rfl⟩
        rw [← et] at hT
        have hf := lett_e et hf
        refine lv_iconst (v := 0) hx hb dX0_mornings_90 (by decide) ?_
        refine lv_istore (lv' := [(9, .int (0 : Int32)), (0, .ref (a 32)), (1, .int x1), (2, .int x2), (3, .int x3), (4, .int x4), (5, .int x5), (6, .int x6), (7, .int x7), (8, .int x8)]) hx hb dX0_mornings_91 hl (by decide) rfl (fun ls hl => ?_)
        refine hL93 _ (fun t x1 x2 x3 x4 x5 x6 x7 x8 H locs ls hT hl hf => ?_) N t_87 x1 x2 x3 x4 x5 x6 x7 x8 (0 : Int32) _ _ _ hT (lv_sub hl [1, 2, 3, 4, 5, 6, 7, 8, 9, 0] rfl) hf
        refine lv_iload hx hb dX0_mornings_153 (lv_at hl 6 rfl) ?_
        refine lv_aload_n hx hb dX0_mornings_155 rfl (lv_at hl 0 rfl) ?_
        refine r_get C hV (hT.atp 0 rfl) (ci := 1) rfl in_X0 2 (by decide) q337 rfl dX0_mornings_156 ?_
        refine r_getN C hV hX.2.1 (hT.ats (i := 1) (by decide) 0 rfl) (ci := 2) rfl in_X2 3 (by decide) q234 rfl dX0_mornings_159 ?_
        obtain ⟨w_162, h_162, hf⟩ := bind_e hf
        refine g_scalli (vs := [.ref (sa a 1 4)]) (rest := [.int x6]) C hX hT (A_new hA0) (Cut.none _) (hT.frz (wC_mem (i := 1) (by decide) (List.mem_of_getElem? (i := 4) rfl))) (fun sz => mX2_sumOf l D d sd (sa a 1 4) N 6 ((t.2.2.2 1).1 3) _ h_162 sz) (va_cwS 1 C.2.2.2.2 (lw_S q974 q975 q125 q976) rfl rfl rfl hdX2_sumOf ⟨Nat.le_of_ble_eq_true rfl, Nat.le_of_ble_eq_true rfl⟩) rfl hl.1 rfl (Nat.le_of_ble_eq_true rfl) dX0_mornings_162 ⟨Nat.zero_le _, Nat.zero_le _⟩ (fun H locs hT => ?_)
        refine lv_aload_n hx hb dX0_mornings_165 rfl (lv_at hl 0 rfl) ?_
        refine r_get C hV (hT.atp 0 rfl) (ci := 1) rfl in_X0 1 (by decide) q336 rfl dX0_mornings_166 ?_
        refine r_getN C hV hX.2.1 (hT.ats (i := 0) (by decide) 0 rfl) (ci := 2) rfl in_X2 3 (by decide) q234 rfl dX0_mornings_169 ?_
        obtain ⟨w_172, h_172, hf⟩ := bind_e hf
        refine g_scalli (vs := [.ref (sa a 0 4)]) (rest := [.int w_162, .int x6]) C hX hT (A_new hA0) (Cut.none _) (hT.frz (wC_mem (i := 0) (by decide) (List.mem_of_getElem? (i := 4) rfl))) (fun sz => mX2_sumOf l D d sd (sa a 0 4) N 6 ((t.2.2.2 0).1 3) _ h_172 sz) (va_cwS 1 C.2.2.2.2 (lw_S q974 q975 q125 q976) rfl rfl rfl hdX2_sumOf ⟨Nat.le_of_ble_eq_true rfl, Nat.le_of_ble_eq_true rfl⟩) rfl hl.1 rfl (Nat.le_of_ble_eq_true rfl) dX0_mornings_172 ⟨Nat.zero_le _, Nat.zero_le _⟩ (fun H locs hT => ?_)
        refine lv_isub hx hb dX0_mornings_175 ?_
        refine lv_iadd hx hb dX0_mornings_176 ?_
        refine lv_topi (fun x6_177 ex => ?_)
        have hf := lett_e ex hf
        refine lv_istore (lv' := [(6, .int x6_177), (0, .ref (a 32)), (1, .int x1), (2, .int x2), (3, .int x3), (4, .int x4), (5, .int x5), (7, .int x7), (8, .int x8)]) hx hb dX0_mornings_177 hl (by decide) rfl (fun ls hl => ?_)
        refine lv_iload hx hb dX0_mornings_179 (lv_at hl 7 rfl) ?_
        refine lv_aload_n hx hb dX0_mornings_181 rfl (lv_at hl 1 rfl) ?_
        refine r_get C hV (hT.atp 0 rfl) (ci := 1) rfl in_X0 2 (by decide) q337 rfl dX0_mornings_182 ?_
        refine r_getN C hV hX.2.1 (hT.ats (i := 1) (by decide) 0 rfl) (ci := 2) rfl in_X2 7 (by decide) q242 rfl dX0_mornings_185 ?_
        refine lv_aload_n hx hb dX0_mornings_188 rfl (lv_at hl 1 rfl) ?_
        refine r_get C hV (hT.atp 0 rfl) (ci := 1) rfl in_X0 1 (by decide) q336 rfl dX0_mornings_189 ?_
        refine r_getN C hV hX.2.1 (hT.ats (i := 0) (by decide) 0 rfl) (ci := 2) rfl in_X2 7 (by decide) q242 rfl dX0_mornings_192 ?_
        refine lv_isub hx hb dX0_mornings_195 ?_
        refine lv_iadd hx hb dX0_mornings_196 ?_
        refine lv_topi (fun x7_197 ex => ?_)
        have hf := lett_e ex hf
        refine lv_istore (lv' := [(7, .int x7_197), (6, .int x6_177), (0, .ref (a 32)), (1, .int x1), (2, .int x2), (3, .int x3), (4, .int x4), (5, .int x5), (8, .int x8)]) hx hb dX0_mornings_197 hl (by decide) rfl (fun ls hl => ?_)
        obtain ⟨x8_199, ex⟩ : ∃ y : Int32, y = (x8 + (1 : Int32)) := ⟨_, rfl⟩
        have hf := lett_e ex hf
        refine lv_iinc (v := x8_199) (lv' := [(8, .int x8_199), (7, .int x7_197), (6, .int x6_177), (0, .ref (a 32)), (1, .int x1), (2, .int x2), (3, .int x3), (4, .int x4), (5, .int x5)]) hx hb dX0_mornings_199 hl (k := 8) rfl (by rw [ex]; rfl) (by decide) rfl (fun ls hl => ?_)
        refine lv_goto (tgt := 73) hx hb dX0_mornings_202 (by decide) ?_
        exact ih t x1 x2 x3 x4 x5 x6_177 x7_197 x8_199 _ _ _ hT (lv_sub hl [3, 4, 5, 6, 7, 8, 2, 1, 0] rfl) hf
  refine W.eq (by rw [hargs]) (t_in (vs := [.ref (a 32), .int x1, .int x2, .int x3, .int x4]) (n := 10) (Nat.le_of_ble_eq_true rfl) (fun ls hl => ?_))
  have hl : lv_has ls 10 [(0, .ref (a 32)), (1, .int x1), (2, .int x2), (3, .int x3), (4, .int x4)] := hl
  unfold fX0_mornings at hf
  refine lv_aload_n hx hb dX0_mornings_0 rfl (lv_at hl 0 rfl) ?_
  obtain ⟨w_1, h_1, hf⟩ := bind_e hf
  refine g_calli (vs := []) (rest := []) C hX hT (A_new hA0) (Cut.all (D_nd hT.2.1) ((wC_fst d a ja _).trans (wC_fst d a ja t0).symm)) (Ro := (fun P => JAt d ja j P ∧ RAt d (a 3) r P)) ⟨hJ.step hT.2.2 (A_full hA0 hT.2.2.1), hR.2.step hT.2.2 (A_full hA0 hT.2.2.1)⟩ (fun sz => mX0_isJunction l D d sd a ja N j r  t0  _ h_1 sz) (cwV 0 C.2.2.2.2 (lw_V q923 q925 qs28 q120 q926) rfl rfl rfl hdX0_isJunction ⟨Nat.le_of_ble_eq_true rfl, Nat.le_of_ble_eq_true rfl⟩) (g_recv hV (hT.atp 0 rfl) (ci := 1) rfl) rfl hl.1 rfl (Nat.le_of_ble_eq_true rfl) dX0_mornings_1 ⟨Nat.zero_le _, Nat.zero_le _⟩ (fun H locs hT => ?_)
  refine lv_if_eq (tgt := 54) hx hb dX0_mornings_4 (by decide) (fun hc => ?_) (fun hc => ?_)
  · have hf := ite_t hc hf
    exact hJ54 w_1.2 _ _ _ hT (lv_sub hl [] rfl) hf
  · have hf := ite_f hc hf
    refine lv_iload_n hx hb dX0_mornings_7 rfl (lv_at hl 1 rfl) ?_
    refine lv_i2l hx hb dX0_mornings_8 rfl ?_
    refine lv_lconst (v := 1) hx hb dX0_mornings_9 (by decide) ?_
    refine g_ldc2 (v := 10) C q1175 dX0_mornings_10 ?_
    obtain ⟨w_13, h_13, hf⟩ := bind_e hf
    refine s_calli (vs := [.long (x1).toInt64, .long (1 : Int64), .long (10 : Int64)]) (rest := []) C (A_new hA0) hT (fun sz => mX0_in l N (x1).toInt64 (1 : Int64) (10 : Int64) _ h_13 sz) (va_cwS 3 C.2.2.2.2 (lw_S q885 q518 q120 q519) rfl rfl rfl hdX0_in ⟨Nat.le_of_ble_eq_true rfl, Nat.le_of_ble_eq_true rfl⟩) rfl hl.1 rfl (Nat.le_of_ble_eq_true rfl) dX0_mornings_13 ⟨Nat.zero_le _, Nat.zero_le _⟩ (fun H locs hT => ?_)
    refine lv_if_eq (tgt := 54) hx hb dX0_mornings_16 (by decide) (fun hc => ?_) (fun hc => ?_)
    · have hf := ite_t hc hf
      exact hJ54 w_1.2 _ _ _ hT (lv_sub hl [] rfl) hf
    · have hf := ite_f hc hf
      refine lv_iload_n hx hb dX0_mornings_19 rfl (lv_at hl 2 rfl) ?_
      refine lv_i2l hx hb dX0_mornings_20 rfl ?_
      refine lv_lconst (v := 1) hx hb dX0_mornings_21 (by decide) ?_
      refine g_ldc2 (v := 60) C q1112 dX0_mornings_22 ?_
      obtain ⟨w_25, h_25, hf⟩ := bind_e hf
      refine s_calli (vs := [.long (x2).toInt64, .long (1 : Int64), .long (60 : Int64)]) (rest := []) C (A_new hA0) hT (fun sz => mX0_in l N (x2).toInt64 (1 : Int64) (60 : Int64) _ h_25 sz) (va_cwS 3 C.2.2.2.2 (lw_S q885 q518 q120 q519) rfl rfl rfl hdX0_in ⟨Nat.le_of_ble_eq_true rfl, Nat.le_of_ble_eq_true rfl⟩) rfl hl.1 rfl (Nat.le_of_ble_eq_true rfl) dX0_mornings_25 ⟨Nat.zero_le _, Nat.zero_le _⟩ (fun H locs hT => ?_)
      refine lv_if_eq (tgt := 54) hx hb dX0_mornings_28 (by decide) (fun hc => ?_) (fun hc => ?_)
      · have hf := ite_t hc hf
        exact hJ54 w_1.2 _ _ _ hT (lv_sub hl [] rfl) hf
      · have hf := ite_f hc hf
        refine lv_iload_n hx hb dX0_mornings_31 rfl (lv_at hl 3 rfl) ?_
        refine lv_i2l hx hb dX0_mornings_32 rfl ?_
        refine lv_lconst (v := 0) hx hb dX0_mornings_33 (by decide) ?_
        refine g_ldc2 (v := 100) C q1051 dX0_mornings_34 ?_
        obtain ⟨w_37, h_37, hf⟩ := bind_e hf
        refine s_calli (vs := [.long (x3).toInt64, .long (0 : Int64), .long (100 : Int64)]) (rest := []) C (A_new hA0) hT (fun sz => mX0_in l N (x3).toInt64 (0 : Int64) (100 : Int64) _ h_37 sz) (va_cwS 3 C.2.2.2.2 (lw_S q885 q518 q120 q519) rfl rfl rfl hdX0_in ⟨Nat.le_of_ble_eq_true rfl, Nat.le_of_ble_eq_true rfl⟩) rfl hl.1 rfl (Nat.le_of_ble_eq_true rfl) dX0_mornings_37 ⟨Nat.zero_le _, Nat.zero_le _⟩ (fun H locs hT => ?_)
        refine lv_if_eq (tgt := 54) hx hb dX0_mornings_40 (by decide) (fun hc => ?_) (fun hc => ?_)
        · have hf := ite_t hc hf
          exact hJ54 w_1.2 _ _ _ hT (lv_sub hl [] rfl) hf
        · have hf := ite_f hc hf
          refine lv_iload hx hb dX0_mornings_43 (lv_at hl 4 rfl) ?_
          refine lv_i2l hx hb dX0_mornings_45 rfl ?_
          refine lv_lconst (v := 0) hx hb dX0_mornings_46 (by decide) ?_
          refine lv_lconst (v := 1) hx hb dX0_mornings_47 (by decide) ?_
          obtain ⟨w_48, h_48, hf⟩ := bind_e hf
          refine s_calli (vs := [.long (x4).toInt64, .long (0 : Int64), .long (1 : Int64)]) (rest := []) C (A_new hA0) hT (fun sz => mX0_in l N (x4).toInt64 (0 : Int64) (1 : Int64) _ h_48 sz) (va_cwS 3 C.2.2.2.2 (lw_S q885 q518 q120 q519) rfl rfl rfl hdX0_in ⟨Nat.le_of_ble_eq_true rfl, Nat.le_of_ble_eq_true rfl⟩) rfl hl.1 rfl (Nat.le_of_ble_eq_true rfl) dX0_mornings_48 ⟨Nat.zero_le _, Nat.zero_le _⟩ (fun H locs hT => ?_)
          refine lv_if_ne (tgt := 58) hx hb dX0_mornings_51 (by decide) (fun hc => ?_) (fun hc => ?_)
          · have hf := ite_t hc hf
            refine lv_aload_n hx hb dX0_mornings_58 rfl (lv_at hl 0 rfl) ?_
            refine r_get C hV (hT.atp 0 rfl) (ci := 1) rfl in_X0 12 (by decide) q356 rfl dX0_mornings_59 ?_
            refine lv_topi (fun x5_62 ex => ?_)
            have hf := lett_e ex hf
            refine lv_istore (lv' := [(5, .int x5_62), (0, .ref (a 32)), (1, .int x1), (2, .int x2), (3, .int x3), (4, .int x4)]) hx hb dX0_mornings_62 hl (by decide) rfl (fun ls hl => ?_)
            refine lv_iconst (v := 0) hx hb dX0_mornings_64 (by decide) ?_
            refine lv_istore (lv' := [(6, .int (0 : Int32)), (5, .int x5_62), (0, .ref (a 32)), (1, .int x1), (2, .int x2), (3, .int x3), (4, .int x4)]) hx hb dX0_mornings_65 hl (by decide) rfl (fun ls hl => ?_)
            refine lv_iconst (v := 0) hx hb dX0_mornings_67 (by decide) ?_
            refine lv_istore (lv' := [(7, .int (0 : Int32)), (6, .int (0 : Int32)), (5, .int x5_62), (0, .ref (a 32)), (1, .int x1), (2, .int x2), (3, .int x3), (4, .int x4)]) hx hb dX0_mornings_68 hl (by decide) rfl (fun ls hl => ?_)
            refine lv_iconst (v := 0) hx hb dX0_mornings_70 (by decide) ?_
            refine lv_istore (lv' := [(8, .int (0 : Int32)), (7, .int (0 : Int32)), (6, .int (0 : Int32)), (5, .int x5_62), (0, .ref (a 32)), (1, .int x1), (2, .int x2), (3, .int x3), (4, .int x4)]) hx hb dX0_mornings_71 hl (by decide) rfl (fun ls hl => ?_)
            refine hL73 _ (fun t x4 x5 x6 x7 H locs ls hT hl hf => ?_) N w_1.2 x1 x2 x3 x4 x5_62 (0 : Int32) (0 : Int32) (0 : Int32) _ _ _ hT (lv_sub hl [4, 5, 6, 7, 8, 3, 2, 1, 0] rfl) hf
            refine lv_aload_n hx hb dX0_mornings_205 rfl (lv_at hl 0 rfl) ?_
            refine lv_iload hx hb dX0_mornings_206 (lv_at hl 2 rfl) ?_
            obtain ⟨t_208, et⟩ : ∃ y, y = (csI t 12 x5) := ⟨_, rfl⟩
            have hf := lett_e et hf
            refine w_put C hV hT (ws1 := (wC d a ja t_208)) 0 rfl rfl in_X0 tyX0_ok nmX0 12 (by decide) q356 (by rw [et]; exact upd_set hT.2.1 rfl (cset_12 d a ja t _)) rfl rfl rfl rfl (Nat.le_of_ble_eq_true rfl) dX0_mornings_208 (fun H locs hT => ?_)
            refine lv_iload hx hb dX0_mornings_211 (lv_at hl 1 rfl) ?_
            refine lv_if_ne (tgt := 221) hx hb dX0_mornings_213 (by decide) (fun hc => ?_) (fun hc => ?_)
            · have hf := ite_t hc hf
              refine lv_iload hx hb dX0_mornings_221 (lv_at hl 4 rfl) ?_
              exact f_iret (wC d a ja) hA0 C hT hf hr hlocks dX0_mornings_223
            · have hf := ite_f (fun q => q hc) hf
              refine lv_iload hx hb dX0_mornings_216 (lv_at hl 3 rfl) ?_
              refine lv_goto (tgt := 223) hx hb dX0_mornings_218 (by decide) ?_
              exact f_iret (wC d a ja) hA0 C hT hf hr hlocks dX0_mornings_223
          · have hf := ite_f (fun q => q hc) hf
            exact hJ54 w_1.2 _ _ _ hT (lv_sub hl [] rfl) hf
def fX0_count (N : Nat) (j : JS) (r : RS) (t0 : CS) (x1 : Int32) : Option (Int32 × CS) :=
  (if x1 = (0 : Int32) then (some ((j.1 3), t0)) else (if x1 = (1 : Int32) then (some ((j.1 4), t0)) else (if x1 = (2 : Int32) then ((fX1_roads N j).bind fun w_92 => (some (w_92, t0))) else (if x1 = (3 : Int32) then (some (r.1, t0)) else (if x1 = (4 : Int32) then (some ((t0.1 4), t0)) else (if x1 = (5 : Int32) then (some (((t0.2.2.2 0).2 8), t0)) else (if x1 = (6 : Int32) then ((fX0_isJunction N j r  t0 ).bind fun w_118 => (if w_118.1 = 0 then (some ((0 : Int32), w_118.2)) else (nz (j.1 3) (some ((irem ((w_118.2.2.2.2 0).2 8) (j.1 3)), w_118.2))))) else (if x1 = (7 : Int32) then ((fX2_sumOf N 6 ((t0.2.2.2 0).1 0)).bind fun w_151 => (some (w_151, t0))) else (if x1 = (8 : Int32) then ((fX2_sumOf N 6 ((t0.2.2.2 0).1 3)).bind fun w_162 => (some (w_162, t0))) else (if x1 = (9 : Int32) then ((fX2_sumOf N 6 ((t0.2.2.2 0).1 4)).bind fun w_173 => (some (w_173, t0))) else (if x1 = (10 : Int32) then (some ((t0.1 11), t0)) else (if x1 = (11 : Int32) then (some ((t0.1 19), t0)) else (if x1 = (12 : Int32) then (some ((t0.1 12), t0)) else (if x1 = (13 : Int32) then (some ((t0.1 7), t0)) else (some ((-1 : Int32), t0))))))))))))))))
theorem hdX0_count : yX0_count.cls = RX0 ∧ yX0_count.cls ≠ "java/lang/invoke/MethodHandle" ∧ yX0_count.cls ≠ "java/lang/invoke/VarHandle" ∧ (parseMethodDescriptor yX0_count.desc).map (fun d => d.parameters.length) = some 1 := by decide +kernel
set_option maxHeartbeats 4000000 in
theorem mX0_count (l : Launch) (D : va_G) (d : Nat → ClassId) (sd : Nat) (a : Nat → Nat) (ja : Nat → Nat) (N : Nat) (j : JS) (r : RS) (t0 : CS) (x1 : Int32) (w : Int32 × CS) (hf : fX0_count N j r t0 x1 = some w) (sz : Nat) : Met l yX0_count (ws_ yX0_count cX0_count 2 (some .int)) (rm_ 2 40) (GPc D d sd [.ref (a 32), .int x1] (wC d a ja t0) (fun P => JAt d ja j P ∧ RAt d (a 3) r P) sz) (GQi D w.1 (wC d a ja w.2) (wC d a ja t0) sz) 0 0 (va_A (wC d a ja t0) sz) := by
  refine Met.ofW (cc := cX0_count) (maxL := 2) (ret := (some .int)) plX0 rfl ?_
  intro p e s m args below meth c s₁ B hml hv
  obtain ⟨C, hX, hR, hT, hr, hlocks, hargs, rfl⟩ := g_enter (own := RX0) B hml rfl hv
  have hx := C.1
  have hb := C.2.1
  have hV := hX.1
  obtain ⟨A, hA0⟩ : ∃ A, A = va_A (wC d a ja t0) s.heap.size := ⟨_, rfl⟩
  rw [← hA0] at hX hR hT
  show W p l e (rm_ 2 40) s m args below meth c s.heap [] 0 0 (MQ below (GQi D w.1 (wC d a ja w.2) (wC d a ja t0) s.heap.size) args s 0 0 (va_A (wC d a ja t0) s.heap.size)) _
  rw [← hA0]
  have hJ := hR.1
  obtain ⟨rmc, rel, rcap, rf, hrl, hrel, hrc, hrg⟩ := hR.2.unpack
  refine W.eq (by rw [hargs]) (t_in (vs := [.ref (a 32), .int x1]) (n := 2) (Nat.le_of_ble_eq_true rfl) (fun ls hl => ?_))
  have hl : lv_has ls 2 [(0, .ref (a 32)), (1, .int x1)] := hl
  unfold fX0_count at hf
  refine lv_iload_n hx hb dX0_count_0 rfl (lv_at hl 1 rfl) ?_
  by_cases hc0 : x1 = (0 : Int32)
  · have hf := ite_t hc0 hf
    refine lv_tableIn (tgt := 72) hx hb dX0_count_1 (by rw [hc0]; decide) (by rw [hc0]; decide) (by rw [hc0]; rfl) (by decide) ?_
    refine lv_aload_n hx hb dX0_count_72 rfl (lv_at hl 0 rfl) ?_
    refine r_get C hV (hT.atp 0 rfl) (ci := 1) rfl in_X0 0 (by decide) q334 rfl dX0_count_73 ?_
    refine r_getN C hV hX.2.1 (hJ.1.at hT.2.2) (ci := 3) rfl in_X1 3 (by decide) q205 rfl dX0_count_76 ?_
    exact f_iret (wC d a ja) hA0 C hT hf hr hlocks dX0_count_79
  · have hf := ite_f hc0 hf
    by_cases hc1 : x1 = (1 : Int32)
    · have hf := ite_t hc1 hf
      refine lv_tableIn (tgt := 80) hx hb dX0_count_1 (by rw [hc1]; decide) (by rw [hc1]; decide) (by rw [hc1]; rfl) (by decide) ?_
      refine lv_aload_n hx hb dX0_count_80 rfl (lv_at hl 0 rfl) ?_
      refine r_get C hV (hT.atp 0 rfl) (ci := 1) rfl in_X0 0 (by decide) q334 rfl dX0_count_81 ?_
      refine r_getN C hV hX.2.1 (hJ.1.at hT.2.2) (ci := 3) rfl in_X1 4 (by decide) q208 rfl dX0_count_84 ?_
      exact f_iret (wC d a ja) hA0 C hT hf hr hlocks dX0_count_87
    · have hf := ite_f hc1 hf
      by_cases hc2 : x1 = (2 : Int32)
      · have hf := ite_t hc2 hf
        refine lv_tableIn (tgt := 88) hx hb dX0_count_1 (by rw [hc2]; decide) (by rw [hc2]; decide) (by rw [hc2]; rfl) (by decide) ?_
        refine lv_aload_n hx hb dX0_count_88 rfl (lv_at hl 0 rfl) ?_
        refine r_get C hV (hT.atp 0 rfl) (ci := 1) rfl in_X0 0 (by decide) q334 rfl dX0_count_89 ?_
        obtain ⟨w_92, h_92, hf⟩ := bind_e hf
        refine g_calli (vs := []) (rest := []) C hX hT (A_new hA0) (Cut.none _) (hJ.step hT.2.2 (Anil (A_new hA0) hT.2.2.1)) (fun sz => mX1_roads l D d sd ja N j _ h_92 sz) (cwV 0 C.2.2.2.2 (lw_V q709 q584 q585 q121 q586) rfl rfl rfl hdX1_roads ⟨Nat.le_of_ble_eq_true rfl, Nat.le_of_ble_eq_true rfl⟩) (g_recv hV (hJ.1.at hT.2.2) (ci := 3) rfl) rfl hl.1 rfl (Nat.le_of_ble_eq_true rfl) dX0_count_92 ⟨Nat.zero_le _, Nat.zero_le _⟩ (fun H locs hT => ?_)
        exact f_iret (wC d a ja) hA0 C hT hf hr hlocks dX0_count_95
      · have hf := ite_f hc2 hf
        by_cases hc3 : x1 = (3 : Int32)
        · have hf := ite_t hc3 hf
          refine lv_tableIn (tgt := 96) hx hb dX0_count_1 (by rw [hc3]; decide) (by rw [hc3]; decide) (by rw [hc3]; rfl) (by decide) ?_
          refine lv_aload_n hx hb dX0_count_96 rfl (lv_at hl 0 rfl) ?_
          refine r_get C hV (hT.atp 0 rfl) (ci := 1) rfl in_X0 3 (by decide) q338 rfl dX0_count_97 ?_
          refine g_calli (vs := []) (rest := []) C hX hT (A_new hA0) (Cut.none _) (hrl.step hT.2.2 (Anil (A_new hA0) hT.2.2.1)) (fun sz => mJ2_size l D d sd (a 3) rel N rmc r.1 _ rfl sz) (cwV 0 C.2.2.2.2 (lw_V q714 q588 q589 q124 q590) rfl rfl rfl hdJ2_size ⟨Nat.le_of_ble_eq_true rfl, Nat.le_of_ble_eq_true rfl⟩) (g_recv hV (hrl.at hT.2.2) (ci := 4) rfl) rfl hl.1 rfl (Nat.le_of_ble_eq_true rfl) dX0_count_100 ⟨Nat.zero_le _, Nat.zero_le _⟩ (fun H locs hT => ?_)
          exact f_iret (wC d a ja) hA0 C hT hf hr hlocks dX0_count_103
        · have hf := ite_f hc3 hf
          by_cases hc4 : x1 = (4 : Int32)
          · have hf := ite_t hc4 hf
            refine lv_tableIn (tgt := 104) hx hb dX0_count_1 (by rw [hc4]; decide) (by rw [hc4]; decide) (by rw [hc4]; rfl) (by decide) ?_
            refine lv_aload_n hx hb dX0_count_104 rfl (lv_at hl 0 rfl) ?_
            refine r_get C hV (hT.atp 0 rfl) (ci := 1) rfl in_X0 4 (by decide) q341 rfl dX0_count_105 ?_
            exact f_iret (wC d a ja) hA0 C hT hf hr hlocks dX0_count_108
          · have hf := ite_f hc4 hf
            by_cases hc5 : x1 = (5 : Int32)
            · have hf := ite_t hc5 hf
              refine lv_tableIn (tgt := 109) hx hb dX0_count_1 (by rw [hc5]; decide) (by rw [hc5]; decide) (by rw [hc5]; rfl) (by decide) ?_
              refine lv_aload_n hx hb dX0_count_109 rfl (lv_at hl 0 rfl) ?_
              refine r_get C hV (hT.atp 0 rfl) (ci := 1) rfl in_X0 1 (by decide) q336 rfl dX0_count_110 ?_
              refine r_getN C hV hX.2.1 (hT.ats (i := 0) (by decide) 0 rfl) (ci := 2) rfl in_X2 8 (by decide) q244 rfl dX0_count_113 ?_
              exact f_iret (wC d a ja) hA0 C hT hf hr hlocks dX0_count_116
            · have hf := ite_f hc5 hf
              by_cases hc6 : x1 = (6 : Int32)
              · have hf := ite_t hc6 hf
                refine lv_tableIn (tgt := 117) hx hb dX0_count_1 (by rw [hc6]; decide) (by rw [hc6]; decide) (by rw [hc6]; rfl) (by decide) ?_
                refine lv_aload_n hx hb dX0_count_117 rfl (lv_at hl 0 rfl) ?_
                obtain ⟨w_118, h_118, hf⟩ := bind_e hf
                refine g_calli (vs := []) (rest := []) C hX hT (A_new hA0) (Cut.all (D_nd hT.2.1) ((wC_fst d a ja _).trans (wC_fst d a ja t0).symm)) (Ro := (fun P => JAt d ja j P ∧ RAt d (a 3) r P)) ⟨hJ.step hT.2.2 (A_full hA0 hT.2.2.1), hR.2.step hT.2.2 (A_full hA0 hT.2.2.1)⟩ (fun sz => mX0_isJunction l D d sd a ja N j r  t0  _ h_118 sz) (cwV 0 C.2.2.2.2 (lw_V q923 q925 qs28 q120 q926) rfl rfl rfl hdX0_isJunction ⟨Nat.le_of_ble_eq_true rfl, Nat.le_of_ble_eq_true rfl⟩) (g_recv hV (hT.atp 0 rfl) (ci := 1) rfl) rfl hl.1 rfl (Nat.le_of_ble_eq_true rfl) dX0_count_118 ⟨Nat.zero_le _, Nat.zero_le _⟩ (fun H locs hT => ?_)
                refine lv_if_eq (tgt := 142) hx hb dX0_count_121 (by decide) (fun hc => ?_) (fun hc => ?_)
                · have hf := ite_t hc hf
                  refine lv_iconst (v := 0) hx hb dX0_count_142 (by decide) ?_
                  exact f_iret (wC d a ja) hA0 C hT hf hr hlocks dX0_count_143
                · have hf := ite_f hc hf
                  refine lv_aload_n hx hb dX0_count_124 rfl (lv_at hl 0 rfl) ?_
                  refine r_get C hV (hT.atp 0 rfl) (ci := 1) rfl in_X0 1 (by decide) q336 rfl dX0_count_125 ?_
                  refine r_getN C hV hX.2.1 (hT.ats (i := 0) (by decide) 0 rfl) (ci := 2) rfl in_X2 8 (by decide) q244 rfl dX0_count_128 ?_
                  refine lv_aload_n hx hb dX0_count_131 rfl (lv_at hl 0 rfl) ?_
                  refine r_get C hV (hT.atp 0 rfl) (ci := 1) rfl in_X0 0 (by decide) q334 rfl dX0_count_132 ?_
                  refine r_getN C hV hX.2.1 (hJ.1.at hT.2.2) (ci := 3) rfl in_X1 3 (by decide) q205 rfl dX0_count_135 ?_
                  obtain ⟨hn, hf⟩ := nz_e hf
                  refine g_irem hx hb dX0_count_138 hn ?_
                  refine lv_goto (tgt := 143) hx hb dX0_count_139 (by decide) ?_
                  exact f_iret (wC d a ja) hA0 C hT hf hr hlocks dX0_count_143
              · have hf := ite_f hc6 hf
                by_cases hc7 : x1 = (7 : Int32)
                · have hf := ite_t hc7 hf
                  refine lv_tableIn (tgt := 144) hx hb dX0_count_1 (by rw [hc7]; decide) (by rw [hc7]; decide) (by rw [hc7]; rfl) (by decide) ?_
                  refine lv_aload_n hx hb dX0_count_144 rfl (lv_at hl 0 rfl) ?_
                  refine r_get C hV (hT.atp 0 rfl) (ci := 1) rfl in_X0 1 (by decide) q336 rfl dX0_count_145 ?_
                  refine r_getN C hV hX.2.1 (hT.ats (i := 0) (by decide) 0 rfl) (ci := 2) rfl in_X2 0 (by decide) q228 rfl dX0_count_148 ?_
                  obtain ⟨w_151, h_151, hf⟩ := bind_e hf
                  refine g_scalli (vs := [.ref (sa a 0 1)]) (rest := []) C hX hT (A_new hA0) (Cut.none _) (hT.frz (wC_mem (i := 0) (by decide) (List.mem_of_getElem? (i := 1) rfl))) (fun sz => mX2_sumOf l D d sd (sa a 0 1) N 6 ((t0.2.2.2 0).1 0) _ h_151 sz) (va_cwS 1 C.2.2.2.2 (lw_S q974 q975 q125 q976) rfl rfl rfl hdX2_sumOf ⟨Nat.le_of_ble_eq_true rfl, Nat.le_of_ble_eq_true rfl⟩) rfl hl.1 rfl (Nat.le_of_ble_eq_true rfl) dX0_count_151 ⟨Nat.zero_le _, Nat.zero_le _⟩ (fun H locs hT => ?_)
                  exact f_iret (wC d a ja) hA0 C hT hf hr hlocks dX0_count_154
                · have hf := ite_f hc7 hf
                  by_cases hc8 : x1 = (8 : Int32)
                  · have hf := ite_t hc8 hf
                    refine lv_tableIn (tgt := 155) hx hb dX0_count_1 (by rw [hc8]; decide) (by rw [hc8]; decide) (by rw [hc8]; rfl) (by decide) ?_
                    refine lv_aload_n hx hb dX0_count_155 rfl (lv_at hl 0 rfl) ?_
                    refine r_get C hV (hT.atp 0 rfl) (ci := 1) rfl in_X0 1 (by decide) q336 rfl dX0_count_156 ?_
                    refine r_getN C hV hX.2.1 (hT.ats (i := 0) (by decide) 0 rfl) (ci := 2) rfl in_X2 3 (by decide) q234 rfl dX0_count_159 ?_
                    obtain ⟨w_162, h_162, hf⟩ := bind_e hf
                    refine g_scalli (vs := [.ref (sa a 0 4)]) (rest := []) C hX hT (A_new hA0) (Cut.none _) (hT.frz (wC_mem (i := 0) (by decide) (List.mem_of_getElem? (i := 4) rfl))) (fun sz => mX2_sumOf l D d sd (sa a 0 4) N 6 ((t0.2.2.2 0).1 3) _ h_162 sz) (va_cwS 1 C.2.2.2.2 (lw_S q974 q975 q125 q976) rfl rfl rfl hdX2_sumOf ⟨Nat.le_of_ble_eq_true rfl, Nat.le_of_ble_eq_true rfl⟩) rfl hl.1 rfl (Nat.le_of_ble_eq_true rfl) dX0_count_162 ⟨Nat.zero_le _, Nat.zero_le _⟩ (fun H locs hT => ?_)
                    exact f_iret (wC d a ja) hA0 C hT hf hr hlocks dX0_count_165
                  · have hf := ite_f hc8 hf
                    by_cases hc9 : x1 = (9 : Int32)
                    · have hf := ite_t hc9 hf
                      refine lv_tableIn (tgt := 166) hx hb dX0_count_1 (by rw [hc9]; decide) (by rw [hc9]; decide) (by rw [hc9]; rfl) (by decide) ?_
                      refine lv_aload_n hx hb dX0_count_166 rfl (lv_at hl 0 rfl) ?_
                      refine r_get C hV (hT.atp 0 rfl) (ci := 1) rfl in_X0 1 (by decide) q336 rfl dX0_count_167 ?_
                      refine r_getN C hV hX.2.1 (hT.ats (i := 0) (by decide) 0 rfl) (ci := 2) rfl in_X2 4 (by decide) q236 rfl dX0_count_170 ?_
                      obtain ⟨w_173, h_173, hf⟩ := bind_e hf
                      refine g_scalli (vs := [.ref (sa a 0 5)]) (rest := []) C hX hT (A_new hA0) (Cut.none _) (hT.frz (wC_mem (i := 0) (by decide) (List.mem_of_getElem? (i := 5) rfl))) (fun sz => mX2_sumOf l D d sd (sa a 0 5) N 6 ((t0.2.2.2 0).1 4) _ h_173 sz) (va_cwS 1 C.2.2.2.2 (lw_S q974 q975 q125 q976) rfl rfl rfl hdX2_sumOf ⟨Nat.le_of_ble_eq_true rfl, Nat.le_of_ble_eq_true rfl⟩) rfl hl.1 rfl (Nat.le_of_ble_eq_true rfl) dX0_count_173 ⟨Nat.zero_le _, Nat.zero_le _⟩ (fun H locs hT => ?_)
                      exact f_iret (wC d a ja) hA0 C hT hf hr hlocks dX0_count_176
                    · have hf := ite_f hc9 hf
                      by_cases hc10 : x1 = (10 : Int32)
                      · have hf := ite_t hc10 hf
                        refine lv_tableIn (tgt := 177) hx hb dX0_count_1 (by rw [hc10]; decide) (by rw [hc10]; decide) (by rw [hc10]; rfl) (by decide) ?_
                        refine lv_aload_n hx hb dX0_count_177 rfl (lv_at hl 0 rfl) ?_
                        refine r_get C hV (hT.atp 0 rfl) (ci := 1) rfl in_X0 11 (by decide) q354 rfl dX0_count_178 ?_
                        exact f_iret (wC d a ja) hA0 C hT hf hr hlocks dX0_count_181
                      · have hf := ite_f hc10 hf
                        by_cases hc11 : x1 = (11 : Int32)
                        · have hf := ite_t hc11 hf
                          refine lv_tableIn (tgt := 182) hx hb dX0_count_1 (by rw [hc11]; decide) (by rw [hc11]; decide) (by rw [hc11]; rfl) (by decide) ?_
                          refine lv_aload_n hx hb dX0_count_182 rfl (lv_at hl 0 rfl) ?_
                          refine r_get C hV (hT.atp 0 rfl) (ci := 1) rfl in_X0 19 (by decide) q364 rfl dX0_count_183 ?_
                          exact f_iret (wC d a ja) hA0 C hT hf hr hlocks dX0_count_186
                        · have hf := ite_f hc11 hf
                          by_cases hc12 : x1 = (12 : Int32)
                          · have hf := ite_t hc12 hf
                            refine lv_tableIn (tgt := 187) hx hb dX0_count_1 (by rw [hc12]; decide) (by rw [hc12]; decide) (by rw [hc12]; rfl) (by decide) ?_
                            refine lv_aload_n hx hb dX0_count_187 rfl (lv_at hl 0 rfl) ?_
                            refine r_get C hV (hT.atp 0 rfl) (ci := 1) rfl in_X0 12 (by decide) q356 rfl dX0_count_188 ?_
                            exact f_iret (wC d a ja) hA0 C hT hf hr hlocks dX0_count_191
                          · have hf := ite_f hc12 hf
                            by_cases hc13 : x1 = (13 : Int32)
                            · have hf := ite_t hc13 hf
                              refine lv_tableIn (tgt := 192) hx hb dX0_count_1 (by rw [hc13]; decide) (by rw [hc13]; decide) (by rw [hc13]; rfl) (by decide) ?_
                              refine lv_aload_n hx hb dX0_count_192 rfl (lv_at hl 0 rfl) ?_
                              refine r_get C hV (hT.atp 0 rfl) (ci := 1) rfl in_X0 7 (by decide) q346 rfl dX0_count_193 ?_
                              exact f_iret (wC d a ja) hA0 C hT hf hr hlocks dX0_count_196
                            · have hf := ite_f hc13 hf
                              have hd0 := i32ne (n := 0) (by decide) hc0
                              have hd1 := i32ne (n := 1) (by decide) hc1
                              have hd2 := i32ne (n := 2) (by decide) hc2
                              have hd3 := i32ne (n := 3) (by decide) hc3
                              have hd4 := i32ne (n := 4) (by decide) hc4
                              have hd5 := i32ne (n := 5) (by decide) hc5
                              have hd6 := i32ne (n := 6) (by decide) hc6
                              have hd7 := i32ne (n := 7) (by decide) hc7
                              have hd8 := i32ne (n := 8) (by decide) hc8
                              have hd9 := i32ne (n := 9) (by decide) hc9
                              have hd10 := i32ne (n := 10) (by decide) hc10
                              have hd11 := i32ne (n := 11) (by decide) hc11
                              have hd12 := i32ne (n := 12) (by decide) hc12
                              have hd13 := i32ne (n := 13) (by decide) hc13
                              refine lv_tableOut (tgt := 197) hx hb dX0_count_1 (by omega) (by decide) ?_
                              refine lv_iconst (v := -1) hx hb dX0_count_197 (by decide) ?_
                              exact f_iret (wC d a ja) hA0 C hT hf hr hlocks dX0_count_198
