set_option maxRecDepth 100000
def fX4_row_J117 (N : Nat) (K : TS → Int32 → Int32 → Int32 → Int32 → Int32 → Option (Int32 × TS)) (kb : TS → Int32 → Int32 → Int32 → Int32 → Int32 → Int32 → Option (Int32 × TS)) (t : TS) (x1 : Int32) (x2 : Int32) (x6 : Int32) : Option (Int32 × TS) :=
  (lett (t.1 31) fun x4_124 => (lett (t.1 32) fun x5_130 => (lett (x6 + (1 : Int32)) fun x6_132 => (kb t x1 x2 x6 x4_124 x5_130 x6_132))))
def fX4_row_B50 (N : Nat) (K : TS → Int32 → Int32 → Int32 → Int32 → Int32 → Option (Int32 × TS)) (kb : TS → Int32 → Int32 → Int32 → Int32 → Int32 → Int32 → Option (Int32 × TS)) (t : TS) (x1 : Int32) (x2 : Int32) (x3 : Int32) (x4 : Int32) (x5 : Int32) (x6 : Int32) : Option (Int32 × TS) :=
  (if ((1 : Int32) <<< ((x1 * (t.2.1 20 3)) &&& 31)) ≤ x6 then (K t x1 x2 x3 x4 x5) else ((fX4_fillsRow N t x6 x1).bind fun w_69 => (if ¬ w_69.1 = 0 then ((fX4_weighsRow N w_69.2 x1).bind fun w_80 => (if x3 < 0 then (fX4_row_J117 N K kb w_80 x1 x2 x6) else (if x4 < (w_80.1 31) then (lett (x6 + (1 : Int32)) fun x6_132 => (kb w_80 x1 x2 x3 x4 x5 x6_132)) else (if ¬ (w_80.1 31) = x4 then (fX4_row_J117 N K kb w_80 x1 x2 x6) else (if x5 < (w_80.1 32) then (fX4_row_J117 N K kb w_80 x1 x2 x6) else (lett (x6 + (1 : Int32)) fun x6_132 => (kb w_80 x1 x2 x3 x4 x5 x6_132))))))) else (lett (x6 + (1 : Int32)) fun x6_132 => (kb w_69.2 x1 x2 x3 x4 x5 x6_132)))))
def fX4_row_L50 (N : Nat) (K : TS → Int32 → Int32 → Int32 → Int32 → Int32 → Option (Int32 × TS)) : Nat → TS → Int32 → Int32 → Int32 → Int32 → Int32 → Int32 → Option (Int32 × TS)
  | 0 => fun _ _ _ _ _ _ _ => none
  | n + 1 => fun t x1 x2 x3 x4 x5 x6 => fX4_row_B50 N K (fX4_row_L50 N K n) t x1 x2 x3 x4 x5 x6
def fX4_row (N : Nat) (t : TS) (x1 : Int32) (x2 : Int32) : Option (Int32 × TS) :=
  ((fX4_isJunction N t ).bind fun w_1 => (if w_1.1 = 0 then (some ((-10000 : Int32), w_1.2)) else ((fX4_in N (x1).toInt64 (1 : Int64) (3 : Int64)).bind fun w_13 => (if w_13 = 0 then (some ((-10000 : Int32), w_1.2)) else ((fX4_in N (x2).toInt64 (0 : Int64) (4 : Int64)).bind fun w_25 => (if ¬ w_25 = 0 then ((fX4_keeps N w_1.2 ).bind fun w_44 => (fX4_row_L50 N (fun t x1 x2 x3 x4 x5 => ((fX4_fillsRow N t x3 x1).bind fun w_141 => (if ¬ x2 = 0 then (if ¬ x2 = (1 : Int32) then (if x1 ≤ (x2 - (2 : Int32)) then (some ((-2 : Int32), w_141.2)) else (ix (x2 - (2 : Int32)) 3 (some ((w_141.2.2.1 30 ((x2 - (2 : Int32))).toNatClampNeg), w_141.2)))) else (some (x5, w_141.2))) else (some (x4, w_141.2))))) N w_44 x1 x2 (-1 : Int32) (0 : Int32) (0 : Int32) (0 : Int32))) else (some ((-10000 : Int32), w_1.2))))))))
theorem hdX4_row : yX4_row.cls = RX4 ∧ yX4_row.cls ≠ "java/lang/invoke/MethodHandle" ∧ yX4_row.cls ≠ "java/lang/invoke/VarHandle" ∧ (parseMethodDescriptor yX4_row.desc).map (fun d => d.parameters.length) = some 2 := by decide +kernel
set_option maxHeartbeats 4000000 in
theorem mX4_row (l : Launch) (D : va_G) (d : Nat → ClassId) (a : Nat → Nat) (N : Nat) (t : TS) (x1 : Int32) (x2 : Int32) (w : Int32 × TS) (hf : fX4_row N t x1 x2 = some w) (sz : Nat) : Met l yX4_row (ws_ yX4_row cX4_row 7 (some .int)) (rm_ 7 167) (PcT D d a [.int x1, .int x2] t sz) (QiT D d a w.1 w.2 sz) 0 0 (AT a sz) := by
  refine Met.ofW (cc := cX4_row) (maxL := 7) (ret := (some .int)) plX4 rfl ?_
  intro p e s m args below meth c s₁ B hml hv
  obtain ⟨C, hV, hT, hr, hlocks, hargs, rfl⟩ := t_enter B hml rfl hv
  have hx := C.1
  have hb := C.2.1
  show W p l e (rm_ 7 167) s m args below meth c s.heap [] 0 0 (MQ below (QiT D d a w.1 w.2 s.heap.size) args s 0 0 (AT a s.heap.size)) _
  have hL50 : ∀ (K : TS → Int32 → Int32 → Int32 → Int32 → Int32 → Option (Int32 × TS)), (∀ (t : TS) (x1 : Int32) (x2 : Int32) (x3 : Int32) (x4 : Int32) (x5 : Int32) (H : Heap) (locs : List Loc) (ls : Array Slot), TH D (AT a s.heap.size) s.heap (wT d a t) H locs → lv_has ls 7 [(0, .ref (a 42)), (1, .int x1), (2, .int x2), (3, .int x3), (4, .int x4), (5, .int x5)] → K t x1 x2 x3 x4 x5 = some w → W p l e (rm_ 7 167) s m args below meth c H locs 0 0 (MQ below (QiT D d a w.1 w.2 s.heap.size) args s 0 0 (AT a s.heap.size)) (F0 m 138 ls [])) → ∀ (n : Nat) (t : TS) (x1 : Int32) (x2 : Int32) (x3 : Int32) (x4 : Int32) (x5 : Int32) (x6 : Int32) (H : Heap) (locs : List Loc) (ls : Array Slot), TH D (AT a s.heap.size) s.heap (wT d a t) H locs → lv_has ls 7 [(0, .ref (a 42)), (1, .int x1), (2, .int x2), (3, .int x3), (4, .int x4), (5, .int x5), (6, .int x6)] → fX4_row_L50 N K n t x1 x2 x3 x4 x5 x6 = some w → W p l e (rm_ 7 167) s m args below meth c H locs 0 0 (MQ below (QiT D d a w.1 w.2 s.heap.size) args s 0 0 (AT a s.heap.size)) (F0 m 50 ls []) := by
    intro K hE n
    induction n with
    | zero =>
      intro t x1 x2 x3 x4 x5 x6 H locs ls hT hl hf
      cases hf
    | succ n ih =>
      have hJ117 : ∀ (t : TS) (x1 : Int32) (x2 : Int32) (x6 : Int32) (H : Heap) (locs : List Loc) (ls : Array Slot), TH D (AT a s.heap.size) s.heap (wT d a t) H locs → lv_has ls 7 [(0, .ref (a 42)), (1, .int x1), (2, .int x2), (6, .int x6)] → fX4_row_J117 N K (fX4_row_L50 N K n) t x1 x2 x6 = some w → W p l e (rm_ 7 167) s m args below meth c H locs 0 0 (MQ below (QiT D d a w.1 w.2 s.heap.size) args s 0 0 (AT a s.heap.size)) (F0 m 117 ls []) := by
        intro t x1 x2 x6 H locs ls hT hl hf
        unfold fX4_row_J117 at hf
        refine lv_iload hx hb dX4_row_117 (lv_at hl 3 rfl) ?_
        refine lv_istore_n (lv' := [(3, .int x6), (0, .ref (a 42)), (1, .int x1), (2, .int x2), (6, .int x6)]) hx hb dX4_row_119 rfl hl (by decide) rfl (fun ls hl => ?_)
        refine lv_aload_n hx hb dX4_row_120 rfl (lv_at hl 1 rfl) ?_
        refine t_get C hV hT 31 (by decide) q1278 rfl dX4_row_121 ?_
        refine lv_topi (fun x4_124 ex => ?_)
        have hf := lett_e ex hf
        refine lv_istore (lv' := [(4, .int x4_124), (3, .int x6), (0, .ref (a 42)), (1, .int x1), (2, .int x2), (6, .int x6)]) hx hb dX4_row_124 hl (by decide) rfl (fun ls hl => ?_)
        refine lv_aload_n hx hb dX4_row_126 rfl (lv_at hl 2 rfl) ?_
        refine t_get C hV hT 32 (by decide) q1279 rfl dX4_row_127 ?_
        refine lv_topi (fun x5_130 ex => ?_)
        have hf := lett_e ex hf
        refine lv_istore (lv' := [(5, .int x5_130), (4, .int x4_124), (3, .int x6), (0, .ref (a 42)), (1, .int x1), (2, .int x2), (6, .int x6)]) hx hb dX4_row_130 hl (by decide) rfl (fun ls hl => ?_)
        obtain ⟨x6_132, ex⟩ : ∃ y : Int32, y = (x6 + (1 : Int32)) := ⟨_, rfl⟩
        have hf := lett_e ex hf
        refine lv_iinc (v := x6_132) (lv' := [(6, .int x6_132), (5, .int x5_130), (4, .int x4_124), (3, .int x6), (0, .ref (a 42)), (1, .int x1), (2, .int x2)]) hx hb dX4_row_132 hl (k := 6) rfl (by rw [ex]; rfl) (by decide) rfl (fun ls hl => ?_)
        refine lv_goto (tgt := 50) hx hb dX4_row_135 (by decide) ?_
        exact ih t x1 x2 x6 x4_124 x5_130 x6_132 _ _ _ hT (lv_sub hl [4, 5, 6, 3, 2, 1, 0] rfl) hf
      intro t x1 x2 x3 x4 x5 x6 H locs ls hT hl hf
      replace hf : fX4_row_B50 N K (fX4_row_L50 N K n) t x1 x2 x3 x4 x5 x6 = some w := hf
      unfold fX4_row_B50 at hf
      refine lv_iload hx hb dX4_row_50 (lv_at hl 6 rfl) ?_
      refine lv_iconst (v := 1) hx hb dX4_row_52 (by decide) ?_
      refine lv_iload_n hx hb dX4_row_53 rfl (lv_at hl 1 rfl) ?_
      refine lv_aload_n hx hb dX4_row_54 rfl (lv_at hl 0 rfl) ?_
      refine t_get C hV hT 20 (by decide) q1267 rfl dX4_row_55 ?_
      refine lv_iconst (v := 3) hx hb dX4_row_58 (by decide) ?_
      refine g_ild C hV hT 10 3 rfl (vin_of (by decide)) (by decide) dX4_row_59 ?_
      refine lv_imul hx hb dX4_row_60 ?_
      refine lv_ishl hx hb dX4_row_61 ?_
      refine lv_icmp_ge (tgt := 138) hx hb dX4_row_62 (by decide) (fun hc => ?_) (fun hc => ?_)
      · have hf := ite_t hc hf
        exact hE t x1 x2 x3 x4 x5 _ _ _ hT (lv_sub hl [0, 1, 2, 3, 4, 5] rfl) hf
      · have hf := ite_f hc hf
        refine lv_aload_n hx hb dX4_row_65 rfl (lv_at hl 0 rfl) ?_
        refine lv_iload hx hb dX4_row_66 (lv_at hl 6 rfl) ?_
        refine lv_iload_n hx hb dX4_row_68 rfl (lv_at hl 1 rfl) ?_
        obtain ⟨w_69, h_69, hf⟩ := bind_e hf
        refine t_calli (vs := [.int x6, .int x1]) (rest := []) C hV hT (fun sz => mX4_fillsRow l D d a N t x6 x1 _ h_69 sz) (cwV 2 C.2.2.2.2 (lw_V q1754 q1756 qs107 q129 q1757) rfl rfl rfl hdX4_fillsRow ⟨Nat.le_of_ble_eq_true rfl, Nat.le_of_ble_eq_true rfl⟩) rfl hl.1 rfl (Nat.le_of_ble_eq_true rfl) dX4_row_69 (fun H locs hT => ?_)
        refine lv_if_ne (tgt := 78) hx hb dX4_row_72 (by decide) (fun hc => ?_) (fun hc => ?_)
        · have hf := ite_t hc hf
          refine lv_aload_n hx hb dX4_row_78 rfl (lv_at hl 0 rfl) ?_
          refine lv_iload_n hx hb dX4_row_79 rfl (lv_at hl 1 rfl) ?_
          obtain ⟨w_80, h_80, hf⟩ := bind_e hf
          refine t_callv (vs := [.int x1]) (rest := []) C hV hT (fun sz => mX4_weighsRow l D d a N w_69.2 x1 _ h_80 sz) (cwV 1 C.2.2.2.2 (lw_V q1758 q1760 qs108 q129 q1761) rfl rfl rfl hdX4_weighsRow ⟨Nat.le_of_ble_eq_true rfl, Nat.le_of_ble_eq_true rfl⟩) rfl hl.1 rfl (Nat.le_of_ble_eq_true rfl) dX4_row_80 (fun H locs hT => ?_)
          refine lv_iload_n hx hb dX4_row_83 rfl (lv_at hl 3 rfl) ?_
          refine lv_if_lt (tgt := 117) hx hb dX4_row_84 (by decide) (fun hc => ?_) (fun hc => ?_)
          · have hf := ite_t hc hf
            exact hJ117 w_80 x1 x2 x6 _ _ _ hT (lv_sub hl [0, 1, 2, 6] rfl) hf
          · have hf := ite_f hc hf
            refine lv_aload_n hx hb dX4_row_87 rfl (lv_at hl 0 rfl) ?_
            refine t_get C hV hT 31 (by decide) q1278 rfl dX4_row_88 ?_
            refine lv_iload hx hb dX4_row_91 (lv_at hl 4 rfl) ?_
            refine lv_icmp_gt (tgt := 132) hx hb dX4_row_93 (by decide) (fun hc => ?_) (fun hc => ?_)
            · have hf := ite_t hc hf
              obtain ⟨x6_132, ex⟩ : ∃ y : Int32, y = (x6 + (1 : Int32)) := ⟨_, rfl⟩
              have hf := lett_e ex hf
              refine lv_iinc (v := x6_132) (lv' := [(6, .int x6_132), (0, .ref (a 42)), (1, .int x1), (2, .int x2), (3, .int x3), (4, .int x4), (5, .int x5)]) hx hb dX4_row_132 hl (k := 6) rfl (by rw [ex]; rfl) (by decide) rfl (fun ls hl => ?_)
              refine lv_goto (tgt := 50) hx hb dX4_row_135 (by decide) ?_
              exact ih w_80 x1 x2 x3 x4 x5 x6_132 _ _ _ hT (lv_sub hl [1, 2, 3, 4, 5, 6, 0] rfl) hf
            · have hf := ite_f hc hf
              refine lv_aload_n hx hb dX4_row_96 rfl (lv_at hl 0 rfl) ?_
              refine t_get C hV hT 31 (by decide) q1278 rfl dX4_row_97 ?_
              refine lv_iload hx hb dX4_row_100 (lv_at hl 4 rfl) ?_
              refine lv_icmp_ne (tgt := 117) hx hb dX4_row_102 (by decide) (fun hc => ?_) (fun hc => ?_)
              · have hf := ite_t hc hf
                exact hJ117 w_80 x1 x2 x6 _ _ _ hT (lv_sub hl [0, 1, 2, 6] rfl) hf
              · have hf := ite_f (fun q => q hc) hf
                refine lv_aload_n hx hb dX4_row_105 rfl (lv_at hl 0 rfl) ?_
                refine t_get C hV hT 32 (by decide) q1279 rfl dX4_row_106 ?_
                refine lv_iload hx hb dX4_row_109 (lv_at hl 5 rfl) ?_
                refine lv_icmp_gt (tgt := 117) hx hb dX4_row_111 (by decide) (fun hc => ?_) (fun hc => ?_)
                · have hf := ite_t hc hf
                  exact hJ117 w_80 x1 x2 x6 _ _ _ hT (lv_sub hl [0, 1, 2, 6] rfl) hf
                · have hf := ite_f hc hf
                  refine lv_goto (tgt := 132) hx hb dX4_row_114 (by decide) ?_
                  obtain ⟨x6_132, ex⟩ : ∃ y : Int32, y = (x6 + (1 : Int32)) := ⟨_, rfl⟩
                  have hf := lett_e ex hf
                  refine lv_iinc (v := x6_132) (lv' := [(6, .int x6_132), (0, .ref (a 42)), (1, .int x1), (2, .int x2), (3, .int x3), (4, .int x4), (5, .int x5)]) hx hb dX4_row_132 hl (k := 6) rfl (by rw [ex]; rfl) (by decide) rfl (fun ls hl => ?_)
                  refine lv_goto (tgt := 50) hx hb dX4_row_135 (by decide) ?_
                  exact ih w_80 x1 x2 x3 x4 x5 x6_132 _ _ _ hT (lv_sub hl [1, 2, 3, 4, 5, 6, 0] rfl) hf
        · have hf := ite_f (fun q => q hc) hf
          refine lv_goto (tgt := 132) hx hb dX4_row_75 (by decide) ?_
          obtain ⟨x6_132, ex⟩ : ∃ y : Int32, y = (x6 + (1 : Int32)) := ⟨_, rfl⟩
          have hf := lett_e ex hf
          refine lv_iinc (v := x6_132) (lv' := [(6, .int x6_132), (0, .ref (a 42)), (1, .int x1), (2, .int x2), (3, .int x3), (4, .int x4), (5, .int x5)]) hx hb dX4_row_132 hl (k := 6) rfl (by rw [ex]; rfl) (by decide) rfl (fun ls hl => ?_)
          refine lv_goto (tgt := 50) hx hb dX4_row_135 (by decide) ?_
          exact ih w_69.2 x1 x2 x3 x4 x5 x6_132 _ _ _ hT (lv_sub hl [1, 2, 3, 4, 5, 6, 0] rfl) hf
  refine W.eq (by rw [hargs]) (t_in (vs := [.ref (a 42), .int x1, .int x2]) (n := 7) (Nat.le_of_ble_eq_true rfl) (fun ls hl => ?_))
  have hl : lv_has ls 7 [(0, .ref (a 42)), (1, .int x1), (2, .int x2)] := hl
  unfold fX4_row at hf
  skip
  refine lv_aload_n hx hb dX4_row_0 rfl (lv_at hl 0 rfl) ?_
  obtain ⟨w_1, h_1, hf⟩ := bind_e hf
  refine t_calli (vs := []) (rest := []) C hV hT (fun sz => mX4_isJunction l D d a N t  _ h_1 sz) (cwV 0 C.2.2.2.2 (lw_V q1593 q1595 qs85 q129 q1596) rfl rfl rfl hdX4_isJunction ⟨Nat.le_of_ble_eq_true rfl, Nat.le_of_ble_eq_true rfl⟩) rfl hl.1 rfl (Nat.le_of_ble_eq_true rfl) dX4_row_1 (fun H locs hT => ?_)
  refine lv_if_eq (tgt := 31) hx hb dX4_row_4 (by decide) (fun hc => ?_) (fun hc => ?_)
  · have hf := ite_t hc hf
    refine lv_sipush (v := -10000) hx hb dX4_row_31 (by decide) ?_
    exact t_iret C hT hf hr hlocks dX4_row_34
  · have hf := ite_f hc hf
    refine lv_iload_n hx hb dX4_row_7 rfl (lv_at hl 1 rfl) ?_
    refine lv_i2l hx hb dX4_row_8 rfl ?_
    refine lv_lconst (v := 1) hx hb dX4_row_9 (by decide) ?_
    refine g_ldc2 (v := 3) C q1752 dX4_row_10 ?_
    obtain ⟨w_13, h_13, hf⟩ := bind_e hf
    refine s_calli (vs := [.long (x1).toInt64, .long (1 : Int64), .long (3 : Int64)]) (rest := []) C (fun q h => Or.inr h) hT (fun sz => mX4_in l N (x1).toInt64 (1 : Int64) (3 : Int64) _ h_13 sz) (va_cwS 3 C.2.2.2.2 (lw_S q1448 q1449 q129 q1450) rfl rfl rfl hdX4_in ⟨Nat.le_of_ble_eq_true rfl, Nat.le_of_ble_eq_true rfl⟩) rfl hl.1 rfl (Nat.le_of_ble_eq_true rfl) dX4_row_13 ⟨Nat.zero_le _, Nat.zero_le _⟩ (fun H locs hT => ?_)
    refine lv_if_eq (tgt := 31) hx hb dX4_row_16 (by decide) (fun hc => ?_) (fun hc => ?_)
    · have hf := ite_t hc hf
      refine lv_sipush (v := -10000) hx hb dX4_row_31 (by decide) ?_
      exact t_iret C hT hf hr hlocks dX4_row_34
    · have hf := ite_f hc hf
      refine lv_iload_n hx hb dX4_row_19 rfl (lv_at hl 2 rfl) ?_
      refine lv_i2l hx hb dX4_row_20 rfl ?_
      refine lv_lconst (v := 0) hx hb dX4_row_21 (by decide) ?_
      refine g_ldc2 (v := 4) C q1753 dX4_row_22 ?_
      obtain ⟨w_25, h_25, hf⟩ := bind_e hf
      refine s_calli (vs := [.long (x2).toInt64, .long (0 : Int64), .long (4 : Int64)]) (rest := []) C (fun q h => Or.inr h) hT (fun sz => mX4_in l N (x2).toInt64 (0 : Int64) (4 : Int64) _ h_25 sz) (va_cwS 3 C.2.2.2.2 (lw_S q1448 q1449 q129 q1450) rfl rfl rfl hdX4_in ⟨Nat.le_of_ble_eq_true rfl, Nat.le_of_ble_eq_true rfl⟩) rfl hl.1 rfl (Nat.le_of_ble_eq_true rfl) dX4_row_25 ⟨Nat.zero_le _, Nat.zero_le _⟩ (fun H locs hT => ?_)
      refine lv_if_ne (tgt := 35) hx hb dX4_row_28 (by decide) (fun hc => ?_) (fun hc => ?_)
      · have hf := ite_t hc hf
        refine lv_iconst (v := -1) hx hb dX4_row_35 (by decide) ?_
        refine lv_istore_n (lv' := [(3, .int (-1 : Int32)), (0, .ref (a 42)), (1, .int x1), (2, .int x2)]) hx hb dX4_row_36 rfl hl (by decide) rfl (fun ls hl => ?_)
        refine lv_iconst (v := 0) hx hb dX4_row_37 (by decide) ?_
        refine lv_istore (lv' := [(4, .int (0 : Int32)), (3, .int (-1 : Int32)), (0, .ref (a 42)), (1, .int x1), (2, .int x2)]) hx hb dX4_row_38 hl (by decide) rfl (fun ls hl => ?_)
        refine lv_iconst (v := 0) hx hb dX4_row_40 (by decide) ?_
        refine lv_istore (lv' := [(5, .int (0 : Int32)), (4, .int (0 : Int32)), (3, .int (-1 : Int32)), (0, .ref (a 42)), (1, .int x1), (2, .int x2)]) hx hb dX4_row_41 hl (by decide) rfl (fun ls hl => ?_)
        refine lv_aload_n hx hb dX4_row_43 rfl (lv_at hl 3 rfl) ?_
        obtain ⟨w_44, h_44, hf⟩ := bind_e hf
        refine t_callv (vs := []) (rest := []) C hV hT (fun sz => mX4_keeps l D d a N w_1.2  _ h_44 sz) (cwV 0 C.2.2.2.2 (lw_V q1701 q1703 qs100 q129 q1704) rfl rfl rfl hdX4_keeps ⟨Nat.le_of_ble_eq_true rfl, Nat.le_of_ble_eq_true rfl⟩) rfl hl.1 rfl (Nat.le_of_ble_eq_true rfl) dX4_row_44 (fun H locs hT => ?_)
        refine lv_iconst (v := 0) hx hb dX4_row_47 (by decide) ?_
        refine lv_istore (lv' := [(6, .int (0 : Int32)), (5, .int (0 : Int32)), (4, .int (0 : Int32)), (3, .int (-1 : Int32)), (0, .ref (a 42)), (1, .int x1), (2, .int x2)]) hx hb dX4_row_48 hl (by decide) rfl (fun ls hl => ?_)
        refine hL50 _ (fun t x1 x2 x3 x4 x5 H locs ls hT hl hf => ?_) N w_44 x1 x2 (-1 : Int32) (0 : Int32) (0 : Int32) (0 : Int32) _ _ _ hT (lv_sub hl [4, 5, 6, 3, 2, 1, 0] rfl) hf
        refine lv_aload_n hx hb dX4_row_138 rfl (lv_at hl 0 rfl) ?_
        refine lv_iload_n hx hb dX4_row_139 rfl (lv_at hl 3 rfl) ?_
        refine lv_iload_n hx hb dX4_row_140 rfl (lv_at hl 1 rfl) ?_
        obtain ⟨w_141, h_141, hf⟩ := bind_e hf
        refine t_calli (vs := [.int x3, .int x1]) (rest := []) C hV hT (fun sz => mX4_fillsRow l D d a N t x3 x1 _ h_141 sz) (cwV 2 C.2.2.2.2 (lw_V q1754 q1756 qs107 q129 q1757) rfl rfl rfl hdX4_fillsRow ⟨Nat.le_of_ble_eq_true rfl, Nat.le_of_ble_eq_true rfl⟩) rfl hl.1 rfl (Nat.le_of_ble_eq_true rfl) dX4_row_141 (fun H locs hT => ?_)
        refine lv_pop hx hb dX4_row_144 rfl ?_
        refine lv_iload_n hx hb dX4_row_145 rfl (lv_at hl 2 rfl) ?_
        refine lv_if_ne (tgt := 154) hx hb dX4_row_146 (by decide) (fun hc => ?_) (fun hc => ?_)
        · have hf := ite_t hc hf
          refine lv_iload_n hx hb dX4_row_154 rfl (lv_at hl 2 rfl) ?_
          refine lv_iconst (v := 1) hx hb dX4_row_155 (by decide) ?_
          refine lv_icmp_ne (tgt := 164) hx hb dX4_row_156 (by decide) (fun hc => ?_) (fun hc => ?_)
          · have hf := ite_t hc hf
            refine lv_iload_n hx hb dX4_row_164 rfl (lv_at hl 2 rfl) ?_
            refine lv_iconst (v := 2) hx hb dX4_row_165 (by decide) ?_
            refine lv_isub hx hb dX4_row_166 ?_
            refine lv_iload_n hx hb dX4_row_167 rfl (lv_at hl 1 rfl) ?_
            refine lv_icmp_ge (tgt := 182) hx hb dX4_row_168 (by decide) (fun hc => ?_) (fun hc => ?_)
            · have hf := ite_t hc hf
              refine lv_bipush (v := -2) hx hb dX4_row_182 (by decide) ?_
              exact t_iret C hT hf hr hlocks dX4_row_184
            · have hf := ite_f hc hf
              refine lv_aload_n hx hb dX4_row_171 rfl (lv_at hl 0 rfl) ?_
              refine t_get C hV hT 30 (by decide) q1277 rfl dX4_row_172 ?_
              refine lv_iload_n hx hb dX4_row_175 rfl (lv_at hl 2 rfl) ?_
              refine lv_iconst (v := 2) hx hb dX4_row_176 (by decide) ?_
              refine lv_isub hx hb dX4_row_177 ?_
              obtain ⟨hi, hf⟩ := ix_e hf
              refine g_ild C hV hT 15 _ rfl hi rfl dX4_row_178 ?_
              refine lv_goto (tgt := 184) hx hb dX4_row_179 (by decide) ?_
              exact t_iret C hT hf hr hlocks dX4_row_184
          · have hf := ite_f (fun q => q hc) hf
            refine lv_iload hx hb dX4_row_159 (lv_at hl 5 rfl) ?_
            refine lv_goto (tgt := 184) hx hb dX4_row_161 (by decide) ?_
            exact t_iret C hT hf hr hlocks dX4_row_184
        · have hf := ite_f (fun q => q hc) hf
          refine lv_iload hx hb dX4_row_149 (lv_at hl 4 rfl) ?_
          refine lv_goto (tgt := 184) hx hb dX4_row_151 (by decide) ?_
          exact t_iret C hT hf hr hlocks dX4_row_184
      · have hf := ite_f (fun q => q hc) hf
        refine lv_sipush (v := -10000) hx hb dX4_row_31 (by decide) ?_
        exact t_iret C hT hf hr hlocks dX4_row_34
def fX4_isAnyCrowd_B2 (N : Nat) (K : TS → Option (Int32 × TS)) (kb : TS → Int32 → Option (Int32 × TS)) (t : TS) (x1 : Int32) : Option (Int32 × TS) :=
  (if (t.2.1 20 3) ≤ x1 then (K t) else ((fX4_waitOn N t x1).bind fun w_14 => (if w_14.1 ≤ (20 : Int32) then (lett (x1 + (1 : Int32)) fun x1_24 => (kb w_14.2 x1_24)) else (some ((1 : Int32), w_14.2)))))
def fX4_isAnyCrowd_L2 (N : Nat) (K : TS → Option (Int32 × TS)) : Nat → TS → Int32 → Option (Int32 × TS)
  | 0 => fun _ _ => none
  | n + 1 => fun t x1 => fX4_isAnyCrowd_B2 N K (fX4_isAnyCrowd_L2 N K n) t x1
def fX4_isAnyCrowd (N : Nat) (t : TS) : Option (Int32 × TS) :=
  (fX4_isAnyCrowd_L2 N (fun t => (some ((0 : Int32), t))) N t (0 : Int32))
theorem hdX4_isAnyCrowd : yX4_isAnyCrowd.cls = RX4 ∧ yX4_isAnyCrowd.cls ≠ "java/lang/invoke/MethodHandle" ∧ yX4_isAnyCrowd.cls ≠ "java/lang/invoke/VarHandle" ∧ (parseMethodDescriptor yX4_isAnyCrowd.desc).map (fun d => d.parameters.length) = some 0 := by decide +kernel
set_option maxHeartbeats 4000000 in
theorem mX4_isAnyCrowd (l : Launch) (D : va_G) (d : Nat → ClassId) (a : Nat → Nat) (N : Nat) (t : TS) (w : Int32 × TS) (hf : fX4_isAnyCrowd N t = some w) (sz : Nat) : Met l yX4_isAnyCrowd (ws_ yX4_isAnyCrowd cX4_isAnyCrowd 2 (some .boolean)) (rm_ 1 21) (PcT D d a [] t sz) (QiT D d a w.1 w.2 sz) 0 0 (AT a sz) := by
  refine Met.ofW (cc := cX4_isAnyCrowd) (maxL := 2) (ret := (some .boolean)) plX4 rfl ?_
  intro p e s m args below meth c s₁ B hml hv
  obtain ⟨C, hV, hT, hr, hlocks, hargs, rfl⟩ := t_enter B hml rfl hv
  have hx := C.1
  have hb := C.2.1
  show W p l e (rm_ 1 21) s m args below meth c s.heap [] 0 0 (MQ below (QiT D d a w.1 w.2 s.heap.size) args s 0 0 (AT a s.heap.size)) _
  have hL2 : ∀ (K : TS → Option (Int32 × TS)), (∀ (t : TS) (H : Heap) (locs : List Loc) (ls : Array Slot), TH D (AT a s.heap.size) s.heap (wT d a t) H locs → lv_has ls 2 [] → K t = some w → W p l e (rm_ 1 21) s m args below meth c H locs 0 0 (MQ below (QiT D d a w.1 w.2 s.heap.size) args s 0 0 (AT a s.heap.size)) (F0 m 30 ls [])) → ∀ (n : Nat) (t : TS) (x1 : Int32) (H : Heap) (locs : List Loc) (ls : Array Slot), TH D (AT a s.heap.size) s.heap (wT d a t) H locs → lv_has ls 2 [(0, .ref (a 42)), (1, .int x1)] → fX4_isAnyCrowd_L2 N K n t x1 = some w → W p l e (rm_ 1 21) s m args below meth c H locs 0 0 (MQ below (QiT D d a w.1 w.2 s.heap.size) args s 0 0 (AT a s.heap.size)) (F0 m 2 ls []) := by
    intro K hE n
    induction n with
    | zero =>
      intro t x1 H locs ls hT hl hf
      cases hf
    | succ n ih =>
      intro t x1 H locs ls hT hl hf
      replace hf : fX4_isAnyCrowd_B2 N K (fX4_isAnyCrowd_L2 N K n) t x1 = some w := hf
      unfold fX4_isAnyCrowd_B2 at hf
      refine lv_iload_n hx hb dX4_isAnyCrowd_2 rfl (lv_at hl 1 rfl) ?_
      refine lv_aload_n hx hb dX4_isAnyCrowd_3 rfl (lv_at hl 0 rfl) ?_
      refine t_get C hV hT 20 (by decide) q1267 rfl dX4_isAnyCrowd_4 ?_
      refine lv_iconst (v := 3) hx hb dX4_isAnyCrowd_7 (by decide) ?_
      refine g_ild C hV hT 10 3 rfl (vin_of (by decide)) (by decide) dX4_isAnyCrowd_8 ?_
      refine lv_icmp_ge (tgt := 30) hx hb dX4_isAnyCrowd_9 (by decide) (fun hc => ?_) (fun hc => ?_)
      · have hf := ite_t hc hf
        exact hE t _ _ _ hT (lv_sub hl [] rfl) hf
      · have hf := ite_f hc hf
        refine lv_aload_n hx hb dX4_isAnyCrowd_12 rfl (lv_at hl 0 rfl) ?_
        refine lv_iload_n hx hb dX4_isAnyCrowd_13 rfl (lv_at hl 1 rfl) ?_
        obtain ⟨w_14, h_14, hf⟩ := bind_e hf
        refine t_calli (vs := [.int x1]) (rest := []) C hV hT (fun sz => mX4_waitOn l D d a N t x1 _ h_14 sz) (cwV 1 C.2.2.2.2 (lw_V q1565 q1567 qs79 q129 q1568) rfl rfl rfl hdX4_waitOn ⟨Nat.le_of_ble_eq_true rfl, Nat.le_of_ble_eq_true rfl⟩) rfl hl.1 rfl (Nat.le_of_ble_eq_true rfl) dX4_isAnyCrowd_14 (fun H locs hT => ?_)
        refine lv_bipush (v := 20) hx hb dX4_isAnyCrowd_17 (by decide) ?_
        refine lv_icmp_le (tgt := 24) hx hb dX4_isAnyCrowd_19 (by decide) (fun hc => ?_) (fun hc => ?_)
        · have hf := ite_t hc hf
          obtain ⟨x1_24, ex⟩ : ∃ y : Int32, y = (x1 + (1 : Int32)) := ⟨_, rfl⟩
          have hf := lett_e ex hf
          refine lv_iinc (v := x1_24) (lv' := [(1, .int x1_24), (0, .ref (a 42))]) hx hb dX4_isAnyCrowd_24 hl (k := 1) rfl (by rw [ex]; rfl) (by decide) rfl (fun ls hl => ?_)
          refine lv_goto (tgt := 2) hx hb dX4_isAnyCrowd_27 (by decide) ?_
          exact ih w_14.2 x1_24 _ _ _ hT (lv_sub hl [1, 0] rfl) hf
        · have hf := ite_f hc hf
          refine lv_iconst (v := 1) hx hb dX4_isAnyCrowd_22 (by decide) ?_
          exact t_zret C hT hf (Or.inr rfl) hr hlocks dX4_isAnyCrowd_23
  refine W.eq (by rw [hargs]) (t_in (vs := [.ref (a 42)]) (n := 2) (Nat.le_of_ble_eq_true rfl) (fun ls hl => ?_))
  have hl : lv_has ls 2 [(0, .ref (a 42))] := hl
  unfold fX4_isAnyCrowd at hf
  skip
  refine lv_iconst (v := 0) hx hb dX4_isAnyCrowd_0 (by decide) ?_
  refine lv_istore_n (lv' := [(1, .int (0 : Int32)), (0, .ref (a 42))]) hx hb dX4_isAnyCrowd_1 rfl hl (by decide) rfl (fun ls hl => ?_)
  refine hL2 _ (fun t H locs ls hT hl hf => ?_) N t (0 : Int32) _ _ _ hT (lv_sub hl [1, 0] rfl) hf
  refine lv_iconst (v := 0) hx hb dX4_isAnyCrowd_30 (by decide) ?_
  exact t_zret C hT hf (Or.inl rfl) hr hlocks dX4_isAnyCrowd_31
def fX4_leastRoom_B63 (N : Nat) (K : TS → Int32 → Int32 → Int32 → Int32 → Int32 → Option (Int32 × TS)) (kb : TS → Int32 → Int32 → Int32 → Int32 → Int32 → Int32 → Option (Int32 × TS)) (t : TS) (x1 : Int32) (x2 : Int32) (x3 : Int32) (x4 : Int32) (x5 : Int32) (x6 : Int32) : Option (Int32 × TS) :=
  (if x1 ≤ x6 then (K t x1 x2 x3 x4 x5) else ((fX4_passes N t ).bind fun w_70 => (if x5 = 0 then (lett (x6 + (1 : Int32)) fun x6_93 => (kb w_70.2 x1 x2 x3 x4 (0 : Int32) x6_93)) else ((fX4_isAnyCrowd N w_70.2 ).bind fun w_80 => (if ¬ w_80.1 = 0 then (lett (x6 + (1 : Int32)) fun x6_93 => (kb w_80.2 x1 x2 x3 x4 (0 : Int32) x6_93)) else (lett (x6 + (1 : Int32)) fun x6_93 => (kb w_80.2 x1 x2 x3 x4 (1 : Int32) x6_93)))))))
def fX4_leastRoom_L63 (N : Nat) (K : TS → Int32 → Int32 → Int32 → Int32 → Int32 → Option (Int32 × TS)) : Nat → TS → Int32 → Int32 → Int32 → Int32 → Int32 → Int32 → Option (Int32 × TS)
  | 0 => fun _ _ _ _ _ _ _ => none
  | n + 1 => fun t x1 x2 x3 x4 x5 x6 => fX4_leastRoom_B63 N K (fX4_leastRoom_L63 N K n) t x1 x2 x3 x4 x5 x6
def fX4_leastRoom_J107 (N : Nat) (K : TS → Int32 → Int32 → Option (Int32 × TS)) (kb : TS → Int32 → Int32 → Int32 → Int32 → Option (Int32 × TS)) (t : TS) (x1 : Int32) (x2 : Int32) (x3 : Int32) (x4 : Int32) : Option (Int32 × TS) :=
  ((fX4_laysBack N t ).bind fun w_108 => (lett (x4 + (1 : Int32)) fun x4_111 => (kb w_108 x1 x2 x3 x4_111)))
def fX4_leastRoom_B38 (N : Nat) (K : TS → Int32 → Int32 → Option (Int32 × TS)) (kb : TS → Int32 → Int32 → Int32 → Int32 → Option (Int32 × TS)) (t : TS) (x1 : Int32) (x2 : Int32) (x3 : Int32) (x4 : Int32) : Option (Int32 × TS) :=
  (if (9 : Int32) < x4 then (K t x2 x3) else (if 0 ≤ x3 then (K t x2 x3) else (lett (tsA t 20 2 x4) fun t_59 => (fX4_leastRoom_L63 N (fun t x1 x2 x3 x4 x5 => (if x5 = 0 then (fX4_leastRoom_J107 N K kb t x1 x2 x3 x4) else (fX4_leastRoom_J107 N K kb t x1 x2 x4 x4))) N t_59 x1 x2 x3 x4 (1 : Int32) (0 : Int32)))))
def fX4_leastRoom_L38 (N : Nat) (K : TS → Int32 → Int32 → Option (Int32 × TS)) : Nat → TS → Int32 → Int32 → Int32 → Int32 → Option (Int32 × TS)
  | 0 => fun _ _ _ _ _ => none
  | n + 1 => fun t x1 x2 x3 x4 => fX4_leastRoom_B38 N K (fX4_leastRoom_L38 N K n) t x1 x2 x3 x4
def fX4_leastRoom_J117 (N : Nat) (t : TS) (x2 : Int32) (x3 : Int32) : Option (Int32 × TS) :=
  (lett (tsA t 20 2 x2) fun t_123 => (some (x3, t_123)))
def fX4_leastRoom (N : Nat) (t : TS) (x1 : Int32) : Option (Int32 × TS) :=
  ((fX4_isJunction N t ).bind fun w_1 => (if w_1.1 = 0 then (some ((-1 : Int32), w_1.2)) else ((fX4_in N (x1).toInt64 (1 : Int64) (60 : Int64)).bind fun w_13 => (if ¬ w_13 = 0 then (lett (w_1.2.2.1 20 2) fun x2_27 => ((fX4_keeps N w_1.2 ).bind fun w_32 => (fX4_leastRoom_L38 N (fun t x2 x3 => (fX4_leastRoom_J117 N t x2 x3)) N w_32 x1 x2_27 (-2 : Int32) (1 : Int32)))) else (some ((-1 : Int32), w_1.2))))))
theorem hdX4_leastRoom : yX4_leastRoom.cls = RX4 ∧ yX4_leastRoom.cls ≠ "java/lang/invoke/MethodHandle" ∧ yX4_leastRoom.cls ≠ "java/lang/invoke/VarHandle" ∧ (parseMethodDescriptor yX4_leastRoom.desc).map (fun d => d.parameters.length) = some 1 := by decide +kernel
set_option maxHeartbeats 4000000 in
theorem mX4_leastRoom (l : Launch) (D : va_G) (d : Nat → ClassId) (a : Nat → Nat) (N : Nat) (t : TS) (x1 : Int32) (w : Int32 × TS) (hf : fX4_leastRoom N t x1 = some w) (sz : Nat) : Met l yX4_leastRoom (ws_ yX4_leastRoom cX4_leastRoom 7 (some .int)) (rm_ 6 145) (PcT D d a [.int x1] t sz) (QiT D d a w.1 w.2 sz) 0 0 (AT a sz) := by
  refine Met.ofW (cc := cX4_leastRoom) (maxL := 7) (ret := (some .int)) plX4 rfl ?_
  intro p e s m args below meth c s₁ B hml hv
  obtain ⟨C, hV, hT, hr, hlocks, hargs, rfl⟩ := t_enter B hml rfl hv
  have hx := C.1
  have hb := C.2.1
  show W p l e (rm_ 6 145) s m args below meth c s.heap [] 0 0 (MQ below (QiT D d a w.1 w.2 s.heap.size) args s 0 0 (AT a s.heap.size)) _
  have hL38 : ∀ (K : TS → Int32 → Int32 → Option (Int32 × TS)), (∀ (t : TS) (x2 : Int32) (x3 : Int32) (H : Heap) (locs : List Loc) (ls : Array Slot), TH D (AT a s.heap.size) s.heap (wT d a t) H locs → lv_has ls 7 [(0, .ref (a 42)), (2, .int x2), (3, .int x3)] → K t x2 x3 = some w → W p l e (rm_ 6 145) s m args below meth c H locs 0 0 (MQ below (QiT D d a w.1 w.2 s.heap.size) args s 0 0 (AT a s.heap.size)) (F0 m 117 ls [])) → ∀ (n : Nat) (t : TS) (x1 : Int32) (x2 : Int32) (x3 : Int32) (x4 : Int32) (H : Heap) (locs : List Loc) (ls : Array Slot), TH D (AT a s.heap.size) s.heap (wT d a t) H locs → lv_has ls 7 [(0, .ref (a 42)), (1, .int x1), (2, .int x2), (3, .int x3), (4, .int x4)] → fX4_leastRoom_L38 N K n t x1 x2 x3 x4 = some w → W p l e (rm_ 6 145) s m args below meth c H locs 0 0 (MQ below (QiT D d a w.1 w.2 s.heap.size) args s 0 0 (AT a s.heap.size)) (F0 m 38 ls []) := by
    intro K hE n
    induction n with
    | zero =>
      intro t x1 x2 x3 x4 H locs ls hT hl hf
      cases hf
    | succ n ih =>
      have hL63 : ∀ (K : TS → Int32 → Int32 → Int32 → Int32 → Int32 → Option (Int32 × TS)), (∀ (t : TS) (x1 : Int32) (x2 : Int32) (x3 : Int32) (x4 : Int32) (x5 : Int32) (H : Heap) (locs : List Loc) (ls : Array Slot), TH D (AT a s.heap.size) s.heap (wT d a t) H locs → lv_has ls 7 [(0, .ref (a 42)), (1, .int x1), (2, .int x2), (3, .int x3), (4, .int x4), (5, .int x5)] → K t x1 x2 x3 x4 x5 = some w → W p l e (rm_ 6 145) s m args below meth c H locs 0 0 (MQ below (QiT D d a w.1 w.2 s.heap.size) args s 0 0 (AT a s.heap.size)) (F0 m 99 ls [])) → ∀ (n : Nat) (t : TS) (x1 : Int32) (x2 : Int32) (x3 : Int32) (x4 : Int32) (x5 : Int32) (x6 : Int32) (H : Heap) (locs : List Loc) (ls : Array Slot), TH D (AT a s.heap.size) s.heap (wT d a t) H locs → lv_has ls 7 [(0, .ref (a 42)), (1, .int x1), (2, .int x2), (3, .int x3), (4, .int x4), (5, .int x5), (6, .int x6)] → fX4_leastRoom_L63 N K n t x1 x2 x3 x4 x5 x6 = some w → W p l e (rm_ 6 145) s m args below meth c H locs 0 0 (MQ below (QiT D d a w.1 w.2 s.heap.size) args s 0 0 (AT a s.heap.size)) (F0 m 63 ls []) := by
        intro K hE n
        induction n with
        | zero =>
          intro t x1 x2 x3 x4 x5 x6 H locs ls hT hl hf
          cases hf
        | succ n ih =>
          intro t x1 x2 x3 x4 x5 x6 H locs ls hT hl hf
          replace hf : fX4_leastRoom_B63 N K (fX4_leastRoom_L63 N K n) t x1 x2 x3 x4 x5 x6 = some w := hf
          unfold fX4_leastRoom_B63 at hf
          refine lv_iload hx hb dX4_leastRoom_63 (lv_at hl 6 rfl) ?_
          refine lv_iload_n hx hb dX4_leastRoom_65 rfl (lv_at hl 1 rfl) ?_
          refine lv_icmp_ge (tgt := 99) hx hb dX4_leastRoom_66 (by decide) (fun hc => ?_) (fun hc => ?_)
          · have hf := ite_t hc hf
            exact hE t x1 x2 x3 x4 x5 _ _ _ hT (lv_sub hl [0, 1, 2, 3, 4, 5] rfl) hf
          · have hf := ite_f hc hf
            refine lv_aload_n hx hb dX4_leastRoom_69 rfl (lv_at hl 0 rfl) ?_
            obtain ⟨w_70, h_70, hf⟩ := bind_e hf
            refine t_calli (vs := []) (rest := []) C hV hT (fun sz => mX4_passes l D d a N t  _ h_70 sz) (cwV 0 C.2.2.2.2 (lw_V q1609 q1611 qs87 q129 q1612) rfl rfl rfl hdX4_passes ⟨Nat.le_of_ble_eq_true rfl, Nat.le_of_ble_eq_true rfl⟩) rfl hl.1 rfl (Nat.le_of_ble_eq_true rfl) dX4_leastRoom_70 (fun H locs hT => ?_)
            refine lv_pop hx hb dX4_leastRoom_73 rfl ?_
            refine lv_iload hx hb dX4_leastRoom_74 (lv_at hl 5 rfl) ?_
            refine lv_if_eq (tgt := 90) hx hb dX4_leastRoom_76 (by decide) (fun hc => ?_) (fun hc => ?_)
            · have hf := ite_t hc hf
              refine lv_iconst (v := 0) hx hb dX4_leastRoom_90 (by decide) ?_
              refine lv_istore (lv' := [(5, .int (0 : Int32)), (0, .ref (a 42)), (1, .int x1), (2, .int x2), (3, .int x3), (4, .int x4), (6, .int x6)]) hx hb dX4_leastRoom_91 hl (by decide) rfl (fun ls hl => ?_)
              obtain ⟨x6_93, ex⟩ : ∃ y : Int32, y = (x6 + (1 : Int32)) := ⟨_, rfl⟩
              have hf := lett_e ex hf
              refine lv_iinc (v := x6_93) (lv' := [(6, .int x6_93), (5, .int (0 : Int32)), (0, .ref (a 42)), (1, .int x1), (2, .int x2), (3, .int x3), (4, .int x4)]) hx hb dX4_leastRoom_93 hl (k := 6) rfl (by rw [ex]; rfl) (by decide) rfl (fun ls hl => ?_)
              refine lv_goto (tgt := 63) hx hb dX4_leastRoom_96 (by decide) ?_
              exact ih w_70.2 x1 x2 x3 x4 (0 : Int32) x6_93 _ _ _ hT (lv_sub hl [2, 3, 4, 5, 6, 1, 0] rfl) hf
            · have hf := ite_f hc hf
              refine lv_aload_n hx hb dX4_leastRoom_79 rfl (lv_at hl 0 rfl) ?_
              obtain ⟨w_80, h_80, hf⟩ := bind_e hf
              refine t_calli (vs := []) (rest := []) C hV hT (fun sz => mX4_isAnyCrowd l D d a N w_70.2  _ h_80 sz) (cwV 0 C.2.2.2.2 (lw_V q1767 q1769 qs109 q129 q1770) rfl rfl rfl hdX4_isAnyCrowd ⟨Nat.le_of_ble_eq_true rfl, Nat.le_of_ble_eq_true rfl⟩) rfl hl.1 rfl (Nat.le_of_ble_eq_true rfl) dX4_leastRoom_80 (fun H locs hT => ?_)
              refine lv_if_ne (tgt := 90) hx hb dX4_leastRoom_83 (by decide) (fun hc => ?_) (fun hc => ?_)
              · have hf := ite_t hc hf
                refine lv_iconst (v := 0) hx hb dX4_leastRoom_90 (by decide) ?_
                refine lv_istore (lv' := [(5, .int (0 : Int32)), (0, .ref (a 42)), (1, .int x1), (2, .int x2), (3, .int x3), (4, .int x4), (6, .int x6)]) hx hb dX4_leastRoom_91 hl (by decide) rfl (fun ls hl => ?_)
                obtain ⟨x6_93, ex⟩ : ∃ y : Int32, y = (x6 + (1 : Int32)) := ⟨_, rfl⟩
                have hf := lett_e ex hf
                refine lv_iinc (v := x6_93) (lv' := [(6, .int x6_93), (5, .int (0 : Int32)), (0, .ref (a 42)), (1, .int x1), (2, .int x2), (3, .int x3), (4, .int x4)]) hx hb dX4_leastRoom_93 hl (k := 6) rfl (by rw [ex]; rfl) (by decide) rfl (fun ls hl => ?_)
                refine lv_goto (tgt := 63) hx hb dX4_leastRoom_96 (by decide) ?_
                exact ih w_80.2 x1 x2 x3 x4 (0 : Int32) x6_93 _ _ _ hT (lv_sub hl [2, 3, 4, 5, 6, 1, 0] rfl) hf
              · have hf := ite_f (fun q => q hc) hf
                refine lv_iconst (v := 1) hx hb dX4_leastRoom_86 (by decide) ?_
                refine lv_goto (tgt := 91) hx hb dX4_leastRoom_87 (by decide) ?_
                refine lv_istore (lv' := [(5, .int (1 : Int32)), (0, .ref (a 42)), (1, .int x1), (2, .int x2), (3, .int x3), (4, .int x4), (6, .int x6)]) hx hb dX4_leastRoom_91 hl (by decide) rfl (fun ls hl => ?_)
                obtain ⟨x6_93, ex⟩ : ∃ y : Int32, y = (x6 + (1 : Int32)) := ⟨_, rfl⟩
                have hf := lett_e ex hf
                refine lv_iinc (v := x6_93) (lv' := [(6, .int x6_93), (5, .int (1 : Int32)), (0, .ref (a 42)), (1, .int x1), (2, .int x2), (3, .int x3), (4, .int x4)]) hx hb dX4_leastRoom_93 hl (k := 6) rfl (by rw [ex]; rfl) (by decide) rfl (fun ls hl => ?_)
                refine lv_goto (tgt := 63) hx hb dX4_leastRoom_96 (by decide) ?_
                exact ih w_80.2 x1 x2 x3 x4 (1 : Int32) x6_93 _ _ _ hT (lv_sub hl [2, 3, 4, 5, 6, 1, 0] rfl) hf
      have hJ107 : ∀ (t : TS) (x1 : Int32) (x2 : Int32) (x3 : Int32) (x4 : Int32) (H : Heap) (locs : List Loc) (ls : Array Slot), TH D (AT a s.heap.size) s.heap (wT d a t) H locs → lv_has ls 7 [(0, .ref (a 42)), (1, .int x1), (2, .int x2), (3, .int x3), (4, .int x4)] → fX4_leastRoom_J107 N K (fX4_leastRoom_L38 N K n) t x1 x2 x3 x4 = some w → W p l e (rm_ 6 145) s m args below meth c H locs 0 0 (MQ below (QiT D d a w.1 w.2 s.heap.size) args s 0 0 (AT a s.heap.size)) (F0 m 107 ls []) := by
        intro t x1 x2 x3 x4 H locs ls hT hl hf
        unfold fX4_leastRoom_J107 at hf
        refine lv_aload_n hx hb dX4_leastRoom_107 rfl (lv_at hl 0 rfl) ?_
        obtain ⟨w_108, h_108, hf⟩ := bind_e hf
        refine t_callv (vs := []) (rest := []) C hV hT (fun sz => mX4_laysBack l D d a N t  _ h_108 sz) (cwV 0 C.2.2.2.2 (lw_V q1709 q1711 qs102 q129 q1712) rfl rfl rfl hdX4_laysBack ⟨Nat.le_of_ble_eq_true rfl, Nat.le_of_ble_eq_true rfl⟩) rfl hl.1 rfl (Nat.le_of_ble_eq_true rfl) dX4_leastRoom_108 (fun H locs hT => ?_)
        obtain ⟨x4_111, ex⟩ : ∃ y : Int32, y = (x4 + (1 : Int32)) := ⟨_, rfl⟩
        have hf := lett_e ex hf
        refine lv_iinc (v := x4_111) (lv' := [(4, .int x4_111), (0, .ref (a 42)), (1, .int x1), (2, .int x2), (3, .int x3)]) hx hb dX4_leastRoom_111 hl (k := 4) rfl (by rw [ex]; rfl) (by decide) rfl (fun ls hl => ?_)
        refine lv_goto (tgt := 38) hx hb dX4_leastRoom_114 (by decide) ?_
        exact ih w_108 x1 x2 x3 x4_111 _ _ _ hT (lv_sub hl [1, 2, 3, 4, 0] rfl) hf
      intro t x1 x2 x3 x4 H locs ls hT hl hf
      replace hf : fX4_leastRoom_B38 N K (fX4_leastRoom_L38 N K n) t x1 x2 x3 x4 = some w := hf
      unfold fX4_leastRoom_B38 at hf
      refine lv_iload hx hb dX4_leastRoom_38 (lv_at hl 4 rfl) ?_
      refine lv_bipush (v := 9) hx hb dX4_leastRoom_40 (by decide) ?_
      refine lv_icmp_gt (tgt := 117) hx hb dX4_leastRoom_42 (by decide) (fun hc => ?_) (fun hc => ?_)
      · have hf := ite_t hc hf
        exact hE t x2 x3 _ _ _ hT (lv_sub hl [0, 2, 3] rfl) hf
      · have hf := ite_f hc hf
        refine lv_iload_n hx hb dX4_leastRoom_45 rfl (lv_at hl 3 rfl) ?_
        refine lv_if_ge (tgt := 117) hx hb dX4_leastRoom_46 (by decide) (fun hc => ?_) (fun hc => ?_)
        · have hf := ite_t hc hf
          exact hE t x2 x3 _ _ _ hT (lv_sub hl [0, 2, 3] rfl) hf
        · have hf := ite_f hc hf
          refine lv_iconst (v := 1) hx hb dX4_leastRoom_49 (by decide) ?_
          refine lv_istore (lv' := [(5, .int (1 : Int32)), (0, .ref (a 42)), (1, .int x1), (2, .int x2), (3, .int x3), (4, .int x4)]) hx hb dX4_leastRoom_50 hl (by decide) rfl (fun ls hl => ?_)
          refine lv_aload_n hx hb dX4_leastRoom_52 rfl (lv_at hl 1 rfl) ?_
          refine t_get C hV hT 20 (by decide) q1267 rfl dX4_leastRoom_53 ?_
          refine lv_iconst (v := 2) hx hb dX4_leastRoom_56 (by decide) ?_
          refine lv_iload hx hb dX4_leastRoom_57 (lv_at hl 5 rfl) ?_
          refine t_ist C hV hT 10 2 rfl (vin_of (by decide)) (by decide) (tast_20 d a t _ _) dX4_leastRoom_59 (fun t_59 H locs et hT => ?_)
          have hf := lett_e et hf
          refine lv_iconst (v := 0) hx hb dX4_leastRoom_60 (by decide) ?_
          refine lv_istore (lv' := [(6, .int (0 : Int32)), (5, .int (1 : Int32)), (0, .ref (a 42)), (1, .int x1), (2, .int x2), (3, .int x3), (4, .int x4)]) hx hb dX4_leastRoom_61 hl (by decide) rfl (fun ls hl => ?_)
          refine hL63 _ (fun t x1 x2 x3 x4 x5 H locs ls hT hl hf => ?_) N t_59 x1 x2 x3 x4 (1 : Int32) (0 : Int32) _ _ _ hT (lv_sub hl [2, 3, 4, 5, 6, 1, 0] rfl) hf
          refine lv_iload hx hb dX4_leastRoom_99 (lv_at hl 5 rfl) ?_
          refine lv_if_eq (tgt := 107) hx hb dX4_leastRoom_101 (by decide) (fun hc => ?_) (fun hc => ?_)
          · have hf := ite_t hc hf
            exact hJ107 t x1 x2 x3 x4 _ _ _ hT (lv_sub hl [0, 1, 2, 3, 4] rfl) hf
          · have hf := ite_f hc hf
            refine lv_iload hx hb dX4_leastRoom_104 (lv_at hl 4 rfl) ?_
            refine lv_istore_n (lv' := [(3, .int x4), (0, .ref (a 42)), (1, .int x1), (2, .int x2), (4, .int x4), (5, .int x5)]) hx hb dX4_leastRoom_106 rfl hl (by decide) rfl (fun ls hl => ?_)
            exact hJ107 t x1 x2 x4 x4 _ _ _ hT (lv_sub hl [1, 2, 3, 0, 4] rfl) hf
  have hJ117 : ∀ (t : TS) (x2 : Int32) (x3 : Int32) (H : Heap) (locs : List Loc) (ls : Array Slot), TH D (AT a s.heap.size) s.heap (wT d a t) H locs → lv_has ls 7 [(0, .ref (a 42)), (2, .int x2), (3, .int x3)] → fX4_leastRoom_J117 N t x2 x3 = some w → W p l e (rm_ 6 145) s m args below meth c H locs 0 0 (MQ below (QiT D d a w.1 w.2 s.heap.size) args s 0 0 (AT a s.heap.size)) (F0 m 117 ls []) := by
    intro t x2 x3 H locs ls hT hl hf
    unfold fX4_leastRoom_J117 at hf
    refine lv_aload_n hx hb dX4_leastRoom_117 rfl (lv_at hl 0 rfl) ?_
    refine t_get C hV hT 20 (by decide) q1267 rfl dX4_leastRoom_118 ?_
    refine lv_iconst (v := 2) hx hb dX4_leastRoom_121 (by decide) ?_
    refine lv_iload_n hx hb dX4_leastRoom_122 rfl (lv_at hl 1 rfl) ?_
    refine t_ist C hV hT 10 2 rfl (vin_of (by decide)) (by decide) (tast_20 d a t _ _) dX4_leastRoom_123 (fun t_123 H locs et hT => ?_)
    have hf := lett_e et hf
    refine lv_iload_n hx hb dX4_leastRoom_124 rfl (lv_at hl 2 rfl) ?_
    exact t_iret C hT hf hr hlocks dX4_leastRoom_125
  refine W.eq (by rw [hargs]) (t_in (vs := [.ref (a 42), .int x1]) (n := 7) (Nat.le_of_ble_eq_true rfl) (fun ls hl => ?_))
  have hl : lv_has ls 7 [(0, .ref (a 42)), (1, .int x1)] := hl
  unfold fX4_leastRoom at hf
  skip
  refine lv_aload_n hx hb dX4_leastRoom_0 rfl (lv_at hl 0 rfl) ?_
  obtain ⟨w_1, h_1, hf⟩ := bind_e hf
  refine t_calli (vs := []) (rest := []) C hV hT (fun sz => mX4_isJunction l D d a N t  _ h_1 sz) (cwV 0 C.2.2.2.2 (lw_V q1593 q1595 qs85 q129 q1596) rfl rfl rfl hdX4_isJunction ⟨Nat.le_of_ble_eq_true rfl, Nat.le_of_ble_eq_true rfl⟩) rfl hl.1 rfl (Nat.le_of_ble_eq_true rfl) dX4_leastRoom_1 (fun H locs hT => ?_)
  refine lv_if_eq (tgt := 19) hx hb dX4_leastRoom_4 (by decide) (fun hc => ?_) (fun hc => ?_)
  · have hf := ite_t hc hf
    refine lv_iconst (v := -1) hx hb dX4_leastRoom_19 (by decide) ?_
    exact t_iret C hT hf hr hlocks dX4_leastRoom_20
  · have hf := ite_f hc hf
    refine lv_iload_n hx hb dX4_leastRoom_7 rfl (lv_at hl 1 rfl) ?_
    refine lv_i2l hx hb dX4_leastRoom_8 rfl ?_
    refine lv_lconst (v := 1) hx hb dX4_leastRoom_9 (by decide) ?_
    refine g_ldc2 (v := 60) C q1766 dX4_leastRoom_10 ?_
    obtain ⟨w_13, h_13, hf⟩ := bind_e hf
    refine s_calli (vs := [.long (x1).toInt64, .long (1 : Int64), .long (60 : Int64)]) (rest := []) C (fun q h => Or.inr h) hT (fun sz => mX4_in l N (x1).toInt64 (1 : Int64) (60 : Int64) _ h_13 sz) (va_cwS 3 C.2.2.2.2 (lw_S q1448 q1449 q129 q1450) rfl rfl rfl hdX4_in ⟨Nat.le_of_ble_eq_true rfl, Nat.le_of_ble_eq_true rfl⟩) rfl hl.1 rfl (Nat.le_of_ble_eq_true rfl) dX4_leastRoom_13 ⟨Nat.zero_le _, Nat.zero_le _⟩ (fun H locs hT => ?_)
    refine lv_if_ne (tgt := 21) hx hb dX4_leastRoom_16 (by decide) (fun hc => ?_) (fun hc => ?_)
    · have hf := ite_t hc hf
      refine lv_aload_n hx hb dX4_leastRoom_21 rfl (lv_at hl 0 rfl) ?_
      refine t_get C hV hT 20 (by decide) q1267 rfl dX4_leastRoom_22 ?_
      refine lv_iconst (v := 2) hx hb dX4_leastRoom_25 (by decide) ?_
      refine g_ild C hV hT 10 2 rfl (vin_of (by decide)) (by decide) dX4_leastRoom_26 ?_
      refine lv_topi (fun x2_27 ex => ?_)
      have hf := lett_e ex hf
      refine lv_istore_n (lv' := [(2, .int x2_27), (0, .ref (a 42)), (1, .int x1)]) hx hb dX4_leastRoom_27 rfl hl (by decide) rfl (fun ls hl => ?_)
      refine lv_bipush (v := -2) hx hb dX4_leastRoom_28 (by decide) ?_
      refine lv_istore_n (lv' := [(3, .int (-2 : Int32)), (2, .int x2_27), (0, .ref (a 42)), (1, .int x1)]) hx hb dX4_leastRoom_30 rfl hl (by decide) rfl (fun ls hl => ?_)
      refine lv_aload_n hx hb dX4_leastRoom_31 rfl (lv_at hl 2 rfl) ?_
      obtain ⟨w_32, h_32, hf⟩ := bind_e hf
      refine t_callv (vs := []) (rest := []) C hV hT (fun sz => mX4_keeps l D d a N w_1.2  _ h_32 sz) (cwV 0 C.2.2.2.2 (lw_V q1701 q1703 qs100 q129 q1704) rfl rfl rfl hdX4_keeps ⟨Nat.le_of_ble_eq_true rfl, Nat.le_of_ble_eq_true rfl⟩) rfl hl.1 rfl (Nat.le_of_ble_eq_true rfl) dX4_leastRoom_32 (fun H locs hT => ?_)
      refine lv_iconst (v := 1) hx hb dX4_leastRoom_35 (by decide) ?_
      refine lv_istore (lv' := [(4, .int (1 : Int32)), (3, .int (-2 : Int32)), (2, .int x2_27), (0, .ref (a 42)), (1, .int x1)]) hx hb dX4_leastRoom_36 hl (by decide) rfl (fun ls hl => ?_)
      refine hL38 _ (fun t x2 x3 H locs ls hT hl hf => ?_) N w_32 x1 x2_27 (-2 : Int32) (1 : Int32) _ _ _ hT (lv_sub hl [3, 4, 2, 1, 0] rfl) hf
      exact hJ117 t x2 x3 _ _ _ hT hl hf
    · have hf := ite_f (fun q => q hc) hf
      refine lv_iconst (v := -1) hx hb dX4_leastRoom_19 (by decide) ?_
      exact t_iret C hT hf hr hlocks dX4_leastRoom_20
def fX4_shut_B48 (N : Nat) (K : TS → Int32 → Int32 → Int32 → Option (Int32 × TS)) (kb : TS → Int32 → Int32 → Int32 → Int32 → Int32 → Option (Int32 × TS)) (t : TS) (x1 : Int32) (x2 : Int32) (x3 : Int32) (x4 : Int32) (x5 : Int32) : Option (Int32 × TS) :=
  (if (t.2.1 20 3) ≤ x5 then (K t x2 x3 x4) else (lett (tsI t 23 x5) fun t_62 => (ix ((11 : Int32) + ((5 : Int32) * x5)) 121 (lett (tsA t_62 20 (((11 : Int32) + ((5 : Int32) * x5))).toNatClampNeg (0 : Int32)) fun t_77 => (ix (((11 : Int32) + ((5 : Int32) * x5)) + (3 : Int32)) 121 (lett (tsA t_77 20 ((((11 : Int32) + ((5 : Int32) * x5)) + (3 : Int32))).toNatClampNeg (0 : Int32)) fun t_92 => ((fX4_waitedBy N t_92 x1).bind fun w_95 => (if w_95.1 < x4 then (lett (x5 + (1 : Int32)) fun x5_117 => (kb w_95.2 x1 x2 x5 w_95.1 x5_117)) else (lett (x5 + (1 : Int32)) fun x5_117 => (kb w_95.2 x1 x2 x3 x4 x5_117))))))))))
def fX4_shut_L48 (N : Nat) (K : TS → Int32 → Int32 → Int32 → Option (Int32 × TS)) : Nat → TS → Int32 → Int32 → Int32 → Int32 → Int32 → Option (Int32 × TS)
  | 0 => fun _ _ _ _ _ _ => none
  | n + 1 => fun t x1 x2 x3 x4 x5 => fX4_shut_B48 N K (fX4_shut_L48 N K n) t x1 x2 x3 x4 x5
def fX4_shut (N : Nat) (t : TS) (x1 : Int32) (x2 : Int32) : Option (Int32 × TS) :=
  ((fX4_isJunction N t ).bind fun w_1 => (if w_1.1 = 0 then (some ((-2 : Int32), w_1.2)) else ((fX4_in N (x1).toInt64 (1 : Int64) (60 : Int64)).bind fun w_13 => (if w_13 = 0 then (some ((-2 : Int32), w_1.2)) else ((fX4_in N (x2).toInt64 (0 : Int64) (1 : Int64)).bind fun w_23 => (if ¬ w_23 = 0 then ((fX4_keeps N w_1.2 ).bind fun w_33 => ((fX4_waitedBy N w_33 x1).bind fun w_40 => (fX4_shut_L48 N (fun t x2 x3 x4 => (lett (tsI t 23 (-1 : Int32)) fun t_125 => (if ¬ x2 = 0 then (some (x4, t_125)) else (some (x3, t_125))))) N w_40.2 x1 x2 (-1 : Int32) w_40.1 (0 : Int32)))) else (some ((-2 : Int32), w_1.2))))))))
theorem hdX4_shut : yX4_shut.cls = RX4 ∧ yX4_shut.cls ≠ "java/lang/invoke/MethodHandle" ∧ yX4_shut.cls ≠ "java/lang/invoke/VarHandle" ∧ (parseMethodDescriptor yX4_shut.desc).map (fun d => d.parameters.length) = some 2 := by decide +kernel
set_option maxHeartbeats 4000000 in
theorem mX4_shut (l : Launch) (D : va_G) (d : Nat → ClassId) (a : Nat → Nat) (N : Nat) (t : TS) (x1 : Int32) (x2 : Int32) (w : Int32 × TS) (hf : fX4_shut N t x1 x2 = some w) (sz : Nat) : Met l yX4_shut (ws_ yX4_shut cX4_shut 7 (some .int)) (rm_ 8 189) (PcT D d a [.int x1, .int x2] t sz) (QiT D d a w.1 w.2 sz) 0 0 (AT a sz) := by
  refine Met.ofW (cc := cX4_shut) (maxL := 7) (ret := (some .int)) plX4 rfl ?_
  intro p e s m args below meth c s₁ B hml hv
  obtain ⟨C, hV, hT, hr, hlocks, hargs, rfl⟩ := t_enter B hml rfl hv
  have hx := C.1
  have hb := C.2.1
  show W p l e (rm_ 8 189) s m args below meth c s.heap [] 0 0 (MQ below (QiT D d a w.1 w.2 s.heap.size) args s 0 0 (AT a s.heap.size)) _
  have hL48 : ∀ (K : TS → Int32 → Int32 → Int32 → Option (Int32 × TS)), (∀ (t : TS) (x2 : Int32) (x3 : Int32) (x4 : Int32) (H : Heap) (locs : List Loc) (ls : Array Slot), TH D (AT a s.heap.size) s.heap (wT d a t) H locs → lv_has ls 7 [(0, .ref (a 42)), (2, .int x2), (3, .int x3), (4, .int x4)] → K t x2 x3 x4 = some w → W p l e (rm_ 8 189) s m args below meth c H locs 0 0 (MQ below (QiT D d a w.1 w.2 s.heap.size) args s 0 0 (AT a s.heap.size)) (F0 m 123 ls [])) → ∀ (n : Nat) (t : TS) (x1 : Int32) (x2 : Int32) (x3 : Int32) (x4 : Int32) (x5 : Int32) (H : Heap) (locs : List Loc) (ls : Array Slot), TH D (AT a s.heap.size) s.heap (wT d a t) H locs → lv_has ls 7 [(0, .ref (a 42)), (1, .int x1), (2, .int x2), (3, .int x3), (4, .int x4), (5, .int x5)] → fX4_shut_L48 N K n t x1 x2 x3 x4 x5 = some w → W p l e (rm_ 8 189) s m args below meth c H locs 0 0 (MQ below (QiT D d a w.1 w.2 s.heap.size) args s 0 0 (AT a s.heap.size)) (F0 m 48 ls []) := by
    intro K hE n
    induction n with
    | zero =>
      intro t x1 x2 x3 x4 x5 H locs ls hT hl hf
      cases hf
    | succ n ih =>
      intro t x1 x2 x3 x4 x5 H locs ls hT hl hf
      replace hf : fX4_shut_B48 N K (fX4_shut_L48 N K n) t x1 x2 x3 x4 x5 = some w := hf
      unfold fX4_shut_B48 at hf
      refine lv_iload hx hb dX4_shut_48 (lv_at hl 5 rfl) ?_
      refine lv_aload_n hx hb dX4_shut_50 rfl (lv_at hl 0 rfl) ?_
      refine t_get C hV hT 20 (by decide) q1267 rfl dX4_shut_51 ?_
      refine lv_iconst (v := 3) hx hb dX4_shut_54 (by decide) ?_
      refine g_ild C hV hT 10 3 rfl (vin_of (by decide)) (by decide) dX4_shut_55 ?_
      refine lv_icmp_ge (tgt := 123) hx hb dX4_shut_56 (by decide) (fun hc => ?_) (fun hc => ?_)
      · have hf := ite_t hc hf
        exact hE t x2 x3 x4 _ _ _ hT (lv_sub hl [0, 2, 3, 4] rfl) hf
      · have hf := ite_f hc hf
        refine lv_aload_n hx hb dX4_shut_59 rfl (lv_at hl 0 rfl) ?_
        refine lv_iload hx hb dX4_shut_60 (lv_at hl 5 rfl) ?_
        refine t_put C hV hT 23 (by decide) q1270 (tset_23 a t _) rfl rfl dX4_shut_62 (fun t_62 H locs et hT => ?_)
        have hf := lett_e et hf
        refine lv_aload_n hx hb dX4_shut_65 rfl (lv_at hl 0 rfl) ?_
        refine t_get C hV hT 20 (by decide) q1267 rfl dX4_shut_66 ?_
        refine lv_bipush (v := 11) hx hb dX4_shut_69 (by decide) ?_
        refine lv_iconst (v := 5) hx hb dX4_shut_71 (by decide) ?_
        refine lv_iload hx hb dX4_shut_72 (lv_at hl 5 rfl) ?_
        refine lv_imul hx hb dX4_shut_74 ?_
        refine lv_iadd hx hb dX4_shut_75 ?_
        refine lv_iconst (v := 0) hx hb dX4_shut_76 (by decide) ?_
        obtain ⟨hi, hf⟩ := ix_e hf
        refine t_ist C hV hT 10 _ rfl hi rfl (tast_20 d a t_62 _ _) dX4_shut_77 (fun t_77 H locs et hT => ?_)
        have hf := lett_e et hf
        refine lv_aload_n hx hb dX4_shut_78 rfl (lv_at hl 0 rfl) ?_
        refine t_get C hV hT 20 (by decide) q1267 rfl dX4_shut_79 ?_
        refine lv_bipush (v := 11) hx hb dX4_shut_82 (by decide) ?_
        refine lv_iconst (v := 5) hx hb dX4_shut_84 (by decide) ?_
        refine lv_iload hx hb dX4_shut_85 (lv_at hl 5 rfl) ?_
        refine lv_imul hx hb dX4_shut_87 ?_
        refine lv_iadd hx hb dX4_shut_88 ?_
        refine lv_iconst (v := 3) hx hb dX4_shut_89 (by decide) ?_
        refine lv_iadd hx hb dX4_shut_90 ?_
        refine lv_iconst (v := 0) hx hb dX4_shut_91 (by decide) ?_
        obtain ⟨hi, hf⟩ := ix_e hf
        refine t_ist C hV hT 10 _ rfl hi rfl (tast_20 d a t_77 _ _) dX4_shut_92 (fun t_92 H locs et hT => ?_)
        have hf := lett_e et hf
        refine lv_aload_n hx hb dX4_shut_93 rfl (lv_at hl 0 rfl) ?_
        refine lv_iload_n hx hb dX4_shut_94 rfl (lv_at hl 1 rfl) ?_
        obtain ⟨w_95, h_95, hf⟩ := bind_e hf
        refine t_calli (vs := [.int x1]) (rest := []) C hV hT (fun sz => mX4_waitedBy l D d a N t_92 x1 _ h_95 sz) (cwV 1 C.2.2.2.2 (lw_V q1744 q1746 qs106 q129 q1747) rfl rfl rfl hdX4_waitedBy ⟨Nat.le_of_ble_eq_true rfl, Nat.le_of_ble_eq_true rfl⟩) rfl hl.1 rfl (Nat.le_of_ble_eq_true rfl) dX4_shut_95 (fun H locs hT => ?_)
        refine lv_istore (lv' := [(6, .int w_95.1), (0, .ref (a 42)), (1, .int x1), (2, .int x2), (3, .int x3), (4, .int x4), (5, .int x5)]) hx hb dX4_shut_98 hl (by decide) rfl (fun ls hl => ?_)
        refine lv_iload hx hb dX4_shut_100 (lv_at hl 0 rfl) ?_
        refine lv_iload hx hb dX4_shut_102 (lv_at hl 5 rfl) ?_
        refine lv_icmp_lt (tgt := 110) hx hb dX4_shut_104 (by decide) (fun hc => ?_) (fun hc => ?_)
        · have hf := ite_t hc hf
          refine lv_iload hx hb dX4_shut_110 (lv_at hl 6 rfl) ?_
          refine lv_istore_n (lv' := [(3, .int x5), (6, .int w_95.1), (0, .ref (a 42)), (1, .int x1), (2, .int x2), (4, .int x4), (5, .int x5)]) hx hb dX4_shut_112 rfl hl (by decide) rfl (fun ls hl => ?_)
          refine lv_iload hx hb dX4_shut_113 (lv_at hl 1 rfl) ?_
          refine lv_istore (lv' := [(4, .int w_95.1), (3, .int x5), (6, .int w_95.1), (0, .ref (a 42)), (1, .int x1), (2, .int x2), (5, .int x5)]) hx hb dX4_shut_115 hl (by decide) rfl (fun ls hl => ?_)
          obtain ⟨x5_117, ex⟩ : ∃ y : Int32, y = (x5 + (1 : Int32)) := ⟨_, rfl⟩
          have hf := lett_e ex hf
          refine lv_iinc (v := x5_117) (lv' := [(5, .int x5_117), (4, .int w_95.1), (3, .int x5), (6, .int w_95.1), (0, .ref (a 42)), (1, .int x1), (2, .int x2)]) hx hb dX4_shut_117 hl (k := 6) rfl (by rw [ex]; rfl) (by decide) rfl (fun ls hl => ?_)
          refine lv_goto (tgt := 48) hx hb dX4_shut_120 (by decide) ?_
          exact ih w_95.2 x1 x2 x5 w_95.1 x5_117 _ _ _ hT (lv_sub hl [4, 5, 6, 2, 1, 0] rfl) hf
        · have hf := ite_f hc hf
          refine lv_goto (tgt := 117) hx hb dX4_shut_107 (by decide) ?_
          obtain ⟨x5_117, ex⟩ : ∃ y : Int32, y = (x5 + (1 : Int32)) := ⟨_, rfl⟩
          have hf := lett_e ex hf
          refine lv_iinc (v := x5_117) (lv' := [(5, .int x5_117), (6, .int w_95.1), (0, .ref (a 42)), (1, .int x1), (2, .int x2), (3, .int x3), (4, .int x4)]) hx hb dX4_shut_117 hl (k := 6) rfl (by rw [ex]; rfl) (by decide) rfl (fun ls hl => ?_)
          refine lv_goto (tgt := 48) hx hb dX4_shut_120 (by decide) ?_
          exact ih w_95.2 x1 x2 x3 x4 x5_117 _ _ _ hT (lv_sub hl [2, 3, 4, 5, 6, 0] rfl) hf
  refine W.eq (by rw [hargs]) (t_in (vs := [.ref (a 42), .int x1, .int x2]) (n := 7) (Nat.le_of_ble_eq_true rfl) (fun ls hl => ?_))
  have hl : lv_has ls 7 [(0, .ref (a 42)), (1, .int x1), (2, .int x2)] := hl
  unfold fX4_shut at hf
  skip
  refine lv_aload_n hx hb dX4_shut_0 rfl (lv_at hl 0 rfl) ?_
  obtain ⟨w_1, h_1, hf⟩ := bind_e hf
  refine t_calli (vs := []) (rest := []) C hV hT (fun sz => mX4_isJunction l D d a N t  _ h_1 sz) (cwV 0 C.2.2.2.2 (lw_V q1593 q1595 qs85 q129 q1596) rfl rfl rfl hdX4_isJunction ⟨Nat.le_of_ble_eq_true rfl, Nat.le_of_ble_eq_true rfl⟩) rfl hl.1 rfl (Nat.le_of_ble_eq_true rfl) dX4_shut_1 (fun H locs hT => ?_)
  refine lv_if_eq (tgt := 29) hx hb dX4_shut_4 (by decide) (fun hc => ?_) (fun hc => ?_)
  · have hf := ite_t hc hf
    refine lv_bipush (v := -2) hx hb dX4_shut_29 (by decide) ?_
    exact t_iret C hT hf hr hlocks dX4_shut_31
  · have hf := ite_f hc hf
    refine lv_iload_n hx hb dX4_shut_7 rfl (lv_at hl 1 rfl) ?_
    refine lv_i2l hx hb dX4_shut_8 rfl ?_
    refine lv_lconst (v := 1) hx hb dX4_shut_9 (by decide) ?_
    refine g_ldc2 (v := 60) C q1766 dX4_shut_10 ?_
    obtain ⟨w_13, h_13, hf⟩ := bind_e hf
    refine s_calli (vs := [.long (x1).toInt64, .long (1 : Int64), .long (60 : Int64)]) (rest := []) C (fun q h => Or.inr h) hT (fun sz => mX4_in l N (x1).toInt64 (1 : Int64) (60 : Int64) _ h_13 sz) (va_cwS 3 C.2.2.2.2 (lw_S q1448 q1449 q129 q1450) rfl rfl rfl hdX4_in ⟨Nat.le_of_ble_eq_true rfl, Nat.le_of_ble_eq_true rfl⟩) rfl hl.1 rfl (Nat.le_of_ble_eq_true rfl) dX4_shut_13 ⟨Nat.zero_le _, Nat.zero_le _⟩ (fun H locs hT => ?_)
    refine lv_if_eq (tgt := 29) hx hb dX4_shut_16 (by decide) (fun hc => ?_) (fun hc => ?_)
    · have hf := ite_t hc hf
      refine lv_bipush (v := -2) hx hb dX4_shut_29 (by decide) ?_
      exact t_iret C hT hf hr hlocks dX4_shut_31
    · have hf := ite_f hc hf
      refine lv_iload_n hx hb dX4_shut_19 rfl (lv_at hl 2 rfl) ?_
      refine lv_i2l hx hb dX4_shut_20 rfl ?_
      refine lv_lconst (v := 0) hx hb dX4_shut_21 (by decide) ?_
      refine lv_lconst (v := 1) hx hb dX4_shut_22 (by decide) ?_
      obtain ⟨w_23, h_23, hf⟩ := bind_e hf
      refine s_calli (vs := [.long (x2).toInt64, .long (0 : Int64), .long (1 : Int64)]) (rest := []) C (fun q h => Or.inr h) hT (fun sz => mX4_in l N (x2).toInt64 (0 : Int64) (1 : Int64) _ h_23 sz) (va_cwS 3 C.2.2.2.2 (lw_S q1448 q1449 q129 q1450) rfl rfl rfl hdX4_in ⟨Nat.le_of_ble_eq_true rfl, Nat.le_of_ble_eq_true rfl⟩) rfl hl.1 rfl (Nat.le_of_ble_eq_true rfl) dX4_shut_23 ⟨Nat.zero_le _, Nat.zero_le _⟩ (fun H locs hT => ?_)
      refine lv_if_ne (tgt := 32) hx hb dX4_shut_26 (by decide) (fun hc => ?_) (fun hc => ?_)
      · have hf := ite_t hc hf
        refine lv_aload_n hx hb dX4_shut_32 rfl (lv_at hl 0 rfl) ?_
        obtain ⟨w_33, h_33, hf⟩ := bind_e hf
        refine t_callv (vs := []) (rest := []) C hV hT (fun sz => mX4_keeps l D d a N w_1.2  _ h_33 sz) (cwV 0 C.2.2.2.2 (lw_V q1701 q1703 qs100 q129 q1704) rfl rfl rfl hdX4_keeps ⟨Nat.le_of_ble_eq_true rfl, Nat.le_of_ble_eq_true rfl⟩) rfl hl.1 rfl (Nat.le_of_ble_eq_true rfl) dX4_shut_33 (fun H locs hT => ?_)
        refine lv_iconst (v := -1) hx hb dX4_shut_36 (by decide) ?_
        refine lv_istore_n (lv' := [(3, .int (-1 : Int32)), (0, .ref (a 42)), (1, .int x1), (2, .int x2)]) hx hb dX4_shut_37 rfl hl (by decide) rfl (fun ls hl => ?_)
        refine lv_aload_n hx hb dX4_shut_38 rfl (lv_at hl 1 rfl) ?_
        refine lv_iload_n hx hb dX4_shut_39 rfl (lv_at hl 2 rfl) ?_
        obtain ⟨w_40, h_40, hf⟩ := bind_e hf
        refine t_calli (vs := [.int x1]) (rest := []) C hV hT (fun sz => mX4_waitedBy l D d a N w_33 x1 _ h_40 sz) (cwV 1 C.2.2.2.2 (lw_V q1744 q1746 qs106 q129 q1747) rfl rfl rfl hdX4_waitedBy ⟨Nat.le_of_ble_eq_true rfl, Nat.le_of_ble_eq_true rfl⟩) rfl hl.1 rfl (Nat.le_of_ble_eq_true rfl) dX4_shut_40 (fun H locs hT => ?_)
        refine lv_istore (lv' := [(4, .int w_40.1), (3, .int (-1 : Int32)), (0, .ref (a 42)), (1, .int x1), (2, .int x2)]) hx hb dX4_shut_43 hl (by decide) rfl (fun ls hl => ?_)
        refine lv_iconst (v := 0) hx hb dX4_shut_45 (by decide) ?_
        refine lv_istore (lv' := [(5, .int (0 : Int32)), (4, .int w_40.1), (3, .int (-1 : Int32)), (0, .ref (a 42)), (1, .int x1), (2, .int x2)]) hx hb dX4_shut_46 hl (by decide) rfl (fun ls hl => ?_)
        refine hL48 _ (fun t x2 x3 x4 H locs ls hT hl hf => ?_) N w_40.2 x1 x2 (-1 : Int32) w_40.1 (0 : Int32) _ _ _ hT (lv_sub hl [3, 4, 5, 2, 1, 0] rfl) hf
        refine lv_aload_n hx hb dX4_shut_123 rfl (lv_at hl 0 rfl) ?_
        refine lv_iconst (v := -1) hx hb dX4_shut_124 (by decide) ?_
        refine t_put C hV hT 23 (by decide) q1270 (tset_23 a t _) rfl rfl dX4_shut_125 (fun t_125 H locs et hT => ?_)
        have hf := lett_e et hf
        refine lv_iload_n hx hb dX4_shut_128 rfl (lv_at hl 1 rfl) ?_
        refine lv_if_ne (tgt := 136) hx hb dX4_shut_129 (by decide) (fun hc => ?_) (fun hc => ?_)
        · have hf := ite_t hc hf
          refine lv_iload hx hb dX4_shut_136 (lv_at hl 3 rfl) ?_
          exact t_iret C hT hf hr hlocks dX4_shut_138
        · have hf := ite_f (fun q => q hc) hf
          refine lv_iload_n hx hb dX4_shut_132 rfl (lv_at hl 2 rfl) ?_
          refine lv_goto (tgt := 138) hx hb dX4_shut_133 (by decide) ?_
          exact t_iret C hT hf hr hlocks dX4_shut_138
      · have hf := ite_f (fun q => q hc) hf
        refine lv_bipush (v := -2) hx hb dX4_shut_29 (by decide) ?_
        exact t_iret C hT hf hr hlocks dX4_shut_31
def fX4_longest_B64 (N : Nat) (K : TS → Int32 → Int32 → Int32 → Int32 → Int32 → Int32 → Option (Int32 × TS)) (kb : TS → Int32 → Int32 → Int32 → Int32 → Int32 → Int32 → Int32 → Option (Int32 × TS)) (t : TS) (x1 : Int32) (x2 : Int32) (x3 : Int32) (x4 : Int32) (x5 : Int32) (x6 : Int32) (x7 : Int32) : Option (Int32 × TS) :=
  (if (t.2.1 20 3) ≤ x7 then (K t x1 x2 x3 x4 x5 x6) else ((fX4_waitOn N t x7).bind fun w_78 => (if x3 < w_78.1 then ((fX4_waitOn N w_78.2 x7).bind fun w_91 => (lett ((w_91.2.2.1 20 10) - (1 : Int32)) fun x4_104 => (lett (x7 + (1 : Int32)) fun x7_110 => (kb w_91.2 x1 x2 w_91.1 x4_104 x7 x6 x7_110)))) else (lett (x7 + (1 : Int32)) fun x7_110 => (kb w_78.2 x1 x2 x3 x4 x5 x6 x7_110)))))
def fX4_longest_L64 (N : Nat) (K : TS → Int32 → Int32 → Int32 → Int32 → Int32 → Int32 → Option (Int32 × TS)) : Nat → TS → Int32 → Int32 → Int32 → Int32 → Int32 → Int32 → Int32 → Option (Int32 × TS)
  | 0 => fun _ _ _ _ _ _ _ _ => none
  | n + 1 => fun t x1 x2 x3 x4 x5 x6 x7 => fX4_longest_B64 N K (fX4_longest_L64 N K n) t x1 x2 x3 x4 x5 x6 x7
def fX4_longest_B50 (N : Nat) (K : TS → Int32 → Int32 → Int32 → Int32 → Option (Int32 × TS)) (kb : TS → Int32 → Int32 → Int32 → Int32 → Int32 → Int32 → Option (Int32 × TS)) (t : TS) (x1 : Int32) (x2 : Int32) (x3 : Int32) (x4 : Int32) (x5 : Int32) (x6 : Int32) : Option (Int32 × TS) :=
  (if x1 ≤ x6 then (K t x2 x3 x4 x5) else ((fX4_passes N t ).bind fun w_57 => (fX4_longest_L64 N (fun t x1 x2 x3 x4 x5 x6 => (lett (x6 + (1 : Int32)) fun x6_116 => (kb t x1 x2 x3 x4 x5 x6_116))) N w_57.2 x1 x2 x3 x4 x5 x6 (0 : Int32))))
def fX4_longest_L50 (N : Nat) (K : TS → Int32 → Int32 → Int32 → Int32 → Option (Int32 × TS)) : Nat → TS → Int32 → Int32 → Int32 → Int32 → Int32 → Int32 → Option (Int32 × TS)
  | 0 => fun _ _ _ _ _ _ _ => none
  | n + 1 => fun t x1 x2 x3 x4 x5 x6 => fX4_longest_B50 N K (fX4_longest_L50 N K n) t x1 x2 x3 x4 x5 x6
def fX4_longest (N : Nat) (t : TS) (x1 : Int32) (x2 : Int32) : Option (Int32 × TS) :=
  ((fX4_isJunction N t ).bind fun w_1 => (if w_1.1 = 0 then (some ((-1 : Int32), w_1.2)) else ((fX4_in N (x1).toInt64 (1 : Int64) (100 : Int64)).bind fun w_13 => (if w_13 = 0 then (some ((-1 : Int32), w_1.2)) else ((fX4_in N (x2).toInt64 (0 : Int64) (2 : Int64)).bind fun w_25 => (if ¬ w_25 = 0 then ((fX4_keeps N w_1.2 ).bind fun w_44 => (fX4_longest_L50 N (fun t x2 x3 x4 x5 => ((fX4_laysBack N t ).bind fun w_123 => (if ¬ x2 = 0 then (if ¬ x2 = (1 : Int32) then (some (x5, w_123)) else (some (x4, w_123))) else (if 0 ≤ x3 then (some (x3, w_123)) else (some ((0 : Int32), w_123)))))) N w_44 x1 x2 (-1 : Int32) (-2 : Int32) (-2 : Int32) (0 : Int32))) else (some ((-1 : Int32), w_1.2))))))))
theorem hdX4_longest : yX4_longest.cls = RX4 ∧ yX4_longest.cls ≠ "java/lang/invoke/MethodHandle" ∧ yX4_longest.cls ≠ "java/lang/invoke/VarHandle" ∧ (parseMethodDescriptor yX4_longest.desc).map (fun d => d.parameters.length) = some 2 := by decide +kernel
set_option maxHeartbeats 4000000 in
theorem mX4_longest (l : Launch) (D : va_G) (d : Nat → ClassId) (a : Nat → Nat) (N : Nat) (t : TS) (x1 : Int32) (x2 : Int32) (w : Int32 × TS) (hf : fX4_longest N t x1 x2 = some w) (sz : Nat) : Met l yX4_longest (ws_ yX4_longest cX4_longest 8 (some .int)) (rm_ 6 145) (PcT D d a [.int x1, .int x2] t sz) (QiT D d a w.1 w.2 sz) 0 0 (AT a sz) := by
  refine Met.ofW (cc := cX4_longest) (maxL := 8) (ret := (some .int)) plX4 rfl ?_
  intro p e s m args below meth c s₁ B hml hv
  obtain ⟨C, hV, hT, hr, hlocks, hargs, rfl⟩ := t_enter B hml rfl hv
  have hx := C.1
  have hb := C.2.1
  show W p l e (rm_ 6 145) s m args below meth c s.heap [] 0 0 (MQ below (QiT D d a w.1 w.2 s.heap.size) args s 0 0 (AT a s.heap.size)) _
  have hL50 : ∀ (K : TS → Int32 → Int32 → Int32 → Int32 → Option (Int32 × TS)), (∀ (t : TS) (x2 : Int32) (x3 : Int32) (x4 : Int32) (x5 : Int32) (H : Heap) (locs : List Loc) (ls : Array Slot), TH D (AT a s.heap.size) s.heap (wT d a t) H locs → lv_has ls 8 [(0, .ref (a 42)), (2, .int x2), (3, .int x3), (4, .int x4), (5, .int x5)] → K t x2 x3 x4 x5 = some w → W p l e (rm_ 6 145) s m args below meth c H locs 0 0 (MQ below (QiT D d a w.1 w.2 s.heap.size) args s 0 0 (AT a s.heap.size)) (F0 m 122 ls [])) → ∀ (n : Nat) (t : TS) (x1 : Int32) (x2 : Int32) (x3 : Int32) (x4 : Int32) (x5 : Int32) (x6 : Int32) (H : Heap) (locs : List Loc) (ls : Array Slot), TH D (AT a s.heap.size) s.heap (wT d a t) H locs → lv_has ls 8 [(0, .ref (a 42)), (1, .int x1), (2, .int x2), (3, .int x3), (4, .int x4), (5, .int x5), (6, .int x6)] → fX4_longest_L50 N K n t x1 x2 x3 x4 x5 x6 = some w → W p l e (rm_ 6 145) s m args below meth c H locs 0 0 (MQ below (QiT D d a w.1 w.2 s.heap.size) args s 0 0 (AT a s.heap.size)) (F0 m 50 ls []) := by
    intro K hE n
    induction n with
    | zero =>
      intro t x1 x2 x3 x4 x5 x6 H locs ls hT hl hf
      cases hf
    | succ n ih =>
      have hL64 : ∀ (K : TS → Int32 → Int32 → Int32 → Int32 → Int32 → Int32 → Option (Int32 × TS)), (∀ (t : TS) (x1 : Int32) (x2 : Int32) (x3 : Int32) (x4 : Int32) (x5 : Int32) (x6 : Int32) (H : Heap) (locs : List Loc) (ls : Array Slot), TH D (AT a s.heap.size) s.heap (wT d a t) H locs → lv_has ls 8 [(0, .ref (a 42)), (1, .int x1), (2, .int x2), (3, .int x3), (4, .int x4), (5, .int x5), (6, .int x6)] → K t x1 x2 x3 x4 x5 x6 = some w → W p l e (rm_ 6 145) s m args below meth c H locs 0 0 (MQ below (QiT D d a w.1 w.2 s.heap.size) args s 0 0 (AT a s.heap.size)) (F0 m 116 ls [])) → ∀ (n : Nat) (t : TS) (x1 : Int32) (x2 : Int32) (x3 : Int32) (x4 : Int32) (x5 : Int32) (x6 : Int32) (x7 : Int32) (H : Heap) (locs : List Loc) (ls : Array Slot), TH D (AT a s.heap.size) s.heap (wT d a t) H locs → lv_has ls 8 [(0, .ref (a 42)), (1, .int x1), (2, .int x2), (3, .int x3), (4, .int x4), (5, .int x5), (6, .int x6), (7, .int x7)] → fX4_longest_L64 N K n t x1 x2 x3 x4 x5 x6 x7 = some w → W p l e (rm_ 6 145) s m args below meth c H locs 0 0 (MQ below (QiT D d a w.1 w.2 s.heap.size) args s 0 0 (AT a s.heap.size)) (F0 m 64 ls []) := by
        intro K hE n
        induction n with
        | zero =>
          intro t x1 x2 x3 x4 x5 x6 x7 H locs ls hT hl hf
          cases hf
        | succ n ih =>
          intro t x1 x2 x3 x4 x5 x6 x7 H locs ls hT hl hf
          replace hf : fX4_longest_B64 N K (fX4_longest_L64 N K n) t x1 x2 x3 x4 x5 x6 x7 = some w := hf
          unfold fX4_longest_B64 at hf
          refine lv_iload hx hb dX4_longest_64 (lv_at hl 7 rfl) ?_
          refine lv_aload_n hx hb dX4_longest_66 rfl (lv_at hl 0 rfl) ?_
          refine t_get C hV hT 20 (by decide) q1267 rfl dX4_longest_67 ?_
          refine lv_iconst (v := 3) hx hb dX4_longest_70 (by decide) ?_
          refine g_ild C hV hT 10 3 rfl (vin_of (by decide)) (by decide) dX4_longest_71 ?_
          refine lv_icmp_ge (tgt := 116) hx hb dX4_longest_72 (by decide) (fun hc => ?_) (fun hc => ?_)
          · have hf := ite_t hc hf
            exact hE t x1 x2 x3 x4 x5 x6 _ _ _ hT (lv_sub hl [0, 1, 2, 3, 4, 5, 6] rfl) hf
          · have hf := ite_f hc hf
            refine lv_aload_n hx hb dX4_longest_75 rfl (lv_at hl 0 rfl) ?_
            refine lv_iload hx hb dX4_longest_76 (lv_at hl 7 rfl) ?_
            obtain ⟨w_78, h_78, hf⟩ := bind_e hf
            refine t_calli (vs := [.int x7]) (rest := []) C hV hT (fun sz => mX4_waitOn l D d a N t x7 _ h_78 sz) (cwV 1 C.2.2.2.2 (lw_V q1565 q1567 qs79 q129 q1568) rfl rfl rfl hdX4_waitOn ⟨Nat.le_of_ble_eq_true rfl, Nat.le_of_ble_eq_true rfl⟩) rfl hl.1 rfl (Nat.le_of_ble_eq_true rfl) dX4_longest_78 (fun H locs hT => ?_)
            refine lv_iload_n hx hb dX4_longest_81 rfl (lv_at hl 3 rfl) ?_
            refine lv_icmp_gt (tgt := 88) hx hb dX4_longest_82 (by decide) (fun hc => ?_) (fun hc => ?_)
            · have hf := ite_t hc hf
              refine lv_aload_n hx hb dX4_longest_88 rfl (lv_at hl 0 rfl) ?_
              refine lv_iload hx hb dX4_longest_89 (lv_at hl 7 rfl) ?_
              obtain ⟨w_91, h_91, hf⟩ := bind_e hf
              refine t_calli (vs := [.int x7]) (rest := []) C hV hT (fun sz => mX4_waitOn l D d a N w_78.2 x7 _ h_91 sz) (cwV 1 C.2.2.2.2 (lw_V q1565 q1567 qs79 q129 q1568) rfl rfl rfl hdX4_waitOn ⟨Nat.le_of_ble_eq_true rfl, Nat.le_of_ble_eq_true rfl⟩) rfl hl.1 rfl (Nat.le_of_ble_eq_true rfl) dX4_longest_91 (fun H locs hT => ?_)
              refine lv_istore_n (lv' := [(3, .int w_91.1), (0, .ref (a 42)), (1, .int x1), (2, .int x2), (4, .int x4), (5, .int x5), (6, .int x6), (7, .int x7)]) hx hb dX4_longest_94 rfl hl (by decide) rfl (fun ls hl => ?_)
              refine lv_aload_n hx hb dX4_longest_95 rfl (lv_at hl 1 rfl) ?_
              refine t_get C hV hT 20 (by decide) q1267 rfl dX4_longest_96 ?_
              refine lv_bipush (v := 10) hx hb dX4_longest_99 (by decide) ?_
              refine g_ild C hV hT 10 10 rfl (vin_of (by decide)) (by decide) dX4_longest_101 ?_
              refine lv_iconst (v := 1) hx hb dX4_longest_102 (by decide) ?_
              refine lv_isub hx hb dX4_longest_103 ?_
              refine lv_topi (fun x4_104 ex => ?_)
              have hf := lett_e ex hf
              refine lv_istore (lv' := [(4, .int x4_104), (3, .int w_91.1), (0, .ref (a 42)), (1, .int x1), (2, .int x2), (5, .int x5), (6, .int x6), (7, .int x7)]) hx hb dX4_longest_104 hl (by decide) rfl (fun ls hl => ?_)
              refine lv_iload hx hb dX4_longest_106 (lv_at hl 7 rfl) ?_
              refine lv_istore (lv' := [(5, .int x7), (4, .int x4_104), (3, .int w_91.1), (0, .ref (a 42)), (1, .int x1), (2, .int x2), (6, .int x6), (7, .int x7)]) hx hb dX4_longest_108 hl (by decide) rfl (fun ls hl => ?_)
              obtain ⟨x7_110, ex⟩ : ∃ y : Int32, y = (x7 + (1 : Int32)) := ⟨_, rfl⟩
              have hf := lett_e ex hf
              refine lv_iinc (v := x7_110) (lv' := [(7, .int x7_110), (5, .int x7), (4, .int x4_104), (3, .int w_91.1), (0, .ref (a 42)), (1, .int x1), (2, .int x2), (6, .int x6)]) hx hb dX4_longest_110 hl (k := 7) rfl (by rw [ex]; rfl) (by decide) rfl (fun ls hl => ?_)
              refine lv_goto (tgt := 64) hx hb dX4_longest_113 (by decide) ?_
              exact ih w_91.2 x1 x2 w_91.1 x4_104 x7 x6 x7_110 _ _ _ hT (lv_sub hl [4, 5, 6, 3, 2, 1, 7, 0] rfl) hf
            · have hf := ite_f hc hf
              refine lv_goto (tgt := 110) hx hb dX4_longest_85 (by decide) ?_
              obtain ⟨x7_110, ex⟩ : ∃ y : Int32, y = (x7 + (1 : Int32)) := ⟨_, rfl⟩
              have hf := lett_e ex hf
              refine lv_iinc (v := x7_110) (lv' := [(7, .int x7_110), (0, .ref (a 42)), (1, .int x1), (2, .int x2), (3, .int x3), (4, .int x4), (5, .int x5), (6, .int x6)]) hx hb dX4_longest_110 hl (k := 7) rfl (by rw [ex]; rfl) (by decide) rfl (fun ls hl => ?_)
              refine lv_goto (tgt := 64) hx hb dX4_longest_113 (by decide) ?_
              exact ih w_78.2 x1 x2 x3 x4 x5 x6 x7_110 _ _ _ hT (lv_sub hl [1, 2, 3, 4, 5, 6, 7, 0] rfl) hf
      intro t x1 x2 x3 x4 x5 x6 H locs ls hT hl hf
      replace hf : fX4_longest_B50 N K (fX4_longest_L50 N K n) t x1 x2 x3 x4 x5 x6 = some w := hf
      unfold fX4_longest_B50 at hf
      refine lv_iload hx hb dX4_longest_50 (lv_at hl 6 rfl) ?_
      refine lv_iload_n hx hb dX4_longest_52 rfl (lv_at hl 1 rfl) ?_
      refine lv_icmp_ge (tgt := 122) hx hb dX4_longest_53 (by decide) (fun hc => ?_) (fun hc => ?_)
      · have hf := ite_t hc hf
        exact hE t x2 x3 x4 x5 _ _ _ hT (lv_sub hl [0, 2, 3, 4, 5] rfl) hf
      · have hf := ite_f hc hf
        refine lv_aload_n hx hb dX4_longest_56 rfl (lv_at hl 0 rfl) ?_
        obtain ⟨w_57, h_57, hf⟩ := bind_e hf
        refine t_calli (vs := []) (rest := []) C hV hT (fun sz => mX4_passes l D d a N t  _ h_57 sz) (cwV 0 C.2.2.2.2 (lw_V q1609 q1611 qs87 q129 q1612) rfl rfl rfl hdX4_passes ⟨Nat.le_of_ble_eq_true rfl, Nat.le_of_ble_eq_true rfl⟩) rfl hl.1 rfl (Nat.le_of_ble_eq_true rfl) dX4_longest_57 (fun H locs hT => ?_)
        refine lv_pop hx hb dX4_longest_60 rfl ?_
        refine lv_iconst (v := 0) hx hb dX4_longest_61 (by decide) ?_
        refine lv_istore (lv' := [(7, .int (0 : Int32)), (0, .ref (a 42)), (1, .int x1), (2, .int x2), (3, .int x3), (4, .int x4), (5, .int x5), (6, .int x6)]) hx hb dX4_longest_62 hl (by decide) rfl (fun ls hl => ?_)
        refine hL64 _ (fun t x1 x2 x3 x4 x5 x6 H locs ls hT hl hf => ?_) N w_57.2 x1 x2 x3 x4 x5 x6 (0 : Int32) _ _ _ hT (lv_sub hl [1, 2, 3, 4, 5, 6, 7, 0] rfl) hf
        obtain ⟨x6_116, ex⟩ : ∃ y : Int32, y = (x6 + (1 : Int32)) := ⟨_, rfl⟩
        have hf := lett_e ex hf
        refine lv_iinc (v := x6_116) (lv' := [(6, .int x6_116), (0, .ref (a 42)), (1, .int x1), (2, .int x2), (3, .int x3), (4, .int x4), (5, .int x5)]) hx hb dX4_longest_116 hl (k := 6) rfl (by rw [ex]; rfl) (by decide) rfl (fun ls hl => ?_)
        refine lv_goto (tgt := 50) hx hb dX4_longest_119 (by decide) ?_
        exact ih t x1 x2 x3 x4 x5 x6_116 _ _ _ hT (lv_sub hl [1, 2, 3, 4, 5, 6, 0] rfl) hf
  refine W.eq (by rw [hargs]) (t_in (vs := [.ref (a 42), .int x1, .int x2]) (n := 8) (Nat.le_of_ble_eq_true rfl) (fun ls hl => ?_))
  have hl : lv_has ls 8 [(0, .ref (a 42)), (1, .int x1), (2, .int x2)] := hl
  unfold fX4_longest at hf
  skip
  refine lv_aload_n hx hb dX4_longest_0 rfl (lv_at hl 0 rfl) ?_
  obtain ⟨w_1, h_1, hf⟩ := bind_e hf
  refine t_calli (vs := []) (rest := []) C hV hT (fun sz => mX4_isJunction l D d a N t  _ h_1 sz) (cwV 0 C.2.2.2.2 (lw_V q1593 q1595 qs85 q129 q1596) rfl rfl rfl hdX4_isJunction ⟨Nat.le_of_ble_eq_true rfl, Nat.le_of_ble_eq_true rfl⟩) rfl hl.1 rfl (Nat.le_of_ble_eq_true rfl) dX4_longest_1 (fun H locs hT => ?_)
  refine lv_if_eq (tgt := 31) hx hb dX4_longest_4 (by decide) (fun hc => ?_) (fun hc => ?_)
  · have hf := ite_t hc hf
    refine lv_iconst (v := -1) hx hb dX4_longest_31 (by decide) ?_
    exact t_iret C hT hf hr hlocks dX4_longest_32
  · have hf := ite_f hc hf
    refine lv_iload_n hx hb dX4_longest_7 rfl (lv_at hl 1 rfl) ?_
    refine lv_i2l hx hb dX4_longest_8 rfl ?_
    refine lv_lconst (v := 1) hx hb dX4_longest_9 (by decide) ?_
    refine g_ldc2 (v := 100) C q1699 dX4_longest_10 ?_
    obtain ⟨w_13, h_13, hf⟩ := bind_e hf
    refine s_calli (vs := [.long (x1).toInt64, .long (1 : Int64), .long (100 : Int64)]) (rest := []) C (fun q h => Or.inr h) hT (fun sz => mX4_in l N (x1).toInt64 (1 : Int64) (100 : Int64) _ h_13 sz) (va_cwS 3 C.2.2.2.2 (lw_S q1448 q1449 q129 q1450) rfl rfl rfl hdX4_in ⟨Nat.le_of_ble_eq_true rfl, Nat.le_of_ble_eq_true rfl⟩) rfl hl.1 rfl (Nat.le_of_ble_eq_true rfl) dX4_longest_13 ⟨Nat.zero_le _, Nat.zero_le _⟩ (fun H locs hT => ?_)
    refine lv_if_eq (tgt := 31) hx hb dX4_longest_16 (by decide) (fun hc => ?_) (fun hc => ?_)
    · have hf := ite_t hc hf
      refine lv_iconst (v := -1) hx hb dX4_longest_31 (by decide) ?_
      exact t_iret C hT hf hr hlocks dX4_longest_32
    · have hf := ite_f hc hf
      refine lv_iload_n hx hb dX4_longest_19 rfl (lv_at hl 2 rfl) ?_
      refine lv_i2l hx hb dX4_longest_20 rfl ?_
      refine lv_lconst (v := 0) hx hb dX4_longest_21 (by decide) ?_
      refine g_ldc2 (v := 2) C q1700 dX4_longest_22 ?_
      obtain ⟨w_25, h_25, hf⟩ := bind_e hf
      refine s_calli (vs := [.long (x2).toInt64, .long (0 : Int64), .long (2 : Int64)]) (rest := []) C (fun q h => Or.inr h) hT (fun sz => mX4_in l N (x2).toInt64 (0 : Int64) (2 : Int64) _ h_25 sz) (va_cwS 3 C.2.2.2.2 (lw_S q1448 q1449 q129 q1450) rfl rfl rfl hdX4_in ⟨Nat.le_of_ble_eq_true rfl, Nat.le_of_ble_eq_true rfl⟩) rfl hl.1 rfl (Nat.le_of_ble_eq_true rfl) dX4_longest_25 ⟨Nat.zero_le _, Nat.zero_le _⟩ (fun H locs hT => ?_)
      refine lv_if_ne (tgt := 33) hx hb dX4_longest_28 (by decide) (fun hc => ?_) (fun hc => ?_)
      · have hf := ite_t hc hf
        refine lv_iconst (v := -1) hx hb dX4_longest_33 (by decide) ?_
        refine lv_istore_n (lv' := [(3, .int (-1 : Int32)), (0, .ref (a 42)), (1, .int x1), (2, .int x2)]) hx hb dX4_longest_34 rfl hl (by decide) rfl (fun ls hl => ?_)
        refine lv_bipush (v := -2) hx hb dX4_longest_35 (by decide) ?_
        refine lv_istore (lv' := [(4, .int (-2 : Int32)), (3, .int (-1 : Int32)), (0, .ref (a 42)), (1, .int x1), (2, .int x2)]) hx hb dX4_longest_37 hl (by decide) rfl (fun ls hl => ?_)
        refine lv_bipush (v := -2) hx hb dX4_longest_39 (by decide) ?_
        refine lv_istore (lv' := [(5, .int (-2 : Int32)), (4, .int (-2 : Int32)), (3, .int (-1 : Int32)), (0, .ref (a 42)), (1, .int x1), (2, .int x2)]) hx hb dX4_longest_41 hl (by decide) rfl (fun ls hl => ?_)
        refine lv_aload_n hx hb dX4_longest_43 rfl (lv_at hl 3 rfl) ?_
        obtain ⟨w_44, h_44, hf⟩ := bind_e hf
        refine t_callv (vs := []) (rest := []) C hV hT (fun sz => mX4_keeps l D d a N w_1.2  _ h_44 sz) (cwV 0 C.2.2.2.2 (lw_V q1701 q1703 qs100 q129 q1704) rfl rfl rfl hdX4_keeps ⟨Nat.le_of_ble_eq_true rfl, Nat.le_of_ble_eq_true rfl⟩) rfl hl.1 rfl (Nat.le_of_ble_eq_true rfl) dX4_longest_44 (fun H locs hT => ?_)
        refine lv_iconst (v := 0) hx hb dX4_longest_47 (by decide) ?_
        refine lv_istore (lv' := [(6, .int (0 : Int32)), (5, .int (-2 : Int32)), (4, .int (-2 : Int32)), (3, .int (-1 : Int32)), (0, .ref (a 42)), (1, .int x1), (2, .int x2)]) hx hb dX4_longest_48 hl (by decide) rfl (fun ls hl => ?_)
        refine hL50 _ (fun t x2 x3 x4 x5 H locs ls hT hl hf => ?_) N w_44 x1 x2 (-1 : Int32) (-2 : Int32) (-2 : Int32) (0 : Int32) _ _ _ hT (lv_sub hl [4, 5, 6, 3, 2, 1, 0] rfl) hf
        refine lv_aload_n hx hb dX4_longest_122 rfl (lv_at hl 0 rfl) ?_
        obtain ⟨w_123, h_123, hf⟩ := bind_e hf
        refine t_callv (vs := []) (rest := []) C hV hT (fun sz => mX4_laysBack l D d a N t  _ h_123 sz) (cwV 0 C.2.2.2.2 (lw_V q1709 q1711 qs102 q129 q1712) rfl rfl rfl hdX4_laysBack ⟨Nat.le_of_ble_eq_true rfl, Nat.le_of_ble_eq_true rfl⟩) rfl hl.1 rfl (Nat.le_of_ble_eq_true rfl) dX4_longest_123 (fun H locs hT => ?_)
        refine lv_iload_n hx hb dX4_longest_126 rfl (lv_at hl 1 rfl) ?_
        refine lv_if_ne (tgt := 142) hx hb dX4_longest_127 (by decide) (fun hc => ?_) (fun hc => ?_)
        · have hf := ite_t hc hf
          refine lv_iload_n hx hb dX4_longest_142 rfl (lv_at hl 1 rfl) ?_
          refine lv_iconst (v := 1) hx hb dX4_longest_143 (by decide) ?_
          refine lv_icmp_ne (tgt := 152) hx hb dX4_longest_144 (by decide) (fun hc => ?_) (fun hc => ?_)
          · have hf := ite_t hc hf
            refine lv_iload hx hb dX4_longest_152 (lv_at hl 4 rfl) ?_
            exact t_iret C hT hf hr hlocks dX4_longest_154
          · have hf := ite_f (fun q => q hc) hf
            refine lv_iload hx hb dX4_longest_147 (lv_at hl 3 rfl) ?_
            refine lv_goto (tgt := 154) hx hb dX4_longest_149 (by decide) ?_
            exact t_iret C hT hf hr hlocks dX4_longest_154
        · have hf := ite_f (fun q => q hc) hf
          refine lv_iload_n hx hb dX4_longest_130 rfl (lv_at hl 2 rfl) ?_
          refine lv_if_ge (tgt := 138) hx hb dX4_longest_131 (by decide) (fun hc => ?_) (fun hc => ?_)
          · have hf := ite_t hc hf
            refine lv_iload_n hx hb dX4_longest_138 rfl (lv_at hl 2 rfl) ?_
            refine lv_goto (tgt := 154) hx hb dX4_longest_139 (by decide) ?_
            exact t_iret C hT hf hr hlocks dX4_longest_154
          · have hf := ite_f hc hf
            refine lv_iconst (v := 0) hx hb dX4_longest_134 (by decide) ?_
            refine lv_goto (tgt := 154) hx hb dX4_longest_135 (by decide) ?_
            exact t_iret C hT hf hr hlocks dX4_longest_154
      · have hf := ite_f (fun q => q hc) hf
        refine lv_iconst (v := -1) hx hb dX4_longest_31 (by decide) ?_
        exact t_iret C hT hf hr hlocks dX4_longest_32
def fX4_isAlone_J36 (N : Nat) (K : TS → Option (Int32 × TS)) (kb : TS → Int32 → Int32 → Option (Int32 × TS)) (t : TS) (x1 : Int32) (x2 : Int32) (s0 : Int32) (s1 : Int32) : Option (Int32 × TS) :=
  (if s1 = s0 then (lett (x2 + (1 : Int32)) fun x2_41 => (kb t x1 x2_41)) else (some ((0 : Int32), t)))
def fX4_isAlone_J22 (N : Nat) (K : TS → Option (Int32 × TS)) (kb : TS → Int32 → Int32 → Option (Int32 × TS)) (t : TS) (x1 : Int32) (x2 : Int32) (s0 : Int32) : Option (Int32 × TS) :=
  (ix x2 6 (if (t.2.1 25 (x2).toNatClampNeg) ≤ 0 then (fX4_isAlone_J36 N K kb t x1 x2 (0 : Int32) s0) else (fX4_isAlone_J36 N K kb t x1 x2 (1 : Int32) s0)))
def fX4_isAlone_B2 (N : Nat) (K : TS → Option (Int32 × TS)) (kb : TS → Int32 → Int32 → Option (Int32 × TS)) (t : TS) (x1 : Int32) (x2 : Int32) : Option (Int32 × TS) :=
  (if (t.2.1 20 3) ≤ x2 then (K t) else (if ¬ x2 = x1 then (fX4_isAlone_J22 N K kb t x1 x2 (0 : Int32)) else (fX4_isAlone_J22 N K kb t x1 x2 (1 : Int32))))
def fX4_isAlone_L2 (N : Nat) (K : TS → Option (Int32 × TS)) : Nat → TS → Int32 → Int32 → Option (Int32 × TS)
  | 0 => fun _ _ _ => none
  | n + 1 => fun t x1 x2 => fX4_isAlone_B2 N K (fX4_isAlone_L2 N K n) t x1 x2
def fX4_isAlone (N : Nat) (t : TS) (x1 : Int32) : Option (Int32 × TS) :=
  (fX4_isAlone_L2 N (fun t => (some ((1 : Int32), t))) N t x1 (0 : Int32))
theorem hdX4_isAlone : yX4_isAlone.cls = RX4 ∧ yX4_isAlone.cls ≠ "java/lang/invoke/MethodHandle" ∧ yX4_isAlone.cls ≠ "java/lang/invoke/VarHandle" ∧ (parseMethodDescriptor yX4_isAlone.desc).map (fun d => d.parameters.length) = some 1 := by decide +kernel
set_option maxHeartbeats 4000000 in
theorem mX4_isAlone (l : Launch) (D : va_G) (d : Nat → ClassId) (a : Nat → Nat) (N : Nat) (t : TS) (x1 : Int32) (w : Int32 × TS) (hf : fX4_isAlone N t x1 = some w) (sz : Nat) : Met l yX4_isAlone (ws_ yX4_isAlone cX4_isAlone 3 (some .boolean)) (rm_ 0 0) (PcT D d a [.int x1] t sz) (QiT D d a w.1 w.2 sz) 0 0 (AT a sz) := by
  refine Met.ofW (cc := cX4_isAlone) (maxL := 3) (ret := (some .boolean)) plX4 rfl ?_
  intro p e s m args below meth c s₁ B hml hv
  obtain ⟨C, hV, hT, hr, hlocks, hargs, rfl⟩ := t_enter B hml rfl hv
  have hx := C.1
  have hb := C.2.1
  show W p l e (rm_ 0 0) s m args below meth c s.heap [] 0 0 (MQ below (QiT D d a w.1 w.2 s.heap.size) args s 0 0 (AT a s.heap.size)) _
  have hL2 : ∀ (K : TS → Option (Int32 × TS)), (∀ (t : TS) (H : Heap) (locs : List Loc) (ls : Array Slot), TH D (AT a s.heap.size) s.heap (wT d a t) H locs → lv_has ls 3 [] → K t = some w → W p l e (rm_ 0 0) s m args below meth c H locs 0 0 (MQ below (QiT D d a w.1 w.2 s.heap.size) args s 0 0 (AT a s.heap.size)) (F0 m 47 ls [])) → ∀ (n : Nat) (t : TS) (x1 : Int32) (x2 : Int32) (H : Heap) (locs : List Loc) (ls : Array Slot), TH D (AT a s.heap.size) s.heap (wT d a t) H locs → lv_has ls 3 [(0, .ref (a 42)), (1, .int x1), (2, .int x2)] → fX4_isAlone_L2 N K n t x1 x2 = some w → W p l e (rm_ 0 0) s m args below meth c H locs 0 0 (MQ below (QiT D d a w.1 w.2 s.heap.size) args s 0 0 (AT a s.heap.size)) (F0 m 2 ls []) := by
    intro K hE n
    induction n with
    | zero =>
      intro t x1 x2 H locs ls hT hl hf
      cases hf
    | succ n ih =>
      have hJ36 : ∀ (t : TS) (x1 : Int32) (x2 : Int32) (s0 : Int32) (s1 : Int32) (H : Heap) (locs : List Loc) (ls : Array Slot), TH D (AT a s.heap.size) s.heap (wT d a t) H locs → lv_has ls 3 [(0, .ref (a 42)), (1, .int x1), (2, .int x2)] → fX4_isAlone_J36 N K (fX4_isAlone_L2 N K n) t x1 x2 s0 s1 = some w → W p l e (rm_ 0 0) s m args below meth c H locs 0 0 (MQ below (QiT D d a w.1 w.2 s.heap.size) args s 0 0 (AT a s.heap.size)) (F0 m 36 ls [.int s0, .int s1]) := by
        intro t x1 x2 s0 s1 H locs ls hT hl hf
        unfold fX4_isAlone_J36 at hf
        refine lv_icmp_eq (tgt := 41) hx hb dX4_isAlone_36 (by decide) (fun hc => ?_) (fun hc => ?_)
        · have hf := ite_t hc hf
          obtain ⟨x2_41, ex⟩ : ∃ y : Int32, y = (x2 + (1 : Int32)) := ⟨_, rfl⟩
          have hf := lett_e ex hf
          refine lv_iinc (v := x2_41) (lv' := [(2, .int x2_41), (0, .ref (a 42)), (1, .int x1)]) hx hb dX4_isAlone_41 hl (k := 2) rfl (by rw [ex]; rfl) (by decide) rfl (fun ls hl => ?_)
          refine lv_goto (tgt := 2) hx hb dX4_isAlone_44 (by decide) ?_
          exact ih t x1 x2_41 _ _ _ hT (lv_sub hl [1, 2, 0] rfl) hf
        · have hf := ite_f hc hf
          refine lv_iconst (v := 0) hx hb dX4_isAlone_39 (by decide) ?_
          exact t_zret C hT hf (Or.inl rfl) hr hlocks dX4_isAlone_40
      have hJ22 : ∀ (t : TS) (x1 : Int32) (x2 : Int32) (s0 : Int32) (H : Heap) (locs : List Loc) (ls : Array Slot), TH D (AT a s.heap.size) s.heap (wT d a t) H locs → lv_has ls 3 [(0, .ref (a 42)), (1, .int x1), (2, .int x2)] → fX4_isAlone_J22 N K (fX4_isAlone_L2 N K n) t x1 x2 s0 = some w → W p l e (rm_ 0 0) s m args below meth c H locs 0 0 (MQ below (QiT D d a w.1 w.2 s.heap.size) args s 0 0 (AT a s.heap.size)) (F0 m 22 ls [.int s0]) := by
        intro t x1 x2 s0 H locs ls hT hl hf
        unfold fX4_isAlone_J22 at hf
        refine lv_aload_n hx hb dX4_isAlone_22 rfl (lv_at hl 0 rfl) ?_
        refine t_get C hV hT 25 (by decide) q1272 rfl dX4_isAlone_23 ?_
        refine lv_iload_n hx hb dX4_isAlone_26 rfl (lv_at hl 2 rfl) ?_
        obtain ⟨hi, hf⟩ := ix_e hf
        refine g_ild C hV hT 11 _ rfl hi rfl dX4_isAlone_27 ?_
        refine lv_if_le (tgt := 35) hx hb dX4_isAlone_28 (by decide) (fun hc => ?_) (fun hc => ?_)
        · have hf := ite_t hc hf
          refine lv_iconst (v := 0) hx hb dX4_isAlone_35 (by decide) ?_
          exact hJ36 t x1 x2 (0 : Int32) s0 _ _ _ hT hl hf
        · have hf := ite_f hc hf
          refine lv_iconst (v := 1) hx hb dX4_isAlone_31 (by decide) ?_
          refine lv_goto (tgt := 36) hx hb dX4_isAlone_32 (by decide) ?_
          exact hJ36 t x1 x2 (1 : Int32) s0 _ _ _ hT hl hf
      intro t x1 x2 H locs ls hT hl hf
      replace hf : fX4_isAlone_B2 N K (fX4_isAlone_L2 N K n) t x1 x2 = some w := hf
      unfold fX4_isAlone_B2 at hf
      refine lv_iload_n hx hb dX4_isAlone_2 rfl (lv_at hl 2 rfl) ?_
      refine lv_aload_n hx hb dX4_isAlone_3 rfl (lv_at hl 0 rfl) ?_
      refine t_get C hV hT 20 (by decide) q1267 rfl dX4_isAlone_4 ?_
      refine lv_iconst (v := 3) hx hb dX4_isAlone_7 (by decide) ?_
      refine g_ild C hV hT 10 3 rfl (vin_of (by decide)) (by decide) dX4_isAlone_8 ?_
      refine lv_icmp_ge (tgt := 47) hx hb dX4_isAlone_9 (by decide) (fun hc => ?_) (fun hc => ?_)
      · have hf := ite_t hc hf
        exact hE t _ _ _ hT (lv_sub hl [] rfl) hf
      · have hf := ite_f hc hf
        refine lv_iload_n hx hb dX4_isAlone_12 rfl (lv_at hl 2 rfl) ?_
        refine lv_iload_n hx hb dX4_isAlone_13 rfl (lv_at hl 1 rfl) ?_
        refine lv_icmp_ne (tgt := 21) hx hb dX4_isAlone_14 (by decide) (fun hc => ?_) (fun hc => ?_)
        · have hf := ite_t hc hf
          refine lv_iconst (v := 0) hx hb dX4_isAlone_21 (by decide) ?_
          exact hJ22 t x1 x2 (0 : Int32) _ _ _ hT hl hf
        · have hf := ite_f (fun q => q hc) hf
          refine lv_iconst (v := 1) hx hb dX4_isAlone_17 (by decide) ?_
          refine lv_goto (tgt := 22) hx hb dX4_isAlone_18 (by decide) ?_
          exact hJ22 t x1 x2 (1 : Int32) _ _ _ hT hl hf
  refine W.eq (by rw [hargs]) (t_in (vs := [.ref (a 42), .int x1]) (n := 3) (Nat.le_of_ble_eq_true rfl) (fun ls hl => ?_))
  have hl : lv_has ls 3 [(0, .ref (a 42)), (1, .int x1)] := hl
  unfold fX4_isAlone at hf
  skip
  refine lv_iconst (v := 0) hx hb dX4_isAlone_0 (by decide) ?_
  refine lv_istore_n (lv' := [(2, .int (0 : Int32)), (0, .ref (a 42)), (1, .int x1)]) hx hb dX4_isAlone_1 rfl hl (by decide) rfl (fun ls hl => ?_)
  refine hL2 _ (fun t H locs ls hT hl hf => ?_) N t x1 (0 : Int32) _ _ _ hT (lv_sub hl [1, 2, 0] rfl) hf
  refine lv_iconst (v := 1) hx hb dX4_isAlone_47 (by decide) ?_
  exact t_zret C hT hf (Or.inr rfl) hr hlocks dX4_isAlone_48
def fX4_cadenza_B19 (N : Nat) (K : TS → Int32 → Option (Int32 × TS)) (kb : TS → Int32 → Int32 → Int32 → Option (Int32 × TS)) (t : TS) (x1 : Int32) (x2 : Int32) (x3 : Int32) : Option (Int32 × TS) :=
  (if (200 : Int32) ≤ x3 then (K t x2) else (if 0 ≤ x2 then (K t x2) else ((fX4_passes N t ).bind fun w_31 => ((fX4_isAlone N w_31.2 x1).bind fun w_37 => (if w_37.1 = 0 then (lett (x3 + (1 : Int32)) fun x3_53 => (kb w_37.2 x1 x2 x3_53)) else (lett ((w_37.2.2.1 20 10) - (1 : Int32)) fun x2_52 => (lett (x3 + (1 : Int32)) fun x3_53 => (kb w_37.2 x1 x2_52 x3_53))))))))
def fX4_cadenza_L19 (N : Nat) (K : TS → Int32 → Option (Int32 × TS)) : Nat → TS → Int32 → Int32 → Int32 → Option (Int32 × TS)
  | 0 => fun _ _ _ _ => none
  | n + 1 => fun t x1 x2 x3 => fX4_cadenza_B19 N K (fX4_cadenza_L19 N K n) t x1 x2 x3
def fX4_cadenza_J59 (N : Nat) (t : TS) (x2 : Int32) : Option (Int32 × TS) :=
  ((fX4_laysBack N t ).bind fun w_60 => (some (x2, w_60)))
def fX4_cadenza (N : Nat) (t : TS) (x1 : Int32) : Option (Int32 × TS) :=
  ((fX4_isRoad N t x1).bind fun w_2 => (if ¬ w_2.1 = 0 then ((fX4_keeps N w_2.2 ).bind fun w_14 => (fX4_cadenza_L19 N (fun t x2 => (fX4_cadenza_J59 N t x2)) N w_14 x1 (-2 : Int32) (0 : Int32))) else (some ((-1 : Int32), w_2.2))))
theorem hdX4_cadenza : yX4_cadenza.cls = RX4 ∧ yX4_cadenza.cls ≠ "java/lang/invoke/MethodHandle" ∧ yX4_cadenza.cls ≠ "java/lang/invoke/VarHandle" ∧ (parseMethodDescriptor yX4_cadenza.desc).map (fun d => d.parameters.length) = some 1 := by decide +kernel
set_option maxHeartbeats 4000000 in
theorem mX4_cadenza (l : Launch) (D : va_G) (d : Nat → ClassId) (a : Nat → Nat) (N : Nat) (t : TS) (x1 : Int32) (w : Int32 × TS) (hf : fX4_cadenza N t x1 = some w) (sz : Nat) : Met l yX4_cadenza (ws_ yX4_cadenza cX4_cadenza 4 (some .int)) (rm_ 6 145) (PcT D d a [.int x1] t sz) (QiT D d a w.1 w.2 sz) 0 0 (AT a sz) := by
  refine Met.ofW (cc := cX4_cadenza) (maxL := 4) (ret := (some .int)) plX4 rfl ?_
  intro p e s m args below meth c s₁ B hml hv
  obtain ⟨C, hV, hT, hr, hlocks, hargs, rfl⟩ := t_enter B hml rfl hv
  have hx := C.1
  have hb := C.2.1
  show W p l e (rm_ 6 145) s m args below meth c s.heap [] 0 0 (MQ below (QiT D d a w.1 w.2 s.heap.size) args s 0 0 (AT a s.heap.size)) _
  have hL19 : ∀ (K : TS → Int32 → Option (Int32 × TS)), (∀ (t : TS) (x2 : Int32) (H : Heap) (locs : List Loc) (ls : Array Slot), TH D (AT a s.heap.size) s.heap (wT d a t) H locs → lv_has ls 4 [(0, .ref (a 42)), (2, .int x2)] → K t x2 = some w → W p l e (rm_ 6 145) s m args below meth c H locs 0 0 (MQ below (QiT D d a w.1 w.2 s.heap.size) args s 0 0 (AT a s.heap.size)) (F0 m 59 ls [])) → ∀ (n : Nat) (t : TS) (x1 : Int32) (x2 : Int32) (x3 : Int32) (H : Heap) (locs : List Loc) (ls : Array Slot), TH D (AT a s.heap.size) s.heap (wT d a t) H locs → lv_has ls 4 [(0, .ref (a 42)), (1, .int x1), (2, .int x2), (3, .int x3)] → fX4_cadenza_L19 N K n t x1 x2 x3 = some w → W p l e (rm_ 6 145) s m args below meth c H locs 0 0 (MQ below (QiT D d a w.1 w.2 s.heap.size) args s 0 0 (AT a s.heap.size)) (F0 m 19 ls []) := by
    intro K hE n
    induction n with
    | zero =>
      intro t x1 x2 x3 H locs ls hT hl hf
      cases hf
    | succ n ih =>
      intro t x1 x2 x3 H locs ls hT hl hf
      replace hf : fX4_cadenza_B19 N K (fX4_cadenza_L19 N K n) t x1 x2 x3 = some w := hf
      unfold fX4_cadenza_B19 at hf
      refine lv_iload_n hx hb dX4_cadenza_19 rfl (lv_at hl 3 rfl) ?_
      refine lv_sipush (v := 200) hx hb dX4_cadenza_20 (by decide) ?_
      refine lv_icmp_ge (tgt := 59) hx hb dX4_cadenza_23 (by decide) (fun hc => ?_) (fun hc => ?_)
      · have hf := ite_t hc hf
        exact hE t x2 _ _ _ hT (lv_sub hl [0, 2] rfl) hf
      · have hf := ite_f hc hf
        refine lv_iload_n hx hb dX4_cadenza_26 rfl (lv_at hl 2 rfl) ?_
        refine lv_if_ge (tgt := 59) hx hb dX4_cadenza_27 (by decide) (fun hc => ?_) (fun hc => ?_)
        · have hf := ite_t hc hf
          exact hE t x2 _ _ _ hT (lv_sub hl [0, 2] rfl) hf
        · have hf := ite_f hc hf
          refine lv_aload_n hx hb dX4_cadenza_30 rfl (lv_at hl 0 rfl) ?_
          obtain ⟨w_31, h_31, hf⟩ := bind_e hf
          refine t_calli (vs := []) (rest := []) C hV hT (fun sz => mX4_passes l D d a N t  _ h_31 sz) (cwV 0 C.2.2.2.2 (lw_V q1609 q1611 qs87 q129 q1612) rfl rfl rfl hdX4_passes ⟨Nat.le_of_ble_eq_true rfl, Nat.le_of_ble_eq_true rfl⟩) rfl hl.1 rfl (Nat.le_of_ble_eq_true rfl) dX4_cadenza_31 (fun H locs hT => ?_)
          refine lv_pop hx hb dX4_cadenza_34 rfl ?_
          refine lv_aload_n hx hb dX4_cadenza_35 rfl (lv_at hl 0 rfl) ?_
          refine lv_iload_n hx hb dX4_cadenza_36 rfl (lv_at hl 1 rfl) ?_
          obtain ⟨w_37, h_37, hf⟩ := bind_e hf
          refine t_calli (vs := [.int x1]) (rest := []) C hV hT (fun sz => mX4_isAlone l D d a N w_31.2 x1 _ h_37 sz) (cwV 1 C.2.2.2.2 (lw_V q1783 q1785 qs110 q129 q1786) rfl rfl rfl hdX4_isAlone ⟨Nat.le_of_ble_eq_true rfl, Nat.le_of_ble_eq_true rfl⟩) rfl hl.1 rfl (Nat.le_of_ble_eq_true rfl) dX4_cadenza_37 (fun H locs hT => ?_)
          refine lv_if_eq (tgt := 53) hx hb dX4_cadenza_40 (by decide) (fun hc => ?_) (fun hc => ?_)
          · have hf := ite_t hc hf
            obtain ⟨x3_53, ex⟩ : ∃ y : Int32, y = (x3 + (1 : Int32)) := ⟨_, rfl⟩
            have hf := lett_e ex hf
            refine lv_iinc (v := x3_53) (lv' := [(3, .int x3_53), (0, .ref (a 42)), (1, .int x1), (2, .int x2)]) hx hb dX4_cadenza_53 hl (k := 3) rfl (by rw [ex]; rfl) (by decide) rfl (fun ls hl => ?_)
            refine lv_goto (tgt := 19) hx hb dX4_cadenza_56 (by decide) ?_
            exact ih w_37.2 x1 x2 x3_53 _ _ _ hT (lv_sub hl [1, 2, 3, 0] rfl) hf
          · have hf := ite_f hc hf
            refine lv_aload_n hx hb dX4_cadenza_43 rfl (lv_at hl 0 rfl) ?_
            refine t_get C hV hT 20 (by decide) q1267 rfl dX4_cadenza_44 ?_
            refine lv_bipush (v := 10) hx hb dX4_cadenza_47 (by decide) ?_
            refine g_ild C hV hT 10 10 rfl (vin_of (by decide)) (by decide) dX4_cadenza_49 ?_
            refine lv_iconst (v := 1) hx hb dX4_cadenza_50 (by decide) ?_
            refine lv_isub hx hb dX4_cadenza_51 ?_
            refine lv_topi (fun x2_52 ex => ?_)
            have hf := lett_e ex hf
            refine lv_istore_n (lv' := [(2, .int x2_52), (0, .ref (a 42)), (1, .int x1), (3, .int x3)]) hx hb dX4_cadenza_52 rfl hl (by decide) rfl (fun ls hl => ?_)
            obtain ⟨x3_53, ex⟩ : ∃ y : Int32, y = (x3 + (1 : Int32)) := ⟨_, rfl⟩
            have hf := lett_e ex hf
            refine lv_iinc (v := x3_53) (lv' := [(3, .int x3_53), (2, .int x2_52), (0, .ref (a 42)), (1, .int x1)]) hx hb dX4_cadenza_53 hl (k := 3) rfl (by rw [ex]; rfl) (by decide) rfl (fun ls hl => ?_)
            refine lv_goto (tgt := 19) hx hb dX4_cadenza_56 (by decide) ?_
            exact ih w_37.2 x1 x2_52 x3_53 _ _ _ hT (lv_sub hl [2, 3, 1, 0] rfl) hf
  have hJ59 : ∀ (t : TS) (x2 : Int32) (H : Heap) (locs : List Loc) (ls : Array Slot), TH D (AT a s.heap.size) s.heap (wT d a t) H locs → lv_has ls 4 [(0, .ref (a 42)), (2, .int x2)] → fX4_cadenza_J59 N t x2 = some w → W p l e (rm_ 6 145) s m args below meth c H locs 0 0 (MQ below (QiT D d a w.1 w.2 s.heap.size) args s 0 0 (AT a s.heap.size)) (F0 m 59 ls []) := by
    intro t x2 H locs ls hT hl hf
    unfold fX4_cadenza_J59 at hf
    refine lv_aload_n hx hb dX4_cadenza_59 rfl (lv_at hl 0 rfl) ?_
    obtain ⟨w_60, h_60, hf⟩ := bind_e hf
    refine t_callv (vs := []) (rest := []) C hV hT (fun sz => mX4_laysBack l D d a N t  _ h_60 sz) (cwV 0 C.2.2.2.2 (lw_V q1709 q1711 qs102 q129 q1712) rfl rfl rfl hdX4_laysBack ⟨Nat.le_of_ble_eq_true rfl, Nat.le_of_ble_eq_true rfl⟩) rfl hl.1 rfl (Nat.le_of_ble_eq_true rfl) dX4_cadenza_60 (fun H locs hT => ?_)
    refine lv_iload_n hx hb dX4_cadenza_63 rfl (lv_at hl 1 rfl) ?_
    exact t_iret C hT hf hr hlocks dX4_cadenza_64
  refine W.eq (by rw [hargs]) (t_in (vs := [.ref (a 42), .int x1]) (n := 4) (Nat.le_of_ble_eq_true rfl) (fun ls hl => ?_))
  have hl : lv_has ls 4 [(0, .ref (a 42)), (1, .int x1)] := hl
  unfold fX4_cadenza at hf
  skip
  refine lv_aload_n hx hb dX4_cadenza_0 rfl (lv_at hl 0 rfl) ?_
  refine lv_iload_n hx hb dX4_cadenza_1 rfl (lv_at hl 1 rfl) ?_
  obtain ⟨w_2, h_2, hf⟩ := bind_e hf
  refine t_calli (vs := [.int x1]) (rest := []) C hV hT (fun sz => mX4_isRoad l D d a N t x1 _ h_2 sz) (cwV 1 C.2.2.2.2 (lw_V q1561 q1563 qs78 q129 q1564) rfl rfl rfl hdX4_isRoad ⟨Nat.le_of_ble_eq_true rfl, Nat.le_of_ble_eq_true rfl⟩) rfl hl.1 rfl (Nat.le_of_ble_eq_true rfl) dX4_cadenza_2 (fun H locs hT => ?_)
  refine lv_if_ne (tgt := 10) hx hb dX4_cadenza_5 (by decide) (fun hc => ?_) (fun hc => ?_)
  · have hf := ite_t hc hf
    refine lv_bipush (v := -2) hx hb dX4_cadenza_10 (by decide) ?_
    refine lv_istore_n (lv' := [(2, .int (-2 : Int32)), (0, .ref (a 42)), (1, .int x1)]) hx hb dX4_cadenza_12 rfl hl (by decide) rfl (fun ls hl => ?_)
    refine lv_aload_n hx hb dX4_cadenza_13 rfl (lv_at hl 1 rfl) ?_
    obtain ⟨w_14, h_14, hf⟩ := bind_e hf
    refine t_callv (vs := []) (rest := []) C hV hT (fun sz => mX4_keeps l D d a N w_2.2  _ h_14 sz) (cwV 0 C.2.2.2.2 (lw_V q1701 q1703 qs100 q129 q1704) rfl rfl rfl hdX4_keeps ⟨Nat.le_of_ble_eq_true rfl, Nat.le_of_ble_eq_true rfl⟩) rfl hl.1 rfl (Nat.le_of_ble_eq_true rfl) dX4_cadenza_14 (fun H locs hT => ?_)
    refine lv_iconst (v := 0) hx hb dX4_cadenza_17 (by decide) ?_
    refine lv_istore_n (lv' := [(3, .int (0 : Int32)), (2, .int (-2 : Int32)), (0, .ref (a 42)), (1, .int x1)]) hx hb dX4_cadenza_18 rfl hl (by decide) rfl (fun ls hl => ?_)
    refine hL19 _ (fun t x2 H locs ls hT hl hf => ?_) N w_14 x1 (-2 : Int32) (0 : Int32) _ _ _ hT (lv_sub hl [2, 3, 1, 0] rfl) hf
    exact hJ59 t x2 _ _ _ hT hl hf
  · have hf := ite_f (fun q => q hc) hf
    refine lv_iconst (v := -1) hx hb dX4_cadenza_8 (by decide) ?_
    exact t_iret C hT hf hr hlocks dX4_cadenza_9
def fX4_hasThen (N : Nat) (t : TS) (x1 : Int32) (x2 : Int32) : Option (Int32 × TS) :=
  ((fX4_wentFrom N t x1).bind fun w_2 => ((fX4_waitOn N w_2.2 x1).bind fun w_9 => (some (((w_2.1 - x2) - (w_9.1 / (3 : Int32))), w_9.2))))
theorem hdX4_hasThen : yX4_hasThen.cls = RX4 ∧ yX4_hasThen.cls ≠ "java/lang/invoke/MethodHandle" ∧ yX4_hasThen.cls ≠ "java/lang/invoke/VarHandle" ∧ (parseMethodDescriptor yX4_hasThen.desc).map (fun d => d.parameters.length) = some 2 := by decide +kernel
set_option maxHeartbeats 4000000 in
theorem mX4_hasThen (l : Launch) (D : va_G) (d : Nat → ClassId) (a : Nat → Nat) (N : Nat) (t : TS) (x1 : Int32) (x2 : Int32) (w : Int32 × TS) (hf : fX4_hasThen N t x1 x2 = some w) (sz : Nat) : Met l yX4_hasThen (ws_ yX4_hasThen cX4_hasThen 3 (some .int)) (rm_ 1 21) (PcT D d a [.int x1, .int x2] t sz) (QiT D d a w.1 w.2 sz) 0 0 (AT a sz) := by
  refine Met.ofW (cc := cX4_hasThen) (maxL := 3) (ret := (some .int)) plX4 rfl ?_
  intro p e s m args below meth c s₁ B hml hv
  obtain ⟨C, hV, hT, hr, hlocks, hargs, rfl⟩ := t_enter B hml rfl hv
  have hx := C.1
  have hb := C.2.1
  show W p l e (rm_ 1 21) s m args below meth c s.heap [] 0 0 (MQ below (QiT D d a w.1 w.2 s.heap.size) args s 0 0 (AT a s.heap.size)) _
  refine W.eq (by rw [hargs]) (t_in (vs := [.ref (a 42), .int x1, .int x2]) (n := 3) (Nat.le_of_ble_eq_true rfl) (fun ls hl => ?_))
  have hl : lv_has ls 3 [(0, .ref (a 42)), (1, .int x1), (2, .int x2)] := hl
  unfold fX4_hasThen at hf
  skip
  refine lv_aload_n hx hb dX4_hasThen_0 rfl (lv_at hl 0 rfl) ?_
  refine lv_iload_n hx hb dX4_hasThen_1 rfl (lv_at hl 1 rfl) ?_
  obtain ⟨w_2, h_2, hf⟩ := bind_e hf
  refine t_calli (vs := [.int x1]) (rest := []) C hV hT (fun sz => mX4_wentFrom l D d a N t x1 _ h_2 sz) (cwV 1 C.2.2.2.2 (lw_V q1573 q1575 qs81 q129 q1576) rfl rfl rfl hdX4_wentFrom ⟨Nat.le_of_ble_eq_true rfl, Nat.le_of_ble_eq_true rfl⟩) rfl hl.1 rfl (Nat.le_of_ble_eq_true rfl) dX4_hasThen_2 (fun H locs hT => ?_)
  refine lv_iload_n hx hb dX4_hasThen_5 rfl (lv_at hl 2 rfl) ?_
  refine lv_isub hx hb dX4_hasThen_6 ?_
  refine lv_aload_n hx hb dX4_hasThen_7 rfl (lv_at hl 0 rfl) ?_
  refine lv_iload_n hx hb dX4_hasThen_8 rfl (lv_at hl 1 rfl) ?_
  obtain ⟨w_9, h_9, hf⟩ := bind_e hf
  refine t_calli (vs := [.int x1]) (rest := [.int (w_2.1 - x2)]) C hV hT (fun sz => mX4_waitOn l D d a N w_2.2 x1 _ h_9 sz) (cwV 1 C.2.2.2.2 (lw_V q1565 q1567 qs79 q129 q1568) rfl rfl rfl hdX4_waitOn ⟨Nat.le_of_ble_eq_true rfl, Nat.le_of_ble_eq_true rfl⟩) rfl hl.1 rfl (Nat.le_of_ble_eq_true rfl) dX4_hasThen_9 (fun H locs hT => ?_)
  refine lv_iconst (v := 3) hx hb dX4_hasThen_12 (by decide) ?_
  refine lv_idiv hx hb dX4_hasThen_13 (by decide) ?_
  refine lv_isub hx hb dX4_hasThen_14 ?_
  exact t_iret C hT hf hr hlocks dX4_hasThen_15
def fX4_fillsRests_B43 (N : Nat) (K : TS → Int32 → Int32 → Int32 → Int32 → Option (TS)) (kb : TS → Int32 → Int32 → Int32 → Int32 → Int32 → Int32 → Int32 → Int32 → Option (TS)) (t : TS) (x1 : Int32) (x2 : Int32) (x3 : Int32) (x4 : Int32) (x5 : Int32) (x6 : Int32) (x7 : Int32) (x8 : Int32) : Option (TS) :=
  (if (25 : Int32) ≤ x8 then (K t x1 x2 x4 x5) else (ix ((54 : Int32) + x1) 121 (lett (tsA t 20 (((54 : Int32) + x1)).toNatClampNeg ((1 : Int32) + ((2 : Int32) * (x8 / (5 : Int32))))) fun t_66 => (ix ((54 : Int32) + x2) 121 (lett (tsA t_66 20 (((54 : Int32) + x2)).toNatClampNeg ((1 : Int32) + ((2 : Int32) * (irem x8 (5 : Int32))))) fun t_83 => ((fX4_passesAll N t_83 x3).bind fun w_86 => ((fX4_hasThen N w_86 x1 x6).bind fun w_101 => (ix ((2 : Int32) * x8) 50 (lett (tsA w_101.2 33 (((2 : Int32) * x8)).toNatClampNeg w_101.1) fun t_104 => ((fX4_hasThen N t_104 x2 x7).bind fun w_119 => (ix (((2 : Int32) * x8) + (1 : Int32)) 50 (lett (tsA w_119.2 33 ((((2 : Int32) * x8) + (1 : Int32))).toNatClampNeg w_119.1) fun t_122 => ((fX4_laysBack N t_122 ).bind fun w_124 => (lett (x8 + (1 : Int32)) fun x8_127 => (kb w_124 x1 x2 x3 x4 x5 x6 x7 x8_127)))))))))))))))
def fX4_fillsRests_L43 (N : Nat) (K : TS → Int32 → Int32 → Int32 → Int32 → Option (TS)) : Nat → TS → Int32 → Int32 → Int32 → Int32 → Int32 → Int32 → Int32 → Int32 → Option (TS)
  | 0 => fun _ _ _ _ _ _ _ _ _ => none
  | n + 1 => fun t x1 x2 x3 x4 x5 x6 x7 x8 => fX4_fillsRests_B43 N K (fX4_fillsRests_L43 N K n) t x1 x2 x3 x4 x5 x6 x7 x8
def fX4_fillsRests (N : Nat) (t : TS) (x1 : Int32) (x2 : Int32) (x3 : Int32) : Option (TS) :=
  (ix ((54 : Int32) + x1) 121 (lett (t.2.1 20 (((54 : Int32) + x1)).toNatClampNeg) fun x4_9 => (ix ((54 : Int32) + x2) 121 (lett (t.2.1 20 (((54 : Int32) + x2)).toNatClampNeg) fun x5_20 => ((fX4_wentFrom N t x1).bind fun w_24 => ((fX4_wentFrom N w_24.2 x2).bind fun w_31 => ((fX4_keeps N w_31.2 ).bind fun w_37 => (fX4_fillsRests_L43 N (fun t x1 x2 x4 x5 => (ix ((54 : Int32) + x1) 121 (lett (tsA t 20 (((54 : Int32) + x1)).toNatClampNeg x4) fun t_143 => (ix ((54 : Int32) + x2) 121 (lett (tsA t_143 20 (((54 : Int32) + x2)).toNatClampNeg x5) fun t_154 => (some t_154)))))) N w_37 x1 x2 x3 x4_9 x5_20 w_24.1 w_31.1 (0 : Int32)))))))))
theorem hdX4_fillsRests : yX4_fillsRests.cls = RX4 ∧ yX4_fillsRests.cls ≠ "java/lang/invoke/MethodHandle" ∧ yX4_fillsRests.cls ≠ "java/lang/invoke/VarHandle" ∧ (parseMethodDescriptor yX4_fillsRests.desc).map (fun d => d.parameters.length) = some 3 := by decide +kernel
set_option maxHeartbeats 4000000 in
theorem mX4_fillsRests (l : Launch) (D : va_G) (d : Nat → ClassId) (a : Nat → Nat) (N : Nat) (t : TS) (x1 : Int32) (x2 : Int32) (x3 : Int32) (w : TS) (hf : fX4_fillsRests N t x1 x2 x3 = some w) (sz : Nat) : Met l yX4_fillsRests (ws_ yX4_fillsRests cX4_fillsRests 9 none) (rm_ 7 167) (PcT D d a [.int x1, .int x2, .int x3] t sz) (QvT D d a w sz) 0 0 (AT a sz) := by
  refine Met.ofW (cc := cX4_fillsRests) (maxL := 9) (ret := none) plX4 rfl ?_
  intro p e s m args below meth c s₁ B hml hv
  obtain ⟨C, hV, hT, hr, hlocks, hargs, rfl⟩ := t_enter B hml rfl hv
  have hx := C.1
  have hb := C.2.1
  show W p l e (rm_ 7 167) s m args below meth c s.heap [] 0 0 (MQ below (QvT D d a w s.heap.size) args s 0 0 (AT a s.heap.size)) _
  have hL43 : ∀ (K : TS → Int32 → Int32 → Int32 → Int32 → Option (TS)), (∀ (t : TS) (x1 : Int32) (x2 : Int32) (x4 : Int32) (x5 : Int32) (H : Heap) (locs : List Loc) (ls : Array Slot), TH D (AT a s.heap.size) s.heap (wT d a t) H locs → lv_has ls 9 [(0, .ref (a 42)), (1, .int x1), (2, .int x2), (4, .int x4), (5, .int x5)] → K t x1 x2 x4 x5 = some w → W p l e (rm_ 7 167) s m args below meth c H locs 0 0 (MQ below (QvT D d a w s.heap.size) args s 0 0 (AT a s.heap.size)) (F0 m 133 ls [])) → ∀ (n : Nat) (t : TS) (x1 : Int32) (x2 : Int32) (x3 : Int32) (x4 : Int32) (x5 : Int32) (x6 : Int32) (x7 : Int32) (x8 : Int32) (H : Heap) (locs : List Loc) (ls : Array Slot), TH D (AT a s.heap.size) s.heap (wT d a t) H locs → lv_has ls 9 [(0, .ref (a 42)), (1, .int x1), (2, .int x2), (3, .int x3), (4, .int x4), (5, .int x5), (6, .int x6), (7, .int x7), (8, .int x8)] → fX4_fillsRests_L43 N K n t x1 x2 x3 x4 x5 x6 x7 x8 = some w → W p l e (rm_ 7 167) s m args below meth c H locs 0 0 (MQ below (QvT D d a w s.heap.size) args s 0 0 (AT a s.heap.size)) (F0 m 43 ls []) := by
    intro K hE n
    induction n with
    | zero =>
      intro t x1 x2 x3 x4 x5 x6 x7 x8 H locs ls hT hl hf
      cases hf
    | succ n ih =>
      intro t x1 x2 x3 x4 x5 x6 x7 x8 H locs ls hT hl hf
      replace hf : fX4_fillsRests_B43 N K (fX4_fillsRests_L43 N K n) t x1 x2 x3 x4 x5 x6 x7 x8 = some w := hf
      unfold fX4_fillsRests_B43 at hf
      refine lv_iload hx hb dX4_fillsRests_43 (lv_at hl 8 rfl) ?_
      refine lv_bipush (v := 25) hx hb dX4_fillsRests_45 (by decide) ?_
      refine lv_icmp_ge (tgt := 133) hx hb dX4_fillsRests_47 (by decide) (fun hc => ?_) (fun hc => ?_)
      · have hf := ite_t hc hf
        exact hE t x1 x2 x4 x5 _ _ _ hT (lv_sub hl [0, 1, 2, 4, 5] rfl) hf
      · have hf := ite_f hc hf
        refine lv_aload_n hx hb dX4_fillsRests_50 rfl (lv_at hl 0 rfl) ?_
        refine t_get C hV hT 20 (by decide) q1267 rfl dX4_fillsRests_51 ?_
        refine lv_bipush (v := 54) hx hb dX4_fillsRests_54 (by decide) ?_
        refine lv_iload_n hx hb dX4_fillsRests_56 rfl (lv_at hl 1 rfl) ?_
        refine lv_iadd hx hb dX4_fillsRests_57 ?_
        refine lv_iconst (v := 1) hx hb dX4_fillsRests_58 (by decide) ?_
        refine lv_iconst (v := 2) hx hb dX4_fillsRests_59 (by decide) ?_
        refine lv_iload hx hb dX4_fillsRests_60 (lv_at hl 8 rfl) ?_
        refine lv_iconst (v := 5) hx hb dX4_fillsRests_62 (by decide) ?_
        refine lv_idiv hx hb dX4_fillsRests_63 (by decide) ?_
        refine lv_imul hx hb dX4_fillsRests_64 ?_
        refine lv_iadd hx hb dX4_fillsRests_65 ?_
        obtain ⟨hi, hf⟩ := ix_e hf
        refine t_ist C hV hT 10 _ rfl hi rfl (tast_20 d a t _ _) dX4_fillsRests_66 (fun t_66 H locs et hT => ?_)
        have hf := lett_e et hf
        refine lv_aload_n hx hb dX4_fillsRests_67 rfl (lv_at hl 0 rfl) ?_
        refine t_get C hV hT 20 (by decide) q1267 rfl dX4_fillsRests_68 ?_
        refine lv_bipush (v := 54) hx hb dX4_fillsRests_71 (by decide) ?_
        refine lv_iload_n hx hb dX4_fillsRests_73 rfl (lv_at hl 2 rfl) ?_
        refine lv_iadd hx hb dX4_fillsRests_74 ?_
        refine lv_iconst (v := 1) hx hb dX4_fillsRests_75 (by decide) ?_
        refine lv_iconst (v := 2) hx hb dX4_fillsRests_76 (by decide) ?_
        refine lv_iload hx hb dX4_fillsRests_77 (lv_at hl 8 rfl) ?_
        refine lv_iconst (v := 5) hx hb dX4_fillsRests_79 (by decide) ?_
        refine g_irem hx hb dX4_fillsRests_80 (by decide) ?_
        refine lv_imul hx hb dX4_fillsRests_81 ?_
        refine lv_iadd hx hb dX4_fillsRests_82 ?_
        obtain ⟨hi, hf⟩ := ix_e hf
        refine t_ist C hV hT 10 _ rfl hi rfl (tast_20 d a t_66 _ _) dX4_fillsRests_83 (fun t_83 H locs et hT => ?_)
        have hf := lett_e et hf
        refine lv_aload_n hx hb dX4_fillsRests_84 rfl (lv_at hl 0 rfl) ?_
        refine lv_iload_n hx hb dX4_fillsRests_85 rfl (lv_at hl 3 rfl) ?_
        obtain ⟨w_86, h_86, hf⟩ := bind_e hf
        refine t_callv (vs := [.int x3]) (rest := []) C hV hT (fun sz => mX4_passesAll l D d a N t_83 x3 _ h_86 sz) (cwV 1 C.2.2.2.2 (lw_V q1705 q1707 qs101 q129 q1708) rfl rfl rfl hdX4_passesAll ⟨Nat.le_of_ble_eq_true rfl, Nat.le_of_ble_eq_true rfl⟩) rfl hl.1 rfl (Nat.le_of_ble_eq_true rfl) dX4_fillsRests_86 (fun H locs hT => ?_)
        refine lv_aload_n hx hb dX4_fillsRests_89 rfl (lv_at hl 0 rfl) ?_
        refine t_get C hV hT 33 (by decide) q1280 rfl dX4_fillsRests_90 ?_
        refine lv_iconst (v := 2) hx hb dX4_fillsRests_93 (by decide) ?_
        refine lv_iload hx hb dX4_fillsRests_94 (lv_at hl 8 rfl) ?_
        refine lv_imul hx hb dX4_fillsRests_96 ?_
        refine lv_aload_n hx hb dX4_fillsRests_97 rfl (lv_at hl 0 rfl) ?_
        refine lv_iload_n hx hb dX4_fillsRests_98 rfl (lv_at hl 1 rfl) ?_
        refine lv_iload hx hb dX4_fillsRests_99 (lv_at hl 6 rfl) ?_
        obtain ⟨w_101, h_101, hf⟩ := bind_e hf
        refine t_calli (vs := [.int x1, .int x6]) (rest := [.int ((2 : Int32) * x8), .ref (a 33)]) C hV hT (fun sz => mX4_hasThen l D d a N w_86 x1 x6 _ h_101 sz) (cwV 2 C.2.2.2.2 (lw_V q1795 q1797 qs112 q129 q1798) rfl rfl rfl hdX4_hasThen ⟨Nat.le_of_ble_eq_true rfl, Nat.le_of_ble_eq_true rfl⟩) rfl hl.1 rfl (Nat.le_of_ble_eq_true rfl) dX4_fillsRests_101 (fun H locs hT => ?_)
        obtain ⟨hi, hf⟩ := ix_e hf
        refine t_ist C hV hT 16 _ rfl hi rfl (tast_33 d a w_101.2 _ _) dX4_fillsRests_104 (fun t_104 H locs et hT => ?_)
        have hf := lett_e et hf
        refine lv_aload_n hx hb dX4_fillsRests_105 rfl (lv_at hl 0 rfl) ?_
        refine t_get C hV hT 33 (by decide) q1280 rfl dX4_fillsRests_106 ?_
        refine lv_iconst (v := 2) hx hb dX4_fillsRests_109 (by decide) ?_
        refine lv_iload hx hb dX4_fillsRests_110 (lv_at hl 8 rfl) ?_
        refine lv_imul hx hb dX4_fillsRests_112 ?_
        refine lv_iconst (v := 1) hx hb dX4_fillsRests_113 (by decide) ?_
        refine lv_iadd hx hb dX4_fillsRests_114 ?_
        refine lv_aload_n hx hb dX4_fillsRests_115 rfl (lv_at hl 0 rfl) ?_
        refine lv_iload_n hx hb dX4_fillsRests_116 rfl (lv_at hl 2 rfl) ?_
        refine lv_iload hx hb dX4_fillsRests_117 (lv_at hl 7 rfl) ?_
        obtain ⟨w_119, h_119, hf⟩ := bind_e hf
        refine t_calli (vs := [.int x2, .int x7]) (rest := [.int (((2 : Int32) * x8) + (1 : Int32)), .ref (a 33)]) C hV hT (fun sz => mX4_hasThen l D d a N t_104 x2 x7 _ h_119 sz) (cwV 2 C.2.2.2.2 (lw_V q1795 q1797 qs112 q129 q1798) rfl rfl rfl hdX4_hasThen ⟨Nat.le_of_ble_eq_true rfl, Nat.le_of_ble_eq_true rfl⟩) rfl hl.1 rfl (Nat.le_of_ble_eq_true rfl) dX4_fillsRests_119 (fun H locs hT => ?_)
        obtain ⟨hi, hf⟩ := ix_e hf
        refine t_ist C hV hT 16 _ rfl hi rfl (tast_33 d a w_119.2 _ _) dX4_fillsRests_122 (fun t_122 H locs et hT => ?_)
        have hf := lett_e et hf
        refine lv_aload_n hx hb dX4_fillsRests_123 rfl (lv_at hl 0 rfl) ?_
        obtain ⟨w_124, h_124, hf⟩ := bind_e hf
        refine t_callv (vs := []) (rest := []) C hV hT (fun sz => mX4_laysBack l D d a N t_122  _ h_124 sz) (cwV 0 C.2.2.2.2 (lw_V q1709 q1711 qs102 q129 q1712) rfl rfl rfl hdX4_laysBack ⟨Nat.le_of_ble_eq_true rfl, Nat.le_of_ble_eq_true rfl⟩) rfl hl.1 rfl (Nat.le_of_ble_eq_true rfl) dX4_fillsRests_124 (fun H locs hT => ?_)
        obtain ⟨x8_127, ex⟩ : ∃ y : Int32, y = (x8 + (1 : Int32)) := ⟨_, rfl⟩
        have hf := lett_e ex hf
        refine lv_iinc (v := x8_127) (lv' := [(8, .int x8_127), (0, .ref (a 42)), (1, .int x1), (2, .int x2), (3, .int x3), (4, .int x4), (5, .int x5), (6, .int x6), (7, .int x7)]) hx hb dX4_fillsRests_127 hl (k := 8) rfl (by rw [ex]; rfl) (by decide) rfl (fun ls hl => ?_)
        refine lv_goto (tgt := 43) hx hb dX4_fillsRests_130 (by decide) ?_
        exact ih w_124 x1 x2 x3 x4 x5 x6 x7 x8_127 _ _ _ hT (lv_sub hl [1, 2, 3, 4, 5, 6, 7, 8, 0] rfl) hf
  refine W.eq (by rw [hargs]) (t_in (vs := [.ref (a 42), .int x1, .int x2, .int x3]) (n := 9) (Nat.le_of_ble_eq_true rfl) (fun ls hl => ?_))
  have hl : lv_has ls 9 [(0, .ref (a 42)), (1, .int x1), (2, .int x2), (3, .int x3)] := hl
  unfold fX4_fillsRests at hf
  skip
  refine lv_aload_n hx hb dX4_fillsRests_0 rfl (lv_at hl 0 rfl) ?_
  refine t_get C hV hT 20 (by decide) q1267 rfl dX4_fillsRests_1 ?_
  refine lv_bipush (v := 54) hx hb dX4_fillsRests_4 (by decide) ?_
  refine lv_iload_n hx hb dX4_fillsRests_6 rfl (lv_at hl 1 rfl) ?_
  refine lv_iadd hx hb dX4_fillsRests_7 ?_
  obtain ⟨hi, hf⟩ := ix_e hf
  refine g_ild C hV hT 10 _ rfl hi rfl dX4_fillsRests_8 ?_
  refine lv_topi (fun x4_9 ex => ?_)
  have hf := lett_e ex hf
  refine lv_istore (lv' := [(4, .int x4_9), (0, .ref (a 42)), (1, .int x1), (2, .int x2), (3, .int x3)]) hx hb dX4_fillsRests_9 hl (by decide) rfl (fun ls hl => ?_)
  refine lv_aload_n hx hb dX4_fillsRests_11 rfl (lv_at hl 1 rfl) ?_
  refine t_get C hV hT 20 (by decide) q1267 rfl dX4_fillsRests_12 ?_
  refine lv_bipush (v := 54) hx hb dX4_fillsRests_15 (by decide) ?_
  refine lv_iload_n hx hb dX4_fillsRests_17 rfl (lv_at hl 3 rfl) ?_
  refine lv_iadd hx hb dX4_fillsRests_18 ?_
  obtain ⟨hi, hf⟩ := ix_e hf
  refine g_ild C hV hT 10 _ rfl hi rfl dX4_fillsRests_19 ?_
  refine lv_topi (fun x5_20 ex => ?_)
  have hf := lett_e ex hf
  refine lv_istore (lv' := [(5, .int x5_20), (4, .int x4_9), (0, .ref (a 42)), (1, .int x1), (2, .int x2), (3, .int x3)]) hx hb dX4_fillsRests_20 hl (by decide) rfl (fun ls hl => ?_)
  refine lv_aload_n hx hb dX4_fillsRests_22 rfl (lv_at hl 2 rfl) ?_
  refine lv_iload_n hx hb dX4_fillsRests_23 rfl (lv_at hl 3 rfl) ?_
  obtain ⟨w_24, h_24, hf⟩ := bind_e hf
  refine t_calli (vs := [.int x1]) (rest := []) C hV hT (fun sz => mX4_wentFrom l D d a N t x1 _ h_24 sz) (cwV 1 C.2.2.2.2 (lw_V q1573 q1575 qs81 q129 q1576) rfl rfl rfl hdX4_wentFrom ⟨Nat.le_of_ble_eq_true rfl, Nat.le_of_ble_eq_true rfl⟩) rfl hl.1 rfl (Nat.le_of_ble_eq_true rfl) dX4_fillsRests_24 (fun H locs hT => ?_)
  refine lv_istore (lv' := [(6, .int w_24.1), (5, .int x5_20), (4, .int x4_9), (0, .ref (a 42)), (1, .int x1), (2, .int x2), (3, .int x3)]) hx hb dX4_fillsRests_27 hl (by decide) rfl (fun ls hl => ?_)
  refine lv_aload_n hx hb dX4_fillsRests_29 rfl (lv_at hl 3 rfl) ?_
  refine lv_iload_n hx hb dX4_fillsRests_30 rfl (lv_at hl 5 rfl) ?_
  obtain ⟨w_31, h_31, hf⟩ := bind_e hf
  refine t_calli (vs := [.int x2]) (rest := []) C hV hT (fun sz => mX4_wentFrom l D d a N w_24.2 x2 _ h_31 sz) (cwV 1 C.2.2.2.2 (lw_V q1573 q1575 qs81 q129 q1576) rfl rfl rfl hdX4_wentFrom ⟨Nat.le_of_ble_eq_true rfl, Nat.le_of_ble_eq_true rfl⟩) rfl hl.1 rfl (Nat.le_of_ble_eq_true rfl) dX4_fillsRests_31 (fun H locs hT => ?_)
  refine lv_istore (lv' := [(7, .int w_31.1), (6, .int w_24.1), (5, .int x5_20), (4, .int x4_9), (0, .ref (a 42)), (1, .int x1), (2, .int x2), (3, .int x3)]) hx hb dX4_fillsRests_34 hl (by decide) rfl (fun ls hl => ?_)
  refine lv_aload_n hx hb dX4_fillsRests_36 rfl (lv_at hl 4 rfl) ?_
  obtain ⟨w_37, h_37, hf⟩ := bind_e hf
  refine t_callv (vs := []) (rest := []) C hV hT (fun sz => mX4_keeps l D d a N w_31.2  _ h_37 sz) (cwV 0 C.2.2.2.2 (lw_V q1701 q1703 qs100 q129 q1704) rfl rfl rfl hdX4_keeps ⟨Nat.le_of_ble_eq_true rfl, Nat.le_of_ble_eq_true rfl⟩) rfl hl.1 rfl (Nat.le_of_ble_eq_true rfl) dX4_fillsRests_37 (fun H locs hT => ?_)
  refine lv_iconst (v := 0) hx hb dX4_fillsRests_40 (by decide) ?_
  refine lv_istore (lv' := [(8, .int (0 : Int32)), (7, .int w_31.1), (6, .int w_24.1), (5, .int x5_20), (4, .int x4_9), (0, .ref (a 42)), (1, .int x1), (2, .int x2), (3, .int x3)]) hx hb dX4_fillsRests_41 hl (by decide) rfl (fun ls hl => ?_)
  refine hL43 _ (fun t x1 x2 x4 x5 H locs ls hT hl hf => ?_) N w_37 x1 x2 x3 x4_9 x5_20 w_24.1 w_31.1 (0 : Int32) _ _ _ hT (lv_sub hl [5, 6, 7, 8, 4, 3, 2, 1, 0] rfl) hf
  refine lv_aload_n hx hb dX4_fillsRests_133 rfl (lv_at hl 0 rfl) ?_
  refine t_get C hV hT 20 (by decide) q1267 rfl dX4_fillsRests_134 ?_
  refine lv_bipush (v := 54) hx hb dX4_fillsRests_137 (by decide) ?_
  refine lv_iload_n hx hb dX4_fillsRests_139 rfl (lv_at hl 1 rfl) ?_
  refine lv_iadd hx hb dX4_fillsRests_140 ?_
  refine lv_iload hx hb dX4_fillsRests_141 (lv_at hl 3 rfl) ?_
  obtain ⟨hi, hf⟩ := ix_e hf
  refine t_ist C hV hT 10 _ rfl hi rfl (tast_20 d a t _ _) dX4_fillsRests_143 (fun t_143 H locs et hT => ?_)
  have hf := lett_e et hf
  refine lv_aload_n hx hb dX4_fillsRests_144 rfl (lv_at hl 0 rfl) ?_
  refine t_get C hV hT 20 (by decide) q1267 rfl dX4_fillsRests_145 ?_
  refine lv_bipush (v := 54) hx hb dX4_fillsRests_148 (by decide) ?_
  refine lv_iload_n hx hb dX4_fillsRests_150 rfl (lv_at hl 2 rfl) ?_
  refine lv_iadd hx hb dX4_fillsRests_151 ?_
  refine lv_iload hx hb dX4_fillsRests_152 (lv_at hl 4 rfl) ?_
  obtain ⟨hi, hf⟩ := ix_e hf
  refine t_ist C hV hT 10 _ rfl hi rfl (tast_20 d a t_143 _ _) dX4_fillsRests_154 (fun t_154 H locs et hT => ?_)
  have hf := lett_e et hf
  exact t_vret C hT hf hr hlocks dX4_fillsRests_155
def fX4_isRest_B2 (N : Nat) (K : TS → Option (Int32 × TS)) (kb : TS → Int32 → Int32 → Int32 → Option (Int32 × TS)) (t : TS) (x1 : Int32) (x2 : Int32) (x3 : Int32) : Option (Int32 × TS) :=
  (if (5 : Int32) ≤ x3 then (K t) else (ix ((2 : Int32) * (((5 : Int32) * x3) + x2)) 50 (ix ((2 : Int32) * (((5 : Int32) * x1) + x2)) 50 (if (t.2.1 33 (((2 : Int32) * (((5 : Int32) * x1) + x2))).toNatClampNeg) < (t.2.1 33 (((2 : Int32) * (((5 : Int32) * x3) + x2))).toNatClampNeg) then (some ((0 : Int32), t)) else (ix (((2 : Int32) * (((5 : Int32) * x1) + x3)) + (1 : Int32)) 50 (ix (((2 : Int32) * (((5 : Int32) * x1) + x2)) + (1 : Int32)) 50 (if (t.2.1 33 ((((2 : Int32) * (((5 : Int32) * x1) + x3)) + (1 : Int32))).toNatClampNeg) ≤ (t.2.1 33 ((((2 : Int32) * (((5 : Int32) * x1) + x2)) + (1 : Int32))).toNatClampNeg) then (lett (x3 + (1 : Int32)) fun x3_67 => (kb t x1 x2 x3_67)) else (some ((0 : Int32), t)))))))))
def fX4_isRest_L2 (N : Nat) (K : TS → Option (Int32 × TS)) : Nat → TS → Int32 → Int32 → Int32 → Option (Int32 × TS)
  | 0 => fun _ _ _ _ => none
  | n + 1 => fun t x1 x2 x3 => fX4_isRest_B2 N K (fX4_isRest_L2 N K n) t x1 x2 x3
def fX4_isRest (N : Nat) (t : TS) (x1 : Int32) (x2 : Int32) : Option (Int32 × TS) :=
  (fX4_isRest_L2 N (fun t => (some ((1 : Int32), t))) N t x1 x2 (0 : Int32))
theorem hdX4_isRest : yX4_isRest.cls = RX4 ∧ yX4_isRest.cls ≠ "java/lang/invoke/MethodHandle" ∧ yX4_isRest.cls ≠ "java/lang/invoke/VarHandle" ∧ (parseMethodDescriptor yX4_isRest.desc).map (fun d => d.parameters.length) = some 2 := by decide +kernel
set_option maxHeartbeats 4000000 in
theorem mX4_isRest (l : Launch) (D : va_G) (d : Nat → ClassId) (a : Nat → Nat) (N : Nat) (t : TS) (x1 : Int32) (x2 : Int32) (w : Int32 × TS) (hf : fX4_isRest N t x1 x2 = some w) (sz : Nat) : Met l yX4_isRest (ws_ yX4_isRest cX4_isRest 4 (some .boolean)) (rm_ 0 0) (PcT D d a [.int x1, .int x2] t sz) (QiT D d a w.1 w.2 sz) 0 0 (AT a sz) := by
  refine Met.ofW (cc := cX4_isRest) (maxL := 4) (ret := (some .boolean)) plX4 rfl ?_
  intro p e s m args below meth c s₁ B hml hv
  obtain ⟨C, hV, hT, hr, hlocks, hargs, rfl⟩ := t_enter B hml rfl hv
  have hx := C.1
  have hb := C.2.1
  show W p l e (rm_ 0 0) s m args below meth c s.heap [] 0 0 (MQ below (QiT D d a w.1 w.2 s.heap.size) args s 0 0 (AT a s.heap.size)) _
  have hL2 : ∀ (K : TS → Option (Int32 × TS)), (∀ (t : TS) (H : Heap) (locs : List Loc) (ls : Array Slot), TH D (AT a s.heap.size) s.heap (wT d a t) H locs → lv_has ls 4 [] → K t = some w → W p l e (rm_ 0 0) s m args below meth c H locs 0 0 (MQ below (QiT D d a w.1 w.2 s.heap.size) args s 0 0 (AT a s.heap.size)) (F0 m 73 ls [])) → ∀ (n : Nat) (t : TS) (x1 : Int32) (x2 : Int32) (x3 : Int32) (H : Heap) (locs : List Loc) (ls : Array Slot), TH D (AT a s.heap.size) s.heap (wT d a t) H locs → lv_has ls 4 [(0, .ref (a 42)), (1, .int x1), (2, .int x2), (3, .int x3)] → fX4_isRest_L2 N K n t x1 x2 x3 = some w → W p l e (rm_ 0 0) s m args below meth c H locs 0 0 (MQ below (QiT D d a w.1 w.2 s.heap.size) args s 0 0 (AT a s.heap.size)) (F0 m 2 ls []) := by
    intro K hE n
    induction n with
    | zero =>
      intro t x1 x2 x3 H locs ls hT hl hf
      cases hf
    | succ n ih =>
      intro t x1 x2 x3 H locs ls hT hl hf
      replace hf : fX4_isRest_B2 N K (fX4_isRest_L2 N K n) t x1 x2 x3 = some w := hf
      unfold fX4_isRest_B2 at hf
      refine lv_iload_n hx hb dX4_isRest_2 rfl (lv_at hl 3 rfl) ?_
      refine lv_iconst (v := 5) hx hb dX4_isRest_3 (by decide) ?_
      refine lv_icmp_ge (tgt := 73) hx hb dX4_isRest_4 (by decide) (fun hc => ?_) (fun hc => ?_)
      · have hf := ite_t hc hf
        exact hE t _ _ _ hT (lv_sub hl [] rfl) hf
      · have hf := ite_f hc hf
        refine lv_aload_n hx hb dX4_isRest_7 rfl (lv_at hl 0 rfl) ?_
        refine t_get C hV hT 33 (by decide) q1280 rfl dX4_isRest_8 ?_
        refine lv_iconst (v := 2) hx hb dX4_isRest_11 (by decide) ?_
        refine lv_iconst (v := 5) hx hb dX4_isRest_12 (by decide) ?_
        refine lv_iload_n hx hb dX4_isRest_13 rfl (lv_at hl 3 rfl) ?_
        refine lv_imul hx hb dX4_isRest_14 ?_
        refine lv_iload_n hx hb dX4_isRest_15 rfl (lv_at hl 2 rfl) ?_
        refine lv_iadd hx hb dX4_isRest_16 ?_
        refine lv_imul hx hb dX4_isRest_17 ?_
        obtain ⟨hi, hf⟩ := ix_e hf
        refine g_ild C hV hT 16 _ rfl hi rfl dX4_isRest_18 ?_
        refine lv_aload_n hx hb dX4_isRest_19 rfl (lv_at hl 0 rfl) ?_
        refine t_get C hV hT 33 (by decide) q1280 rfl dX4_isRest_20 ?_
        refine lv_iconst (v := 2) hx hb dX4_isRest_23 (by decide) ?_
        refine lv_iconst (v := 5) hx hb dX4_isRest_24 (by decide) ?_
        refine lv_iload_n hx hb dX4_isRest_25 rfl (lv_at hl 1 rfl) ?_
        refine lv_imul hx hb dX4_isRest_26 ?_
        refine lv_iload_n hx hb dX4_isRest_27 rfl (lv_at hl 2 rfl) ?_
        refine lv_iadd hx hb dX4_isRest_28 ?_
        refine lv_imul hx hb dX4_isRest_29 ?_
        obtain ⟨hi, hf⟩ := ix_e hf
        refine g_ild C hV hT 16 _ rfl hi rfl dX4_isRest_30 ?_
        refine lv_icmp_gt (tgt := 65) hx hb dX4_isRest_31 (by decide) (fun hc => ?_) (fun hc => ?_)
        · have hf := ite_t hc hf
          refine lv_iconst (v := 0) hx hb dX4_isRest_65 (by decide) ?_
          exact t_zret C hT hf (Or.inl rfl) hr hlocks dX4_isRest_66
        · have hf := ite_f hc hf
          refine lv_aload_n hx hb dX4_isRest_34 rfl (lv_at hl 0 rfl) ?_
          refine t_get C hV hT 33 (by decide) q1280 rfl dX4_isRest_35 ?_
          refine lv_iconst (v := 2) hx hb dX4_isRest_38 (by decide) ?_
          refine lv_iconst (v := 5) hx hb dX4_isRest_39 (by decide) ?_
          refine lv_iload_n hx hb dX4_isRest_40 rfl (lv_at hl 1 rfl) ?_
          refine lv_imul hx hb dX4_isRest_41 ?_
          refine lv_iload_n hx hb dX4_isRest_42 rfl (lv_at hl 3 rfl) ?_
          refine lv_iadd hx hb dX4_isRest_43 ?_
          refine lv_imul hx hb dX4_isRest_44 ?_
          refine lv_iconst (v := 1) hx hb dX4_isRest_45 (by decide) ?_
          refine lv_iadd hx hb dX4_isRest_46 ?_
          obtain ⟨hi, hf⟩ := ix_e hf
          refine g_ild C hV hT 16 _ rfl hi rfl dX4_isRest_47 ?_
          refine lv_aload_n hx hb dX4_isRest_48 rfl (lv_at hl 0 rfl) ?_
          refine t_get C hV hT 33 (by decide) q1280 rfl dX4_isRest_49 ?_
          refine lv_iconst (v := 2) hx hb dX4_isRest_52 (by decide) ?_
          refine lv_iconst (v := 5) hx hb dX4_isRest_53 (by decide) ?_
          refine lv_iload_n hx hb dX4_isRest_54 rfl (lv_at hl 1 rfl) ?_
          refine lv_imul hx hb dX4_isRest_55 ?_
          refine lv_iload_n hx hb dX4_isRest_56 rfl (lv_at hl 2 rfl) ?_
          refine lv_iadd hx hb dX4_isRest_57 ?_
          refine lv_imul hx hb dX4_isRest_58 ?_
          refine lv_iconst (v := 1) hx hb dX4_isRest_59 (by decide) ?_
          refine lv_iadd hx hb dX4_isRest_60 ?_
          obtain ⟨hi, hf⟩ := ix_e hf
          refine g_ild C hV hT 16 _ rfl hi rfl dX4_isRest_61 ?_
          refine lv_icmp_le (tgt := 67) hx hb dX4_isRest_62 (by decide) (fun hc => ?_) (fun hc => ?_)
          · have hf := ite_t hc hf
            obtain ⟨x3_67, ex⟩ : ∃ y : Int32, y = (x3 + (1 : Int32)) := ⟨_, rfl⟩
            have hf := lett_e ex hf
            refine lv_iinc (v := x3_67) (lv' := [(3, .int x3_67), (0, .ref (a 42)), (1, .int x1), (2, .int x2)]) hx hb dX4_isRest_67 hl (k := 3) rfl (by rw [ex]; rfl) (by decide) rfl (fun ls hl => ?_)
            refine lv_goto (tgt := 2) hx hb dX4_isRest_70 (by decide) ?_
            exact ih t x1 x2 x3_67 _ _ _ hT (lv_sub hl [1, 2, 3, 0] rfl) hf
          · have hf := ite_f hc hf
            refine lv_iconst (v := 0) hx hb dX4_isRest_65 (by decide) ?_
            exact t_zret C hT hf (Or.inl rfl) hr hlocks dX4_isRest_66
  refine W.eq (by rw [hargs]) (t_in (vs := [.ref (a 42), .int x1, .int x2]) (n := 4) (Nat.le_of_ble_eq_true rfl) (fun ls hl => ?_))
  have hl : lv_has ls 4 [(0, .ref (a 42)), (1, .int x1), (2, .int x2)] := hl
  unfold fX4_isRest at hf
  skip
  refine lv_iconst (v := 0) hx hb dX4_isRest_0 (by decide) ?_
  refine lv_istore_n (lv' := [(3, .int (0 : Int32)), (0, .ref (a 42)), (1, .int x1), (2, .int x2)]) hx hb dX4_isRest_1 rfl hl (by decide) rfl (fun ls hl => ?_)
  refine hL2 _ (fun t H locs ls hT hl hf => ?_) N t x1 x2 (0 : Int32) _ _ _ hT (lv_sub hl [1, 2, 3, 0] rfl) hf
  refine lv_iconst (v := 1) hx hb dX4_isRest_73 (by decide) ?_
  exact t_zret C hT hf (Or.inr rfl) hr hlocks dX4_isRest_74
def fX4_rests_B65 (N : Nat) (K : TS → Int32 → Int32 → Int32 → Option (Int32 × TS)) (kb : TS → Int32 → Int32 → Int32 → Int32 → Option (Int32 × TS)) (t : TS) (x4 : Int32) (x5 : Int32) (x6 : Int32) (x7 : Int32) : Option (Int32 × TS) :=
  (if x7 < 0 then (K t x4 x5 x6) else ((fX4_isRest N t (x7 / (5 : Int32)) (irem x7 (5 : Int32))).bind fun w_79 => (if ¬ w_79.1 = 0 then (lett (x5 + (1 : Int32)) fun x5_92 => (lett (x7 + (-1 : Int32)) fun x7_95 => (kb w_79.2 x4 x5_92 x7 x7_95))) else (lett (x7 + (-1 : Int32)) fun x7_95 => (kb w_79.2 x4 x5 x6 x7_95)))))
def fX4_rests_L65 (N : Nat) (K : TS → Int32 → Int32 → Int32 → Option (Int32 × TS)) : Nat → TS → Int32 → Int32 → Int32 → Int32 → Option (Int32 × TS)
  | 0 => fun _ _ _ _ _ => none
  | n + 1 => fun t x4 x5 x6 x7 => fX4_rests_B65 N K (fX4_rests_L65 N K n) t x4 x5 x6 x7
def fX4_rests (N : Nat) (t : TS) (x1 : Int32) (x2 : Int32) (x3 : Int32) (x4 : Int32) : Option (Int32 × TS) :=
  ((fX4_isRoad N t x1).bind fun w_2 => (if w_2.1 = 0 then (some ((-1 : Int32), w_2.2)) else ((fX4_isRoad N w_2.2 x2).bind fun w_10 => (if w_10.1 = 0 then (some ((-1 : Int32), w_10.2)) else (if x1 = x2 then (some ((-1 : Int32), w_10.2)) else ((fX4_in N (x3).toInt64 (1 : Int64) (20 : Int64)).bind fun w_27 => (if w_27 = 0 then (some ((-1 : Int32), w_10.2)) else ((fX4_in N (x4).toInt64 (0 : Int64) (2 : Int64)).bind fun w_40 => (if ¬ w_40 = 0 then ((fX4_fillsRests N w_10.2 x1 x2 x3).bind fun w_52 => (fX4_rests_L65 N (fun t x4 x5 x6 => (if ¬ x4 = 0 then (if 0 ≤ x6 then (if ¬ x4 = (1 : Int32) then (some (((1 : Int32) + ((2 : Int32) * (irem x6 (5 : Int32)))), t)) else (some (((1 : Int32) + ((2 : Int32) * (x6 / (5 : Int32)))), t))) else (some ((-2 : Int32), t))) else (some (x5, t)))) N w_52 x4 (0 : Int32) (-1 : Int32) (24 : Int32))) else (some ((-1 : Int32), w_10.2)))))))))))
theorem hdX4_rests : yX4_rests.cls = RX4 ∧ yX4_rests.cls ≠ "java/lang/invoke/MethodHandle" ∧ yX4_rests.cls ≠ "java/lang/invoke/VarHandle" ∧ (parseMethodDescriptor yX4_rests.desc).map (fun d => d.parameters.length) = some 4 := by decide +kernel
set_option maxHeartbeats 4000000 in
theorem mX4_rests (l : Launch) (D : va_G) (d : Nat → ClassId) (a : Nat → Nat) (N : Nat) (t : TS) (x1 : Int32) (x2 : Int32) (x3 : Int32) (x4 : Int32) (w : Int32 × TS) (hf : fX4_rests N t x1 x2 x3 x4 = some w) (sz : Nat) : Met l yX4_rests (ws_ yX4_rests cX4_rests 8 (some .int)) (rm_ 8 195) (PcT D d a [.int x1, .int x2, .int x3, .int x4] t sz) (QiT D d a w.1 w.2 sz) 0 0 (AT a sz) := by
  refine Met.ofW (cc := cX4_rests) (maxL := 8) (ret := (some .int)) plX4 rfl ?_
  intro p e s m args below meth c s₁ B hml hv
  obtain ⟨C, hV, hT, hr, hlocks, hargs, rfl⟩ := t_enter B hml rfl hv
  have hx := C.1
  have hb := C.2.1
  show W p l e (rm_ 8 195) s m args below meth c s.heap [] 0 0 (MQ below (QiT D d a w.1 w.2 s.heap.size) args s 0 0 (AT a s.heap.size)) _
  have hL65 : ∀ (K : TS → Int32 → Int32 → Int32 → Option (Int32 × TS)), (∀ (t : TS) (x4 : Int32) (x5 : Int32) (x6 : Int32) (H : Heap) (locs : List Loc) (ls : Array Slot), TH D (AT a s.heap.size) s.heap (wT d a t) H locs → lv_has ls 8 [(4, .int x4), (5, .int x5), (6, .int x6)] → K t x4 x5 x6 = some w → W p l e (rm_ 8 195) s m args below meth c H locs 0 0 (MQ below (QiT D d a w.1 w.2 s.heap.size) args s 0 0 (AT a s.heap.size)) (F0 m 101 ls [])) → ∀ (n : Nat) (t : TS) (x4 : Int32) (x5 : Int32) (x6 : Int32) (x7 : Int32) (H : Heap) (locs : List Loc) (ls : Array Slot), TH D (AT a s.heap.size) s.heap (wT d a t) H locs → lv_has ls 8 [(0, .ref (a 42)), (4, .int x4), (5, .int x5), (6, .int x6), (7, .int x7)] → fX4_rests_L65 N K n t x4 x5 x6 x7 = some w → W p l e (rm_ 8 195) s m args below meth c H locs 0 0 (MQ below (QiT D d a w.1 w.2 s.heap.size) args s 0 0 (AT a s.heap.size)) (F0 m 65 ls []) := by
    intro K hE n
    induction n with
    | zero =>
      intro t x4 x5 x6 x7 H locs ls hT hl hf
      cases hf
    | succ n ih =>
      intro t x4 x5 x6 x7 H locs ls hT hl hf
      replace hf : fX4_rests_B65 N K (fX4_rests_L65 N K n) t x4 x5 x6 x7 = some w := hf
      unfold fX4_rests_B65 at hf
      refine lv_iload hx hb dX4_rests_65 (lv_at hl 4 rfl) ?_
      refine lv_if_lt (tgt := 101) hx hb dX4_rests_67 (by decide) (fun hc => ?_) (fun hc => ?_)
      · have hf := ite_t hc hf
        exact hE t x4 x5 x6 _ _ _ hT (lv_sub hl [1, 2, 3] rfl) hf
      · have hf := ite_f hc hf
        refine lv_aload_n hx hb dX4_rests_70 rfl (lv_at hl 0 rfl) ?_
        refine lv_iload hx hb dX4_rests_71 (lv_at hl 4 rfl) ?_
        refine lv_iconst (v := 5) hx hb dX4_rests_73 (by decide) ?_
        refine lv_idiv hx hb dX4_rests_74 (by decide) ?_
        refine lv_iload hx hb dX4_rests_75 (lv_at hl 4 rfl) ?_
        refine lv_iconst (v := 5) hx hb dX4_rests_77 (by decide) ?_
        refine g_irem hx hb dX4_rests_78 (by decide) ?_
        obtain ⟨w_79, h_79, hf⟩ := bind_e hf
        refine t_calli (vs := [.int (x7 / (5 : Int32)), .int (irem x7 (5 : Int32))]) (rest := []) C hV hT (fun sz => mX4_isRest l D d a N t (x7 / (5 : Int32)) (irem x7 (5 : Int32)) _ h_79 sz) (cwV 2 C.2.2.2.2 (lw_V q1799 q1801 qs113 q129 q1802) rfl rfl rfl hdX4_isRest ⟨Nat.le_of_ble_eq_true rfl, Nat.le_of_ble_eq_true rfl⟩) rfl hl.1 rfl (Nat.le_of_ble_eq_true rfl) dX4_rests_79 (fun H locs hT => ?_)
        refine lv_if_ne (tgt := 88) hx hb dX4_rests_82 (by decide) (fun hc => ?_) (fun hc => ?_)
        · have hf := ite_t hc hf
          refine lv_iload hx hb dX4_rests_88 (lv_at hl 4 rfl) ?_
          refine lv_istore (lv' := [(6, .int x7), (0, .ref (a 42)), (4, .int x4), (5, .int x5), (7, .int x7)]) hx hb dX4_rests_90 hl (by decide) rfl (fun ls hl => ?_)
          obtain ⟨x5_92, ex⟩ : ∃ y : Int32, y = (x5 + (1 : Int32)) := ⟨_, rfl⟩
          have hf := lett_e ex hf
          refine lv_iinc (v := x5_92) (lv' := [(5, .int x5_92), (6, .int x7), (0, .ref (a 42)), (4, .int x4), (7, .int x7)]) hx hb dX4_rests_92 hl (k := 3) rfl (by rw [ex]; rfl) (by decide) rfl (fun ls hl => ?_)
          obtain ⟨x7_95, ex⟩ : ∃ y : Int32, y = (x7 + (-1 : Int32)) := ⟨_, rfl⟩
          have hf := lett_e ex hf
          refine lv_iinc (v := x7_95) (lv' := [(7, .int x7_95), (5, .int x5_92), (6, .int x7), (0, .ref (a 42)), (4, .int x4)]) hx hb dX4_rests_95 hl (k := 4) rfl (by rw [ex]; rfl) (by decide) rfl (fun ls hl => ?_)
          refine lv_goto (tgt := 65) hx hb dX4_rests_98 (by decide) ?_
          exact ih w_79.2 x4 x5_92 x7 x7_95 _ _ _ hT (lv_sub hl [3, 4, 1, 2, 0] rfl) hf
        · have hf := ite_f (fun q => q hc) hf
          refine lv_goto (tgt := 95) hx hb dX4_rests_85 (by decide) ?_
          obtain ⟨x7_95, ex⟩ : ∃ y : Int32, y = (x7 + (-1 : Int32)) := ⟨_, rfl⟩
          have hf := lett_e ex hf
          refine lv_iinc (v := x7_95) (lv' := [(7, .int x7_95), (0, .ref (a 42)), (4, .int x4), (5, .int x5), (6, .int x6)]) hx hb dX4_rests_95 hl (k := 4) rfl (by rw [ex]; rfl) (by decide) rfl (fun ls hl => ?_)
          refine lv_goto (tgt := 65) hx hb dX4_rests_98 (by decide) ?_
          exact ih w_79.2 x4 x5 x6 x7_95 _ _ _ hT (lv_sub hl [1, 2, 3, 4, 0] rfl) hf
  refine W.eq (by rw [hargs]) (t_in (vs := [.ref (a 42), .int x1, .int x2, .int x3, .int x4]) (n := 8) (Nat.le_of_ble_eq_true rfl) (fun ls hl => ?_))
  have hl : lv_has ls 8 [(0, .ref (a 42)), (1, .int x1), (2, .int x2), (3, .int x3), (4, .int x4)] := hl
  unfold fX4_rests at hf
  skip
  refine lv_aload_n hx hb dX4_rests_0 rfl (lv_at hl 0 rfl) ?_
  refine lv_iload_n hx hb dX4_rests_1 rfl (lv_at hl 1 rfl) ?_
  obtain ⟨w_2, h_2, hf⟩ := bind_e hf
  refine t_calli (vs := [.int x1]) (rest := []) C hV hT (fun sz => mX4_isRoad l D d a N t x1 _ h_2 sz) (cwV 1 C.2.2.2.2 (lw_V q1561 q1563 qs78 q129 q1564) rfl rfl rfl hdX4_isRoad ⟨Nat.le_of_ble_eq_true rfl, Nat.le_of_ble_eq_true rfl⟩) rfl hl.1 rfl (Nat.le_of_ble_eq_true rfl) dX4_rests_2 (fun H locs hT => ?_)
  refine lv_if_eq (tgt := 46) hx hb dX4_rests_5 (by decide) (fun hc => ?_) (fun hc => ?_)
  · have hf := ite_t hc hf
    refine lv_iconst (v := -1) hx hb dX4_rests_46 (by decide) ?_
    exact t_iret C hT hf hr hlocks dX4_rests_47
  · have hf := ite_f hc hf
    refine lv_aload_n hx hb dX4_rests_8 rfl (lv_at hl 0 rfl) ?_
    refine lv_iload_n hx hb dX4_rests_9 rfl (lv_at hl 2 rfl) ?_
    obtain ⟨w_10, h_10, hf⟩ := bind_e hf
    refine t_calli (vs := [.int x2]) (rest := []) C hV hT (fun sz => mX4_isRoad l D d a N w_2.2 x2 _ h_10 sz) (cwV 1 C.2.2.2.2 (lw_V q1561 q1563 qs78 q129 q1564) rfl rfl rfl hdX4_isRoad ⟨Nat.le_of_ble_eq_true rfl, Nat.le_of_ble_eq_true rfl⟩) rfl hl.1 rfl (Nat.le_of_ble_eq_true rfl) dX4_rests_10 (fun H locs hT => ?_)
    refine lv_if_eq (tgt := 46) hx hb dX4_rests_13 (by decide) (fun hc => ?_) (fun hc => ?_)
    · have hf := ite_t hc hf
      refine lv_iconst (v := -1) hx hb dX4_rests_46 (by decide) ?_
      exact t_iret C hT hf hr hlocks dX4_rests_47
    · have hf := ite_f hc hf
      refine lv_iload_n hx hb dX4_rests_16 rfl (lv_at hl 1 rfl) ?_
      refine lv_iload_n hx hb dX4_rests_17 rfl (lv_at hl 2 rfl) ?_
      refine lv_icmp_eq (tgt := 46) hx hb dX4_rests_18 (by decide) (fun hc => ?_) (fun hc => ?_)
      · have hf := ite_t hc hf
        refine lv_iconst (v := -1) hx hb dX4_rests_46 (by decide) ?_
        exact t_iret C hT hf hr hlocks dX4_rests_47
      · have hf := ite_f hc hf
        refine lv_iload_n hx hb dX4_rests_21 rfl (lv_at hl 3 rfl) ?_
        refine lv_i2l hx hb dX4_rests_22 rfl ?_
        refine lv_lconst (v := 1) hx hb dX4_rests_23 (by decide) ?_
        refine g_ldc2 (v := 20) C q1677 dX4_rests_24 ?_
        obtain ⟨w_27, h_27, hf⟩ := bind_e hf
        refine s_calli (vs := [.long (x3).toInt64, .long (1 : Int64), .long (20 : Int64)]) (rest := []) C (fun q h => Or.inr h) hT (fun sz => mX4_in l N (x3).toInt64 (1 : Int64) (20 : Int64) _ h_27 sz) (va_cwS 3 C.2.2.2.2 (lw_S q1448 q1449 q129 q1450) rfl rfl rfl hdX4_in ⟨Nat.le_of_ble_eq_true rfl, Nat.le_of_ble_eq_true rfl⟩) rfl hl.1 rfl (Nat.le_of_ble_eq_true rfl) dX4_rests_27 ⟨Nat.zero_le _, Nat.zero_le _⟩ (fun H locs hT => ?_)
        refine lv_if_eq (tgt := 46) hx hb dX4_rests_30 (by decide) (fun hc => ?_) (fun hc => ?_)
        · have hf := ite_t hc hf
          refine lv_iconst (v := -1) hx hb dX4_rests_46 (by decide) ?_
          exact t_iret C hT hf hr hlocks dX4_rests_47
        · have hf := ite_f hc hf
          refine lv_iload hx hb dX4_rests_33 (lv_at hl 4 rfl) ?_
          refine lv_i2l hx hb dX4_rests_35 rfl ?_
          refine lv_lconst (v := 0) hx hb dX4_rests_36 (by decide) ?_
          refine g_ldc2 (v := 2) C q1700 dX4_rests_37 ?_
          obtain ⟨w_40, h_40, hf⟩ := bind_e hf
          refine s_calli (vs := [.long (x4).toInt64, .long (0 : Int64), .long (2 : Int64)]) (rest := []) C (fun q h => Or.inr h) hT (fun sz => mX4_in l N (x4).toInt64 (0 : Int64) (2 : Int64) _ h_40 sz) (va_cwS 3 C.2.2.2.2 (lw_S q1448 q1449 q129 q1450) rfl rfl rfl hdX4_in ⟨Nat.le_of_ble_eq_true rfl, Nat.le_of_ble_eq_true rfl⟩) rfl hl.1 rfl (Nat.le_of_ble_eq_true rfl) dX4_rests_40 ⟨Nat.zero_le _, Nat.zero_le _⟩ (fun H locs hT => ?_)
          refine lv_if_ne (tgt := 48) hx hb dX4_rests_43 (by decide) (fun hc => ?_) (fun hc => ?_)
          · have hf := ite_t hc hf
            refine lv_aload_n hx hb dX4_rests_48 rfl (lv_at hl 0 rfl) ?_
            refine lv_iload_n hx hb dX4_rests_49 rfl (lv_at hl 1 rfl) ?_
            refine lv_iload_n hx hb dX4_rests_50 rfl (lv_at hl 2 rfl) ?_
            refine lv_iload_n hx hb dX4_rests_51 rfl (lv_at hl 3 rfl) ?_
            obtain ⟨w_52, h_52, hf⟩ := bind_e hf
            refine t_callv (vs := [.int x1, .int x2, .int x3]) (rest := []) C hV hT (fun sz => mX4_fillsRests l D d a N w_10.2 x1 x2 x3 _ h_52 sz) (cwV 3 C.2.2.2.2 (lw_V q1791 q1793 qs111 q129 q1794) rfl rfl rfl hdX4_fillsRests ⟨Nat.le_of_ble_eq_true rfl, Nat.le_of_ble_eq_true rfl⟩) rfl hl.1 rfl (Nat.le_of_ble_eq_true rfl) dX4_rests_52 (fun H locs hT => ?_)
            refine lv_iconst (v := 0) hx hb dX4_rests_55 (by decide) ?_
            refine lv_istore (lv' := [(5, .int (0 : Int32)), (0, .ref (a 42)), (1, .int x1), (2, .int x2), (3, .int x3), (4, .int x4)]) hx hb dX4_rests_56 hl (by decide) rfl (fun ls hl => ?_)
            refine lv_iconst (v := -1) hx hb dX4_rests_58 (by decide) ?_
            refine lv_istore (lv' := [(6, .int (-1 : Int32)), (5, .int (0 : Int32)), (0, .ref (a 42)), (1, .int x1), (2, .int x2), (3, .int x3), (4, .int x4)]) hx hb dX4_rests_59 hl (by decide) rfl (fun ls hl => ?_)
            refine lv_bipush (v := 24) hx hb dX4_rests_61 (by decide) ?_
            refine lv_istore (lv' := [(7, .int (24 : Int32)), (6, .int (-1 : Int32)), (5, .int (0 : Int32)), (0, .ref (a 42)), (1, .int x1), (2, .int x2), (3, .int x3), (4, .int x4)]) hx hb dX4_rests_63 hl (by decide) rfl (fun ls hl => ?_)
            refine hL65 _ (fun t x4 x5 x6 H locs ls hT hl hf => ?_) N w_52 x4 (0 : Int32) (-1 : Int32) (24 : Int32) _ _ _ hT (lv_sub hl [3, 7, 2, 1, 0] rfl) hf
            refine lv_iload hx hb dX4_rests_101 (lv_at hl 0 rfl) ?_
            refine lv_if_ne (tgt := 109) hx hb dX4_rests_103 (by decide) (fun hc => ?_) (fun hc => ?_)
            · have hf := ite_t hc hf
              refine lv_iload hx hb dX4_rests_109 (lv_at hl 2 rfl) ?_
              refine lv_if_ge (tgt := 119) hx hb dX4_rests_111 (by decide) (fun hc => ?_) (fun hc => ?_)
              · have hf := ite_t hc hf
                refine lv_iload hx hb dX4_rests_119 (lv_at hl 0 rfl) ?_
                refine lv_iconst (v := 1) hx hb dX4_rests_121 (by decide) ?_
                refine lv_icmp_ne (tgt := 136) hx hb dX4_rests_122 (by decide) (fun hc => ?_) (fun hc => ?_)
                · have hf := ite_t hc hf
                  refine lv_iconst (v := 1) hx hb dX4_rests_136 (by decide) ?_
                  refine lv_iconst (v := 2) hx hb dX4_rests_137 (by decide) ?_
                  refine lv_iload hx hb dX4_rests_138 (lv_at hl 2 rfl) ?_
                  refine lv_iconst (v := 5) hx hb dX4_rests_140 (by decide) ?_
                  refine g_irem hx hb dX4_rests_141 (by decide) ?_
                  refine lv_imul hx hb dX4_rests_142 ?_
                  refine lv_iadd hx hb dX4_rests_143 ?_
                  exact t_iret C hT hf hr hlocks dX4_rests_144
                · have hf := ite_f (fun q => q hc) hf
                  refine lv_iconst (v := 1) hx hb dX4_rests_125 (by decide) ?_
                  refine lv_iconst (v := 2) hx hb dX4_rests_126 (by decide) ?_
                  refine lv_iload hx hb dX4_rests_127 (lv_at hl 2 rfl) ?_
                  refine lv_iconst (v := 5) hx hb dX4_rests_129 (by decide) ?_
                  refine lv_idiv hx hb dX4_rests_130 (by decide) ?_
                  refine lv_imul hx hb dX4_rests_131 ?_
                  refine lv_iadd hx hb dX4_rests_132 ?_
                  refine lv_goto (tgt := 144) hx hb dX4_rests_133 (by decide) ?_
                  exact t_iret C hT hf hr hlocks dX4_rests_144
              · have hf := ite_f hc hf
                refine lv_bipush (v := -2) hx hb dX4_rests_114 (by decide) ?_
                refine lv_goto (tgt := 144) hx hb dX4_rests_116 (by decide) ?_
                exact t_iret C hT hf hr hlocks dX4_rests_144
            · have hf := ite_f (fun q => q hc) hf
              refine lv_iload hx hb dX4_rests_106 (lv_at hl 1 rfl) ?_
              exact t_iret C hT hf hr hlocks dX4_rests_108
          · have hf := ite_f (fun q => q hc) hf
            refine lv_iconst (v := -1) hx hb dX4_rests_46 (by decide) ?_
            exact t_iret C hT hf hr hlocks dX4_rests_47
def fX4_areAlike_B17 (N : Nat) (K : TS → Option (Int32 × TS)) (kb : TS → Int32 → Int32 → Int32 → Option (Int32 × TS)) (t : TS) (x1 : Int32) (x2 : Int32) (x3 : Int32) : Option (Int32 × TS) :=
  (if (t.2.1 20 3) ≤ x3 then (K t) else (ix (((6 : Int32) * x1) + x3) 366 (ix (((6 : Int32) * x2) + x3) 366 (if (t.2.1 34 ((((6 : Int32) * x1) + x3)).toNatClampNeg) = (t.2.1 34 ((((6 : Int32) * x2) + x3)).toNatClampNeg) then (lett (x3 + (1 : Int32)) fun x3_54 => (kb t x1 x2 x3_54)) else (some ((0 : Int32), t))))))
def fX4_areAlike_L17 (N : Nat) (K : TS → Option (Int32 × TS)) : Nat → TS → Int32 → Int32 → Int32 → Option (Int32 × TS)
  | 0 => fun _ _ _ _ => none
  | n + 1 => fun t x1 x2 x3 => fX4_areAlike_B17 N K (fX4_areAlike_L17 N K n) t x1 x2 x3
def fX4_areAlike (N : Nat) (t : TS) (x1 : Int32) (x2 : Int32) : Option (Int32 × TS) :=
  (nz (t.2.1 20 1) (if (irem (x2 - x1) (t.2.1 20 1)) = 0 then (fX4_areAlike_L17 N (fun t => (some ((1 : Int32), t))) N t x1 x2 (0 : Int32)) else (some ((0 : Int32), t))))
theorem hdX4_areAlike : yX4_areAlike.cls = RX4 ∧ yX4_areAlike.cls ≠ "java/lang/invoke/MethodHandle" ∧ yX4_areAlike.cls ≠ "java/lang/invoke/VarHandle" ∧ (parseMethodDescriptor yX4_areAlike.desc).map (fun d => d.parameters.length) = some 2 := by decide +kernel
set_option maxHeartbeats 4000000 in
theorem mX4_areAlike (l : Launch) (D : va_G) (d : Nat → ClassId) (a : Nat → Nat) (N : Nat) (t : TS) (x1 : Int32) (x2 : Int32) (w : Int32 × TS) (hf : fX4_areAlike N t x1 x2 = some w) (sz : Nat) : Met l yX4_areAlike (ws_ yX4_areAlike cX4_areAlike 4 (some .boolean)) (rm_ 0 0) (PcT D d a [.int x1, .int x2] t sz) (QiT D d a w.1 w.2 sz) 0 0 (AT a sz) := by
  refine Met.ofW (cc := cX4_areAlike) (maxL := 4) (ret := (some .boolean)) plX4 rfl ?_
  intro p e s m args below meth c s₁ B hml hv
  obtain ⟨C, hV, hT, hr, hlocks, hargs, rfl⟩ := t_enter B hml rfl hv
  have hx := C.1
  have hb := C.2.1
  show W p l e (rm_ 0 0) s m args below meth c s.heap [] 0 0 (MQ below (QiT D d a w.1 w.2 s.heap.size) args s 0 0 (AT a s.heap.size)) _
  have hL17 : ∀ (K : TS → Option (Int32 × TS)), (∀ (t : TS) (H : Heap) (locs : List Loc) (ls : Array Slot), TH D (AT a s.heap.size) s.heap (wT d a t) H locs → lv_has ls 4 [] → K t = some w → W p l e (rm_ 0 0) s m args below meth c H locs 0 0 (MQ below (QiT D d a w.1 w.2 s.heap.size) args s 0 0 (AT a s.heap.size)) (F0 m 60 ls [])) → ∀ (n : Nat) (t : TS) (x1 : Int32) (x2 : Int32) (x3 : Int32) (H : Heap) (locs : List Loc) (ls : Array Slot), TH D (AT a s.heap.size) s.heap (wT d a t) H locs → lv_has ls 4 [(0, .ref (a 42)), (1, .int x1), (2, .int x2), (3, .int x3)] → fX4_areAlike_L17 N K n t x1 x2 x3 = some w → W p l e (rm_ 0 0) s m args below meth c H locs 0 0 (MQ below (QiT D d a w.1 w.2 s.heap.size) args s 0 0 (AT a s.heap.size)) (F0 m 17 ls []) := by
    intro K hE n
    induction n with
    | zero =>
      intro t x1 x2 x3 H locs ls hT hl hf
      cases hf
    | succ n ih =>
      intro t x1 x2 x3 H locs ls hT hl hf
      replace hf : fX4_areAlike_B17 N K (fX4_areAlike_L17 N K n) t x1 x2 x3 = some w := hf
      unfold fX4_areAlike_B17 at hf
      refine lv_iload_n hx hb dX4_areAlike_17 rfl (lv_at hl 3 rfl) ?_
      refine lv_aload_n hx hb dX4_areAlike_18 rfl (lv_at hl 0 rfl) ?_
      refine t_get C hV hT 20 (by decide) q1267 rfl dX4_areAlike_19 ?_
      refine lv_iconst (v := 3) hx hb dX4_areAlike_22 (by decide) ?_
      refine g_ild C hV hT 10 3 rfl (vin_of (by decide)) (by decide) dX4_areAlike_23 ?_
      refine lv_icmp_ge (tgt := 60) hx hb dX4_areAlike_24 (by decide) (fun hc => ?_) (fun hc => ?_)
      · have hf := ite_t hc hf
        exact hE t _ _ _ hT (lv_sub hl [] rfl) hf
      · have hf := ite_f hc hf
        refine lv_aload_n hx hb dX4_areAlike_27 rfl (lv_at hl 0 rfl) ?_
        refine t_get C hV hT 34 (by decide) q1281 rfl dX4_areAlike_28 ?_
        refine lv_bipush (v := 6) hx hb dX4_areAlike_31 (by decide) ?_
        refine lv_iload_n hx hb dX4_areAlike_33 rfl (lv_at hl 1 rfl) ?_
        refine lv_imul hx hb dX4_areAlike_34 ?_
        refine lv_iload_n hx hb dX4_areAlike_35 rfl (lv_at hl 3 rfl) ?_
        refine lv_iadd hx hb dX4_areAlike_36 ?_
        obtain ⟨hi, hf⟩ := ix_e hf
        refine g_ild C hV hT 17 _ rfl hi rfl dX4_areAlike_37 ?_
        refine lv_aload_n hx hb dX4_areAlike_38 rfl (lv_at hl 0 rfl) ?_
        refine t_get C hV hT 34 (by decide) q1281 rfl dX4_areAlike_39 ?_
        refine lv_bipush (v := 6) hx hb dX4_areAlike_42 (by decide) ?_
        refine lv_iload_n hx hb dX4_areAlike_44 rfl (lv_at hl 2 rfl) ?_
        refine lv_imul hx hb dX4_areAlike_45 ?_
        refine lv_iload_n hx hb dX4_areAlike_46 rfl (lv_at hl 3 rfl) ?_
        refine lv_iadd hx hb dX4_areAlike_47 ?_
        obtain ⟨hi, hf⟩ := ix_e hf
        refine g_ild C hV hT 17 _ rfl hi rfl dX4_areAlike_48 ?_
        refine lv_icmp_eq (tgt := 54) hx hb dX4_areAlike_49 (by decide) (fun hc => ?_) (fun hc => ?_)
        · have hf := ite_t hc hf
          obtain ⟨x3_54, ex⟩ : ∃ y : Int32, y = (x3 + (1 : Int32)) := ⟨_, rfl⟩
          have hf := lett_e ex hf
          refine lv_iinc (v := x3_54) (lv' := [(3, .int x3_54), (0, .ref (a 42)), (1, .int x1), (2, .int x2)]) hx hb dX4_areAlike_54 hl (k := 3) rfl (by rw [ex]; rfl) (by decide) rfl (fun ls hl => ?_)
          refine lv_goto (tgt := 17) hx hb dX4_areAlike_57 (by decide) ?_
          exact ih t x1 x2 x3_54 _ _ _ hT (lv_sub hl [1, 2, 3, 0] rfl) hf
        · have hf := ite_f hc hf
          refine lv_iconst (v := 0) hx hb dX4_areAlike_52 (by decide) ?_
          exact t_zret C hT hf (Or.inl rfl) hr hlocks dX4_areAlike_53
  refine W.eq (by rw [hargs]) (t_in (vs := [.ref (a 42), .int x1, .int x2]) (n := 4) (Nat.le_of_ble_eq_true rfl) (fun ls hl => ?_))
  have hl : lv_has ls 4 [(0, .ref (a 42)), (1, .int x1), (2, .int x2)] := hl
  unfold fX4_areAlike at hf
  skip
  refine lv_iload_n hx hb dX4_areAlike_0 rfl (lv_at hl 2 rfl) ?_
  refine lv_iload_n hx hb dX4_areAlike_1 rfl (lv_at hl 1 rfl) ?_
  refine lv_isub hx hb dX4_areAlike_2 ?_
  refine lv_aload_n hx hb dX4_areAlike_3 rfl (lv_at hl 0 rfl) ?_
  refine t_get C hV hT 20 (by decide) q1267 rfl dX4_areAlike_4 ?_
  refine lv_iconst (v := 1) hx hb dX4_areAlike_7 (by decide) ?_
  refine g_ild C hV hT 10 1 rfl (vin_of (by decide)) (by decide) dX4_areAlike_8 ?_
  obtain ⟨hn, hf⟩ := nz_e hf
  refine g_irem hx hb dX4_areAlike_9 hn ?_
  refine lv_if_eq (tgt := 15) hx hb dX4_areAlike_10 (by decide) (fun hc => ?_) (fun hc => ?_)
  · have hf := ite_t hc hf
    refine lv_iconst (v := 0) hx hb dX4_areAlike_15 (by decide) ?_
    refine lv_istore_n (lv' := [(3, .int (0 : Int32)), (0, .ref (a 42)), (1, .int x1), (2, .int x2)]) hx hb dX4_areAlike_16 rfl hl (by decide) rfl (fun ls hl => ?_)
    refine hL17 _ (fun t H locs ls hT hl hf => ?_) N t x1 x2 (0 : Int32) _ _ _ hT (lv_sub hl [1, 2, 3, 0] rfl) hf
    refine lv_iconst (v := 1) hx hb dX4_areAlike_60 (by decide) ?_
    exact t_zret C hT hf (Or.inr rfl) hr hlocks dX4_areAlike_61
  · have hf := ite_f hc hf
    refine lv_iconst (v := 0) hx hb dX4_areAlike_13 (by decide) ?_
    exact t_zret C hT hf (Or.inl rfl) hr hlocks dX4_areAlike_14
def fX4_ring_B33 (N : Nat) (K : TS → Int32 → Int32 → Option (Int32 × TS)) (kb : TS → Int32 → Int32 → Int32 → Option (Int32 × TS)) (t : TS) (x1 : Int32) (x2 : Int32) (x3 : Int32) : Option (Int32 × TS) :=
  (if (t.2.1 20 3) ≤ x3 then (K t x1 x2) else ((fX4_waitOn N t x3).bind fun w_55 => (ix (((6 : Int32) * x2) + x3) 366 (lett (tsA w_55.2 34 ((((6 : Int32) * x2) + x3)).toNatClampNeg w_55.1) fun t_58 => (lett (x3 + (1 : Int32)) fun x3_59 => (kb t_58 x1 x2 x3_59))))))
def fX4_ring_L33 (N : Nat) (K : TS → Int32 → Int32 → Option (Int32 × TS)) : Nat → TS → Int32 → Int32 → Int32 → Option (Int32 × TS)
  | 0 => fun _ _ _ _ => none
  | n + 1 => fun t x1 x2 x3 => fX4_ring_B33 N K (fX4_ring_L33 N K n) t x1 x2 x3
def fX4_ring_B25 (N : Nat) (K : TS → Int32 → Option (Int32 × TS)) (kb : TS → Int32 → Int32 → Option (Int32 × TS)) (t : TS) (x1 : Int32) (x2 : Int32) : Option (Int32 × TS) :=
  (if (60 : Int32) < x2 then (K t x1) else (fX4_ring_L33 N (fun t x1 x2 => ((fX4_passes N t ).bind fun w_66 => (lett (x2 + (1 : Int32)) fun x2_70 => (kb w_66.2 x1 x2_70)))) N t x1 x2 (0 : Int32)))
def fX4_ring_L25 (N : Nat) (K : TS → Int32 → Option (Int32 × TS)) : Nat → TS → Int32 → Int32 → Option (Int32 × TS)
  | 0 => fun _ _ _ => none
  | n + 1 => fun t x1 x2 => fX4_ring_B25 N K (fX4_ring_L25 N K n) t x1 x2
def fX4_ring_B92 (N : Nat) (K : TS → Int32 → Int32 → Option (Int32 × TS)) (kb : TS → Int32 → Int32 → Int32 → Option (Int32 × TS)) (t : TS) (x1 : Int32) (x2 : Int32) (x3 : Int32) : Option (Int32 × TS) :=
  (if (60 : Int32) < x3 then (K t x1 x2) else ((fX4_areAlike N t x2 x3).bind fun w_101 => (if w_101.1 = 0 then (lett (x3 + (1 : Int32)) fun x3_127 => (kb w_101.2 x1 x2 x3_127)) else (if ¬ x1 = 0 then (some ((x3 - x2), w_101.2)) else (some (((w_101.2.2.1 20 10) + x2), w_101.2))))))
def fX4_ring_L92 (N : Nat) (K : TS → Int32 → Int32 → Option (Int32 × TS)) : Nat → TS → Int32 → Int32 → Int32 → Option (Int32 × TS)
  | 0 => fun _ _ _ _ => none
  | n + 1 => fun t x1 x2 x3 => fX4_ring_B92 N K (fX4_ring_L92 N K n) t x1 x2 x3
def fX4_ring_B82 (N : Nat) (K : TS → Option (Int32 × TS)) (kb : TS → Int32 → Int32 → Option (Int32 × TS)) (t : TS) (x1 : Int32) (x2 : Int32) : Option (Int32 × TS) :=
  (if (60 : Int32) ≤ x2 then (K t) else (lett (x2 + (1 : Int32)) fun x3_91 => (fX4_ring_L92 N (fun t x1 x2 => (lett (x2 + (1 : Int32)) fun x2_133 => (kb t x1 x2_133))) N t x1 x2 x3_91)))
def fX4_ring_L82 (N : Nat) (K : TS → Option (Int32 × TS)) : Nat → TS → Int32 → Int32 → Option (Int32 × TS)
  | 0 => fun _ _ _ => none
  | n + 1 => fun t x1 x2 => fX4_ring_B82 N K (fX4_ring_L82 N K n) t x1 x2
def fX4_ring (N : Nat) (t : TS) (x1 : Int32) : Option (Int32 × TS) :=
  ((fX4_isJunction N t ).bind fun w_1 => (if w_1.1 = 0 then (some ((-1 : Int32), w_1.2)) else ((fX4_in N (x1).toInt64 (0 : Int64) (1 : Int64)).bind fun w_11 => (if ¬ w_11 = 0 then ((fX4_keeps N w_1.2 ).bind fun w_20 => (fX4_ring_L25 N (fun t x1 => ((fX4_laysBack N t ).bind fun w_77 => (fX4_ring_L82 N (fun t => (some ((-2 : Int32), t))) N w_77 x1 (0 : Int32)))) N w_20 x1 (0 : Int32))) else (some ((-1 : Int32), w_1.2))))))
theorem hdX4_ring : yX4_ring.cls = RX4 ∧ yX4_ring.cls ≠ "java/lang/invoke/MethodHandle" ∧ yX4_ring.cls ≠ "java/lang/invoke/VarHandle" ∧ (parseMethodDescriptor yX4_ring.desc).map (fun d => d.parameters.length) = some 1 := by decide +kernel
set_option maxHeartbeats 4000000 in
theorem mX4_ring (l : Launch) (D : va_G) (d : Nat → ClassId) (a : Nat → Nat) (N : Nat) (t : TS) (x1 : Int32) (w : Int32 × TS) (hf : fX4_ring N t x1 = some w) (sz : Nat) : Met l yX4_ring (ws_ yX4_ring cX4_ring 4 (some .int)) (rm_ 6 145) (PcT D d a [.int x1] t sz) (QiT D d a w.1 w.2 sz) 0 0 (AT a sz) := by
  refine Met.ofW (cc := cX4_ring) (maxL := 4) (ret := (some .int)) plX4 rfl ?_
  intro p e s m args below meth c s₁ B hml hv
  obtain ⟨C, hV, hT, hr, hlocks, hargs, rfl⟩ := t_enter B hml rfl hv
  have hx := C.1
  have hb := C.2.1
  show W p l e (rm_ 6 145) s m args below meth c s.heap [] 0 0 (MQ below (QiT D d a w.1 w.2 s.heap.size) args s 0 0 (AT a s.heap.size)) _
  have hL25 : ∀ (K : TS → Int32 → Option (Int32 × TS)), (∀ (t : TS) (x1 : Int32) (H : Heap) (locs : List Loc) (ls : Array Slot), TH D (AT a s.heap.size) s.heap (wT d a t) H locs → lv_has ls 4 [(0, .ref (a 42)), (1, .int x1)] → K t x1 = some w → W p l e (rm_ 6 145) s m args below meth c H locs 0 0 (MQ below (QiT D d a w.1 w.2 s.heap.size) args s 0 0 (AT a s.heap.size)) (F0 m 76 ls [])) → ∀ (n : Nat) (t : TS) (x1 : Int32) (x2 : Int32) (H : Heap) (locs : List Loc) (ls : Array Slot), TH D (AT a s.heap.size) s.heap (wT d a t) H locs → lv_has ls 4 [(0, .ref (a 42)), (1, .int x1), (2, .int x2)] → fX4_ring_L25 N K n t x1 x2 = some w → W p l e (rm_ 6 145) s m args below meth c H locs 0 0 (MQ below (QiT D d a w.1 w.2 s.heap.size) args s 0 0 (AT a s.heap.size)) (F0 m 25 ls []) := by
    intro K hE n
    induction n with
    | zero =>
      intro t x1 x2 H locs ls hT hl hf
      cases hf
    | succ n ih =>
      have hL33 : ∀ (K : TS → Int32 → Int32 → Option (Int32 × TS)), (∀ (t : TS) (x1 : Int32) (x2 : Int32) (H : Heap) (locs : List Loc) (ls : Array Slot), TH D (AT a s.heap.size) s.heap (wT d a t) H locs → lv_has ls 4 [(0, .ref (a 42)), (1, .int x1), (2, .int x2)] → K t x1 x2 = some w → W p l e (rm_ 6 145) s m args below meth c H locs 0 0 (MQ below (QiT D d a w.1 w.2 s.heap.size) args s 0 0 (AT a s.heap.size)) (F0 m 65 ls [])) → ∀ (n : Nat) (t : TS) (x1 : Int32) (x2 : Int32) (x3 : Int32) (H : Heap) (locs : List Loc) (ls : Array Slot), TH D (AT a s.heap.size) s.heap (wT d a t) H locs → lv_has ls 4 [(0, .ref (a 42)), (1, .int x1), (2, .int x2), (3, .int x3)] → fX4_ring_L33 N K n t x1 x2 x3 = some w → W p l e (rm_ 6 145) s m args below meth c H locs 0 0 (MQ below (QiT D d a w.1 w.2 s.heap.size) args s 0 0 (AT a s.heap.size)) (F0 m 33 ls []) := by
        intro K hE n
        induction n with
        | zero =>
          intro t x1 x2 x3 H locs ls hT hl hf
          cases hf
        | succ n ih =>
          intro t x1 x2 x3 H locs ls hT hl hf
          replace hf : fX4_ring_B33 N K (fX4_ring_L33 N K n) t x1 x2 x3 = some w := hf
          unfold fX4_ring_B33 at hf
          refine lv_iload_n hx hb dX4_ring_33 rfl (lv_at hl 3 rfl) ?_
          refine lv_aload_n hx hb dX4_ring_34 rfl (lv_at hl 0 rfl) ?_
          refine t_get C hV hT 20 (by decide) q1267 rfl dX4_ring_35 ?_
          refine lv_iconst (v := 3) hx hb dX4_ring_38 (by decide) ?_
          refine g_ild C hV hT 10 3 rfl (vin_of (by decide)) (by decide) dX4_ring_39 ?_
          refine lv_icmp_ge (tgt := 65) hx hb dX4_ring_40 (by decide) (fun hc => ?_) (fun hc => ?_)
          · have hf := ite_t hc hf
            exact hE t x1 x2 _ _ _ hT (lv_sub hl [0, 1, 2] rfl) hf
          · have hf := ite_f hc hf
            refine lv_aload_n hx hb dX4_ring_43 rfl (lv_at hl 0 rfl) ?_
            refine t_get C hV hT 34 (by decide) q1281 rfl dX4_ring_44 ?_
            refine lv_bipush (v := 6) hx hb dX4_ring_47 (by decide) ?_
            refine lv_iload_n hx hb dX4_ring_49 rfl (lv_at hl 2 rfl) ?_
            refine lv_imul hx hb dX4_ring_50 ?_
            refine lv_iload_n hx hb dX4_ring_51 rfl (lv_at hl 3 rfl) ?_
            refine lv_iadd hx hb dX4_ring_52 ?_
            refine lv_aload_n hx hb dX4_ring_53 rfl (lv_at hl 0 rfl) ?_
            refine lv_iload_n hx hb dX4_ring_54 rfl (lv_at hl 3 rfl) ?_
            obtain ⟨w_55, h_55, hf⟩ := bind_e hf
            refine t_calli (vs := [.int x3]) (rest := [.int (((6 : Int32) * x2) + x3), .ref (a 34)]) C hV hT (fun sz => mX4_waitOn l D d a N t x3 _ h_55 sz) (cwV 1 C.2.2.2.2 (lw_V q1565 q1567 qs79 q129 q1568) rfl rfl rfl hdX4_waitOn ⟨Nat.le_of_ble_eq_true rfl, Nat.le_of_ble_eq_true rfl⟩) rfl hl.1 rfl (Nat.le_of_ble_eq_true rfl) dX4_ring_55 (fun H locs hT => ?_)
            obtain ⟨hi, hf⟩ := ix_e hf
            refine t_ist C hV hT 17 _ rfl hi rfl (tast_34 d a w_55.2 _ _) dX4_ring_58 (fun t_58 H locs et hT => ?_)
            have hf := lett_e et hf
            obtain ⟨x3_59, ex⟩ : ∃ y : Int32, y = (x3 + (1 : Int32)) := ⟨_, rfl⟩
            have hf := lett_e ex hf
            refine lv_iinc (v := x3_59) (lv' := [(3, .int x3_59), (0, .ref (a 42)), (1, .int x1), (2, .int x2)]) hx hb dX4_ring_59 hl (k := 3) rfl (by rw [ex]; rfl) (by decide) rfl (fun ls hl => ?_)
            refine lv_goto (tgt := 33) hx hb dX4_ring_62 (by decide) ?_
            exact ih t_58 x1 x2 x3_59 _ _ _ hT (lv_sub hl [1, 2, 3, 0] rfl) hf
      intro t x1 x2 H locs ls hT hl hf
      replace hf : fX4_ring_B25 N K (fX4_ring_L25 N K n) t x1 x2 = some w := hf
      unfold fX4_ring_B25 at hf
      refine lv_iload_n hx hb dX4_ring_25 rfl (lv_at hl 2 rfl) ?_
      refine lv_bipush (v := 60) hx hb dX4_ring_26 (by decide) ?_
      refine lv_icmp_gt (tgt := 76) hx hb dX4_ring_28 (by decide) (fun hc => ?_) (fun hc => ?_)
      · have hf := ite_t hc hf
        exact hE t x1 _ _ _ hT (lv_sub hl [0, 1] rfl) hf
      · have hf := ite_f hc hf
        refine lv_iconst (v := 0) hx hb dX4_ring_31 (by decide) ?_
        refine lv_istore_n (lv' := [(3, .int (0 : Int32)), (0, .ref (a 42)), (1, .int x1), (2, .int x2)]) hx hb dX4_ring_32 rfl hl (by decide) rfl (fun ls hl => ?_)
        refine hL33 _ (fun t x1 x2 H locs ls hT hl hf => ?_) N t x1 x2 (0 : Int32) _ _ _ hT (lv_sub hl [1, 2, 3, 0] rfl) hf
        refine lv_aload_n hx hb dX4_ring_65 rfl (lv_at hl 0 rfl) ?_
        obtain ⟨w_66, h_66, hf⟩ := bind_e hf
        refine t_calli (vs := []) (rest := []) C hV hT (fun sz => mX4_passes l D d a N t  _ h_66 sz) (cwV 0 C.2.2.2.2 (lw_V q1609 q1611 qs87 q129 q1612) rfl rfl rfl hdX4_passes ⟨Nat.le_of_ble_eq_true rfl, Nat.le_of_ble_eq_true rfl⟩) rfl hl.1 rfl (Nat.le_of_ble_eq_true rfl) dX4_ring_66 (fun H locs hT => ?_)
        refine lv_pop hx hb dX4_ring_69 rfl ?_
        obtain ⟨x2_70, ex⟩ : ∃ y : Int32, y = (x2 + (1 : Int32)) := ⟨_, rfl⟩
        have hf := lett_e ex hf
        refine lv_iinc (v := x2_70) (lv' := [(2, .int x2_70), (0, .ref (a 42)), (1, .int x1)]) hx hb dX4_ring_70 hl (k := 2) rfl (by rw [ex]; rfl) (by decide) rfl (fun ls hl => ?_)
        refine lv_goto (tgt := 25) hx hb dX4_ring_73 (by decide) ?_
        exact ih w_66.2 x1 x2_70 _ _ _ hT (lv_sub hl [1, 2, 0] rfl) hf
  have hL82 : ∀ (K : TS → Option (Int32 × TS)), (∀ (t : TS) (H : Heap) (locs : List Loc) (ls : Array Slot), TH D (AT a s.heap.size) s.heap (wT d a t) H locs → lv_has ls 4 [] → K t = some w → W p l e (rm_ 6 145) s m args below meth c H locs 0 0 (MQ below (QiT D d a w.1 w.2 s.heap.size) args s 0 0 (AT a s.heap.size)) (F0 m 139 ls [])) → ∀ (n : Nat) (t : TS) (x1 : Int32) (x2 : Int32) (H : Heap) (locs : List Loc) (ls : Array Slot), TH D (AT a s.heap.size) s.heap (wT d a t) H locs → lv_has ls 4 [(0, .ref (a 42)), (1, .int x1), (2, .int x2)] → fX4_ring_L82 N K n t x1 x2 = some w → W p l e (rm_ 6 145) s m args below meth c H locs 0 0 (MQ below (QiT D d a w.1 w.2 s.heap.size) args s 0 0 (AT a s.heap.size)) (F0 m 82 ls []) := by
    intro K hE n
    induction n with
    | zero =>
      intro t x1 x2 H locs ls hT hl hf
      cases hf
    | succ n ih =>
      have hL92 : ∀ (K : TS → Int32 → Int32 → Option (Int32 × TS)), (∀ (t : TS) (x1 : Int32) (x2 : Int32) (H : Heap) (locs : List Loc) (ls : Array Slot), TH D (AT a s.heap.size) s.heap (wT d a t) H locs → lv_has ls 4 [(0, .ref (a 42)), (1, .int x1), (2, .int x2)] → K t x1 x2 = some w → W p l e (rm_ 6 145) s m args below meth c H locs 0 0 (MQ below (QiT D d a w.1 w.2 s.heap.size) args s 0 0 (AT a s.heap.size)) (F0 m 133 ls [])) → ∀ (n : Nat) (t : TS) (x1 : Int32) (x2 : Int32) (x3 : Int32) (H : Heap) (locs : List Loc) (ls : Array Slot), TH D (AT a s.heap.size) s.heap (wT d a t) H locs → lv_has ls 4 [(0, .ref (a 42)), (1, .int x1), (2, .int x2), (3, .int x3)] → fX4_ring_L92 N K n t x1 x2 x3 = some w → W p l e (rm_ 6 145) s m args below meth c H locs 0 0 (MQ below (QiT D d a w.1 w.2 s.heap.size) args s 0 0 (AT a s.heap.size)) (F0 m 92 ls []) := by
        intro K hE n
        induction n with
        | zero =>
          intro t x1 x2 x3 H locs ls hT hl hf
          cases hf
        | succ n ih =>
          intro t x1 x2 x3 H locs ls hT hl hf
          replace hf : fX4_ring_B92 N K (fX4_ring_L92 N K n) t x1 x2 x3 = some w := hf
          unfold fX4_ring_B92 at hf
          refine lv_iload_n hx hb dX4_ring_92 rfl (lv_at hl 3 rfl) ?_
          refine lv_bipush (v := 60) hx hb dX4_ring_93 (by decide) ?_
          refine lv_icmp_gt (tgt := 133) hx hb dX4_ring_95 (by decide) (fun hc => ?_) (fun hc => ?_)
          · have hf := ite_t hc hf
            exact hE t x1 x2 _ _ _ hT (lv_sub hl [0, 1, 2] rfl) hf
          · have hf := ite_f hc hf
            refine lv_aload_n hx hb dX4_ring_98 rfl (lv_at hl 0 rfl) ?_
            refine lv_iload_n hx hb dX4_ring_99 rfl (lv_at hl 2 rfl) ?_
            refine lv_iload_n hx hb dX4_ring_100 rfl (lv_at hl 3 rfl) ?_
            obtain ⟨w_101, h_101, hf⟩ := bind_e hf
            refine t_calli (vs := [.int x2, .int x3]) (rest := []) C hV hT (fun sz => mX4_areAlike l D d a N t x2 x3 _ h_101 sz) (cwV 2 C.2.2.2.2 (lw_V q1807 q1809 qs114 q129 q1810) rfl rfl rfl hdX4_areAlike ⟨Nat.le_of_ble_eq_true rfl, Nat.le_of_ble_eq_true rfl⟩) rfl hl.1 rfl (Nat.le_of_ble_eq_true rfl) dX4_ring_101 (fun H locs hT => ?_)
            refine lv_if_eq (tgt := 127) hx hb dX4_ring_104 (by decide) (fun hc => ?_) (fun hc => ?_)
            · have hf := ite_t hc hf
              obtain ⟨x3_127, ex⟩ : ∃ y : Int32, y = (x3 + (1 : Int32)) := ⟨_, rfl⟩
              have hf := lett_e ex hf
              refine lv_iinc (v := x3_127) (lv' := [(3, .int x3_127), (0, .ref (a 42)), (1, .int x1), (2, .int x2)]) hx hb dX4_ring_127 hl (k := 3) rfl (by rw [ex]; rfl) (by decide) rfl (fun ls hl => ?_)
              refine lv_goto (tgt := 92) hx hb dX4_ring_130 (by decide) ?_
              exact ih w_101.2 x1 x2 x3_127 _ _ _ hT (lv_sub hl [1, 2, 3, 0] rfl) hf
            · have hf := ite_f hc hf
              refine lv_iload_n hx hb dX4_ring_107 rfl (lv_at hl 1 rfl) ?_
              refine lv_if_ne (tgt := 123) hx hb dX4_ring_108 (by decide) (fun hc => ?_) (fun hc => ?_)
              · have hf := ite_t hc hf
                refine lv_iload_n hx hb dX4_ring_123 rfl (lv_at hl 3 rfl) ?_
                refine lv_iload_n hx hb dX4_ring_124 rfl (lv_at hl 2 rfl) ?_
                refine lv_isub hx hb dX4_ring_125 ?_
                exact t_iret C hT hf hr hlocks dX4_ring_126
              · have hf := ite_f (fun q => q hc) hf
                refine lv_aload_n hx hb dX4_ring_111 rfl (lv_at hl 0 rfl) ?_
                refine t_get C hV hT 20 (by decide) q1267 rfl dX4_ring_112 ?_
                refine lv_bipush (v := 10) hx hb dX4_ring_115 (by decide) ?_
                refine g_ild C hV hT 10 10 rfl (vin_of (by decide)) (by decide) dX4_ring_117 ?_
                refine lv_iload_n hx hb dX4_ring_118 rfl (lv_at hl 2 rfl) ?_
                refine lv_iadd hx hb dX4_ring_119 ?_
                refine lv_goto (tgt := 126) hx hb dX4_ring_120 (by decide) ?_
                exact t_iret C hT hf hr hlocks dX4_ring_126
      intro t x1 x2 H locs ls hT hl hf
      replace hf : fX4_ring_B82 N K (fX4_ring_L82 N K n) t x1 x2 = some w := hf
      unfold fX4_ring_B82 at hf
      refine lv_iload_n hx hb dX4_ring_82 rfl (lv_at hl 2 rfl) ?_
      refine lv_bipush (v := 60) hx hb dX4_ring_83 (by decide) ?_
      refine lv_icmp_ge (tgt := 139) hx hb dX4_ring_85 (by decide) (fun hc => ?_) (fun hc => ?_)
      · have hf := ite_t hc hf
        exact hE t _ _ _ hT (lv_sub hl [] rfl) hf
      · have hf := ite_f hc hf
        refine lv_iload_n hx hb dX4_ring_88 rfl (lv_at hl 2 rfl) ?_
        refine lv_iconst (v := 1) hx hb dX4_ring_89 (by decide) ?_
        refine lv_iadd hx hb dX4_ring_90 ?_
        refine lv_topi (fun x3_91 ex => ?_)
        have hf := lett_e ex hf
        refine lv_istore_n (lv' := [(3, .int x3_91), (0, .ref (a 42)), (1, .int x1), (2, .int x2)]) hx hb dX4_ring_91 rfl hl (by decide) rfl (fun ls hl => ?_)
        refine hL92 _ (fun t x1 x2 H locs ls hT hl hf => ?_) N t x1 x2 x3_91 _ _ _ hT (lv_sub hl [1, 2, 3, 0] rfl) hf
        obtain ⟨x2_133, ex⟩ : ∃ y : Int32, y = (x2 + (1 : Int32)) := ⟨_, rfl⟩
        have hf := lett_e ex hf
        refine lv_iinc (v := x2_133) (lv' := [(2, .int x2_133), (0, .ref (a 42)), (1, .int x1)]) hx hb dX4_ring_133 hl (k := 2) rfl (by rw [ex]; rfl) (by decide) rfl (fun ls hl => ?_)
        refine lv_goto (tgt := 82) hx hb dX4_ring_136 (by decide) ?_
        exact ih t x1 x2_133 _ _ _ hT (lv_sub hl [1, 2, 0] rfl) hf
  refine W.eq (by rw [hargs]) (t_in (vs := [.ref (a 42), .int x1]) (n := 4) (Nat.le_of_ble_eq_true rfl) (fun ls hl => ?_))
  have hl : lv_has ls 4 [(0, .ref (a 42)), (1, .int x1)] := hl
  unfold fX4_ring at hf
  skip
  refine lv_aload_n hx hb dX4_ring_0 rfl (lv_at hl 0 rfl) ?_
  obtain ⟨w_1, h_1, hf⟩ := bind_e hf
  refine t_calli (vs := []) (rest := []) C hV hT (fun sz => mX4_isJunction l D d a N t  _ h_1 sz) (cwV 0 C.2.2.2.2 (lw_V q1593 q1595 qs85 q129 q1596) rfl rfl rfl hdX4_isJunction ⟨Nat.le_of_ble_eq_true rfl, Nat.le_of_ble_eq_true rfl⟩) rfl hl.1 rfl (Nat.le_of_ble_eq_true rfl) dX4_ring_1 (fun H locs hT => ?_)
  refine lv_if_eq (tgt := 17) hx hb dX4_ring_4 (by decide) (fun hc => ?_) (fun hc => ?_)
  · have hf := ite_t hc hf
    refine lv_iconst (v := -1) hx hb dX4_ring_17 (by decide) ?_
    exact t_iret C hT hf hr hlocks dX4_ring_18
  · have hf := ite_f hc hf
    refine lv_iload_n hx hb dX4_ring_7 rfl (lv_at hl 1 rfl) ?_
    refine lv_i2l hx hb dX4_ring_8 rfl ?_
    refine lv_lconst (v := 0) hx hb dX4_ring_9 (by decide) ?_
    refine lv_lconst (v := 1) hx hb dX4_ring_10 (by decide) ?_
    obtain ⟨w_11, h_11, hf⟩ := bind_e hf
    refine s_calli (vs := [.long (x1).toInt64, .long (0 : Int64), .long (1 : Int64)]) (rest := []) C (fun q h => Or.inr h) hT (fun sz => mX4_in l N (x1).toInt64 (0 : Int64) (1 : Int64) _ h_11 sz) (va_cwS 3 C.2.2.2.2 (lw_S q1448 q1449 q129 q1450) rfl rfl rfl hdX4_in ⟨Nat.le_of_ble_eq_true rfl, Nat.le_of_ble_eq_true rfl⟩) rfl hl.1 rfl (Nat.le_of_ble_eq_true rfl) dX4_ring_11 ⟨Nat.zero_le _, Nat.zero_le _⟩ (fun H locs hT => ?_)
    refine lv_if_ne (tgt := 19) hx hb dX4_ring_14 (by decide) (fun hc => ?_) (fun hc => ?_)
    · have hf := ite_t hc hf
      refine lv_aload_n hx hb dX4_ring_19 rfl (lv_at hl 0 rfl) ?_
      obtain ⟨w_20, h_20, hf⟩ := bind_e hf
      refine t_callv (vs := []) (rest := []) C hV hT (fun sz => mX4_keeps l D d a N w_1.2  _ h_20 sz) (cwV 0 C.2.2.2.2 (lw_V q1701 q1703 qs100 q129 q1704) rfl rfl rfl hdX4_keeps ⟨Nat.le_of_ble_eq_true rfl, Nat.le_of_ble_eq_true rfl⟩) rfl hl.1 rfl (Nat.le_of_ble_eq_true rfl) dX4_ring_20 (fun H locs hT => ?_)
      refine lv_iconst (v := 0) hx hb dX4_ring_23 (by decide) ?_
      refine lv_istore_n (lv' := [(2, .int (0 : Int32)), (0, .ref (a 42)), (1, .int x1)]) hx hb dX4_ring_24 rfl hl (by decide) rfl (fun ls hl => ?_)
      refine hL25 _ (fun t x1 H locs ls hT hl hf => ?_) N w_20 x1 (0 : Int32) _ _ _ hT (lv_sub hl [1, 2, 0] rfl) hf
      refine lv_aload_n hx hb dX4_ring_76 rfl (lv_at hl 0 rfl) ?_
      obtain ⟨w_77, h_77, hf⟩ := bind_e hf
      refine t_callv (vs := []) (rest := []) C hV hT (fun sz => mX4_laysBack l D d a N t  _ h_77 sz) (cwV 0 C.2.2.2.2 (lw_V q1709 q1711 qs102 q129 q1712) rfl rfl rfl hdX4_laysBack ⟨Nat.le_of_ble_eq_true rfl, Nat.le_of_ble_eq_true rfl⟩) rfl hl.1 rfl (Nat.le_of_ble_eq_true rfl) dX4_ring_77 (fun H locs hT => ?_)
      refine lv_iconst (v := 0) hx hb dX4_ring_80 (by decide) ?_
      refine lv_istore_n (lv' := [(2, .int (0 : Int32)), (0, .ref (a 42)), (1, .int x1)]) hx hb dX4_ring_81 rfl hl (by decide) rfl (fun ls hl => ?_)
      refine hL82 _ (fun t H locs ls hT hl hf => ?_) N w_77 x1 (0 : Int32) _ _ _ hT (lv_sub hl [1, 2, 0] rfl) hf
      refine lv_bipush (v := -2) hx hb dX4_ring_139 (by decide) ?_
      exact t_iret C hT hf hr hlocks dX4_ring_141
    · have hf := ite_f (fun q => q hc) hf
      refine lv_iconst (v := -1) hx hb dX4_ring_17 (by decide) ?_
      exact t_iret C hT hf hr hlocks dX4_ring_18
def fX4_pence_B52 (N : Nat) (K : TS → Int32 → Int32 → Int32 → Int32 → Option (Int32 × TS)) (kb : TS → Int32 → Int32 → Int32 → Int32 → Int32 → Int32 → Int32 → Option (Int32 × TS)) (t : TS) (x1 : Int32) (x2 : Int32) (x3 : Int32) (x4 : Int32) (x5 : Int32) (x6 : Int32) (x7 : Int32) : Option (Int32 × TS) :=
  (if (t.2.1 20 3) ≤ x7 then (K t x3 x4 x5 x6) else ((fX4_waitedOn N t x7).bind fun w_67 => (lett (x1 * w_67.1) fun x8_71 => (nz x3 (lett (x5 - (x8_71 / x3)) fun x5_80 => (nz x3 (nz x3 (if (irem x4 x3) < (irem x8_71 x3) then (lett (x6 + (1 : Int32)) fun x6_118 => (lett (x7 + (1 : Int32)) fun x7_120 => (kb w_67.2 x1 x2 x3 x4 x5_80 x6_118 x7_120))) else (nz x3 (nz x3 (if ¬ (irem x8_71 x3) = (irem x4 x3) then (lett (x6 + (0 : Int32)) fun x6_118 => (lett (x7 + (1 : Int32)) fun x7_120 => (kb w_67.2 x1 x2 x3 x4 x5_80 x6_118 x7_120))) else (if x2 ≤ x7 then (lett (x6 + (0 : Int32)) fun x6_118 => (lett (x7 + (1 : Int32)) fun x7_120 => (kb w_67.2 x1 x2 x3 x4 x5_80 x6_118 x7_120))) else (lett (x6 + (1 : Int32)) fun x6_118 => (lett (x7 + (1 : Int32)) fun x7_120 => (kb w_67.2 x1 x2 x3 x4 x5_80 x6_118 x7_120)))))))))))))))
def fX4_pence_L52 (N : Nat) (K : TS → Int32 → Int32 → Int32 → Int32 → Option (Int32 × TS)) : Nat → TS → Int32 → Int32 → Int32 → Int32 → Int32 → Int32 → Int32 → Option (Int32 × TS)
  | 0 => fun _ _ _ _ _ _ _ _ => none
  | n + 1 => fun t x1 x2 x3 x4 x5 x6 x7 => fX4_pence_B52 N K (fX4_pence_L52 N K n) t x1 x2 x3 x4 x5 x6 x7
def fX4_pence (N : Nat) (t : TS) (x1 : Int32) (x2 : Int32) : Option (Int32 × TS) :=
  ((fX4_isRoad N t x2).bind fun w_2 => (if w_2.1 = 0 then (some ((-1 : Int32), w_2.2)) else ((fX4_in N (x1).toInt64 (0 : Int64) (9999 : Int64)).bind fun w_14 => (if ¬ w_14 = 0 then ((fX4_sumOver N w_2.2 (3 : Int32)).bind fun w_24 => (if ¬ w_24.1 = 0 then ((fX4_waitedOn N w_24.2 x2).bind fun w_37 => (lett (x1 * w_37.1) fun x4_41 => (fX4_pence_L52 N (fun t x3 x4 x5 x6 => (nz x3 (if x5 ≤ x6 then (some (((x4 / x3) + (0 : Int32)), t)) else (some (((x4 / x3) + (1 : Int32)), t))))) N w_37.2 x1 x2 w_24.1 x4_41 x1 (0 : Int32) (0 : Int32)))) else (some ((0 : Int32), w_24.2)))) else (some ((-1 : Int32), w_2.2))))))
theorem hdX4_pence : yX4_pence.cls = RX4 ∧ yX4_pence.cls ≠ "java/lang/invoke/MethodHandle" ∧ yX4_pence.cls ≠ "java/lang/invoke/VarHandle" ∧ (parseMethodDescriptor yX4_pence.desc).map (fun d => d.parameters.length) = some 2 := by decide +kernel
set_option maxHeartbeats 4000000 in
theorem mX4_pence (l : Launch) (D : va_G) (d : Nat → ClassId) (a : Nat → Nat) (N : Nat) (t : TS) (x1 : Int32) (x2 : Int32) (w : Int32 × TS) (hf : fX4_pence N t x1 x2 = some w) (sz : Nat) : Met l yX4_pence (ws_ yX4_pence cX4_pence 9 (some .int)) (rm_ 1 25) (PcT D d a [.int x1, .int x2] t sz) (QiT D d a w.1 w.2 sz) 0 0 (AT a sz) := by
  refine Met.ofW (cc := cX4_pence) (maxL := 9) (ret := (some .int)) plX4 rfl ?_
  intro p e s m args below meth c s₁ B hml hv
  obtain ⟨C, hV, hT, hr, hlocks, hargs, rfl⟩ := t_enter B hml rfl hv
  have hx := C.1
  have hb := C.2.1
  show W p l e (rm_ 1 25) s m args below meth c s.heap [] 0 0 (MQ below (QiT D d a w.1 w.2 s.heap.size) args s 0 0 (AT a s.heap.size)) _
  have hL52 : ∀ (K : TS → Int32 → Int32 → Int32 → Int32 → Option (Int32 × TS)), (∀ (t : TS) (x3 : Int32) (x4 : Int32) (x5 : Int32) (x6 : Int32) (H : Heap) (locs : List Loc) (ls : Array Slot), TH D (AT a s.heap.size) s.heap (wT d a t) H locs → lv_has ls 9 [(3, .int x3), (4, .int x4), (5, .int x5), (6, .int x6)] → K t x3 x4 x5 x6 = some w → W p l e (rm_ 1 25) s m args below meth c H locs 0 0 (MQ below (QiT D d a w.1 w.2 s.heap.size) args s 0 0 (AT a s.heap.size)) (F0 m 126 ls [])) → ∀ (n : Nat) (t : TS) (x1 : Int32) (x2 : Int32) (x3 : Int32) (x4 : Int32) (x5 : Int32) (x6 : Int32) (x7 : Int32) (H : Heap) (locs : List Loc) (ls : Array Slot), TH D (AT a s.heap.size) s.heap (wT d a t) H locs → lv_has ls 9 [(0, .ref (a 42)), (1, .int x1), (2, .int x2), (3, .int x3), (4, .int x4), (5, .int x5), (6, .int x6), (7, .int x7)] → fX4_pence_L52 N K n t x1 x2 x3 x4 x5 x6 x7 = some w → W p l e (rm_ 1 25) s m args below meth c H locs 0 0 (MQ below (QiT D d a w.1 w.2 s.heap.size) args s 0 0 (AT a s.heap.size)) (F0 m 52 ls []) := by
    intro K hE n
    induction n with
    | zero =>
      intro t x1 x2 x3 x4 x5 x6 x7 H locs ls hT hl hf
      cases hf
    | succ n ih =>
      intro t x1 x2 x3 x4 x5 x6 x7 H locs ls hT hl hf
      replace hf : fX4_pence_B52 N K (fX4_pence_L52 N K n) t x1 x2 x3 x4 x5 x6 x7 = some w := hf
      unfold fX4_pence_B52 at hf
      refine lv_iload hx hb dX4_pence_52 (lv_at hl 7 rfl) ?_
      refine lv_aload_n hx hb dX4_pence_54 rfl (lv_at hl 0 rfl) ?_
      refine t_get C hV hT 20 (by decide) q1267 rfl dX4_pence_55 ?_
      refine lv_iconst (v := 3) hx hb dX4_pence_58 (by decide) ?_
      refine g_ild C hV hT 10 3 rfl (vin_of (by decide)) (by decide) dX4_pence_59 ?_
      refine lv_icmp_ge (tgt := 126) hx hb dX4_pence_60 (by decide) (fun hc => ?_) (fun hc => ?_)
      · have hf := ite_t hc hf
        exact hE t x3 x4 x5 x6 _ _ _ hT (lv_sub hl [3, 4, 5, 6] rfl) hf
      · have hf := ite_f hc hf
        refine lv_iload_n hx hb dX4_pence_63 rfl (lv_at hl 1 rfl) ?_
        refine lv_aload_n hx hb dX4_pence_64 rfl (lv_at hl 0 rfl) ?_
        refine lv_iload hx hb dX4_pence_65 (lv_at hl 7 rfl) ?_
        obtain ⟨w_67, h_67, hf⟩ := bind_e hf
        refine t_calli (vs := [.int x7]) (rest := [.int x1]) C hV hT (fun sz => mX4_waitedOn l D d a N t x7 _ h_67 sz) (cwV 1 C.2.2.2.2 (lw_V q1577 q1579 qs82 q129 q1580) rfl rfl rfl hdX4_waitedOn ⟨Nat.le_of_ble_eq_true rfl, Nat.le_of_ble_eq_true rfl⟩) rfl hl.1 rfl (Nat.le_of_ble_eq_true rfl) dX4_pence_67 (fun H locs hT => ?_)
        refine lv_imul hx hb dX4_pence_70 ?_
        refine lv_topi (fun x8_71 ex => ?_)
        have hf := lett_e ex hf
        refine lv_istore (lv' := [(8, .int x8_71), (0, .ref (a 42)), (1, .int x1), (2, .int x2), (3, .int x3), (4, .int x4), (5, .int x5), (6, .int x6), (7, .int x7)]) hx hb dX4_pence_71 hl (by decide) rfl (fun ls hl => ?_)
        refine lv_iload hx hb dX4_pence_73 (lv_at hl 6 rfl) ?_
        refine lv_iload hx hb dX4_pence_75 (lv_at hl 0 rfl) ?_
        refine lv_iload_n hx hb dX4_pence_77 rfl (lv_at hl 4 rfl) ?_
        obtain ⟨hn, hf⟩ := nz_e hf
        refine lv_idiv hx hb dX4_pence_78 hn ?_
        refine lv_isub hx hb dX4_pence_79 ?_
        refine lv_topi (fun x5_80 ex => ?_)
        have hf := lett_e ex hf
        refine lv_istore (lv' := [(5, .int x5_80), (8, .int x8_71), (0, .ref (a 42)), (1, .int x1), (2, .int x2), (3, .int x3), (4, .int x4), (6, .int x6), (7, .int x7)]) hx hb dX4_pence_80 hl (by decide) rfl (fun ls hl => ?_)
        refine lv_iload hx hb dX4_pence_82 (lv_at hl 7 rfl) ?_
        refine lv_iload hx hb dX4_pence_84 (lv_at hl 1 rfl) ?_
        refine lv_iload_n hx hb dX4_pence_86 rfl (lv_at hl 5 rfl) ?_
        obtain ⟨hn, hf⟩ := nz_e hf
        refine g_irem hx hb dX4_pence_87 hn ?_
        refine lv_iload hx hb dX4_pence_88 (lv_at hl 6 rfl) ?_
        refine lv_iload_n hx hb dX4_pence_90 rfl (lv_at hl 5 rfl) ?_
        obtain ⟨hn, hf⟩ := nz_e hf
        refine g_irem hx hb dX4_pence_91 hn ?_
        refine lv_icmp_gt (tgt := 112) hx hb dX4_pence_92 (by decide) (fun hc => ?_) (fun hc => ?_)
        · have hf := ite_t hc hf
          refine lv_iconst (v := 1) hx hb dX4_pence_112 (by decide) ?_
          refine lv_goto (tgt := 117) hx hb dX4_pence_113 (by decide) ?_
          refine lv_iadd hx hb dX4_pence_117 ?_
          refine lv_topi (fun x6_118 ex => ?_)
          have hf := lett_e ex hf
          refine lv_istore (lv' := [(6, .int x6_118), (5, .int x5_80), (8, .int x8_71), (0, .ref (a 42)), (1, .int x1), (2, .int x2), (3, .int x3), (4, .int x4), (7, .int x7)]) hx hb dX4_pence_118 hl (by decide) rfl (fun ls hl => ?_)
          obtain ⟨x7_120, ex⟩ : ∃ y : Int32, y = (x7 + (1 : Int32)) := ⟨_, rfl⟩
          have hf := lett_e ex hf
          refine lv_iinc (v := x7_120) (lv' := [(7, .int x7_120), (6, .int x6_118), (5, .int x5_80), (8, .int x8_71), (0, .ref (a 42)), (1, .int x1), (2, .int x2), (3, .int x3), (4, .int x4)]) hx hb dX4_pence_120 hl (k := 8) rfl (by rw [ex]; rfl) (by decide) rfl (fun ls hl => ?_)
          refine lv_goto (tgt := 52) hx hb dX4_pence_123 (by decide) ?_
          exact ih w_67.2 x1 x2 x3 x4 x5_80 x6_118 x7_120 _ _ _ hT (lv_sub hl [4, 5, 6, 7, 8, 2, 1, 0] rfl) hf
        · have hf := ite_f hc hf
          refine lv_iload hx hb dX4_pence_95 (lv_at hl 1 rfl) ?_
          refine lv_iload_n hx hb dX4_pence_97 rfl (lv_at hl 5 rfl) ?_
          obtain ⟨hn, hf⟩ := nz_e hf
          refine g_irem hx hb dX4_pence_98 hn ?_
          refine lv_iload hx hb dX4_pence_99 (lv_at hl 6 rfl) ?_
          refine lv_iload_n hx hb dX4_pence_101 rfl (lv_at hl 5 rfl) ?_
          obtain ⟨hn, hf⟩ := nz_e hf
          refine g_irem hx hb dX4_pence_102 hn ?_
          refine lv_icmp_ne (tgt := 116) hx hb dX4_pence_103 (by decide) (fun hc => ?_) (fun hc => ?_)
          · have hf := ite_t hc hf
            refine lv_iconst (v := 0) hx hb dX4_pence_116 (by decide) ?_
            refine lv_iadd hx hb dX4_pence_117 ?_
            refine lv_topi (fun x6_118 ex => ?_)
            have hf := lett_e ex hf
            refine lv_istore (lv' := [(6, .int x6_118), (5, .int x5_80), (8, .int x8_71), (0, .ref (a 42)), (1, .int x1), (2, .int x2), (3, .int x3), (4, .int x4), (7, .int x7)]) hx hb dX4_pence_118 hl (by decide) rfl (fun ls hl => ?_)
            obtain ⟨x7_120, ex⟩ : ∃ y : Int32, y = (x7 + (1 : Int32)) := ⟨_, rfl⟩
            have hf := lett_e ex hf
            refine lv_iinc (v := x7_120) (lv' := [(7, .int x7_120), (6, .int x6_118), (5, .int x5_80), (8, .int x8_71), (0, .ref (a 42)), (1, .int x1), (2, .int x2), (3, .int x3), (4, .int x4)]) hx hb dX4_pence_120 hl (k := 8) rfl (by rw [ex]; rfl) (by decide) rfl (fun ls hl => ?_)
            refine lv_goto (tgt := 52) hx hb dX4_pence_123 (by decide) ?_
            exact ih w_67.2 x1 x2 x3 x4 x5_80 x6_118 x7_120 _ _ _ hT (lv_sub hl [4, 5, 6, 7, 8, 2, 1, 0] rfl) hf
          · have hf := ite_f (fun q => q hc) hf
            refine lv_iload hx hb dX4_pence_106 (lv_at hl 8 rfl) ?_
            refine lv_iload_n hx hb dX4_pence_108 rfl (lv_at hl 4 rfl) ?_
            refine lv_icmp_ge (tgt := 116) hx hb dX4_pence_109 (by decide) (fun hc => ?_) (fun hc => ?_)
            · have hf := ite_t hc hf
              refine lv_iconst (v := 0) hx hb dX4_pence_116 (by decide) ?_
              refine lv_iadd hx hb dX4_pence_117 ?_
              refine lv_topi (fun x6_118 ex => ?_)
              have hf := lett_e ex hf
              refine lv_istore (lv' := [(6, .int x6_118), (5, .int x5_80), (8, .int x8_71), (0, .ref (a 42)), (1, .int x1), (2, .int x2), (3, .int x3), (4, .int x4), (7, .int x7)]) hx hb dX4_pence_118 hl (by decide) rfl (fun ls hl => ?_)
              obtain ⟨x7_120, ex⟩ : ∃ y : Int32, y = (x7 + (1 : Int32)) := ⟨_, rfl⟩
              have hf := lett_e ex hf
              refine lv_iinc (v := x7_120) (lv' := [(7, .int x7_120), (6, .int x6_118), (5, .int x5_80), (8, .int x8_71), (0, .ref (a 42)), (1, .int x1), (2, .int x2), (3, .int x3), (4, .int x4)]) hx hb dX4_pence_120 hl (k := 8) rfl (by rw [ex]; rfl) (by decide) rfl (fun ls hl => ?_)
              refine lv_goto (tgt := 52) hx hb dX4_pence_123 (by decide) ?_
              exact ih w_67.2 x1 x2 x3 x4 x5_80 x6_118 x7_120 _ _ _ hT (lv_sub hl [4, 5, 6, 7, 8, 2, 1, 0] rfl) hf
            · have hf := ite_f hc hf
              refine lv_iconst (v := 1) hx hb dX4_pence_112 (by decide) ?_
              refine lv_goto (tgt := 117) hx hb dX4_pence_113 (by decide) ?_
              refine lv_iadd hx hb dX4_pence_117 ?_
              refine lv_topi (fun x6_118 ex => ?_)
              have hf := lett_e ex hf
              refine lv_istore (lv' := [(6, .int x6_118), (5, .int x5_80), (8, .int x8_71), (0, .ref (a 42)), (1, .int x1), (2, .int x2), (3, .int x3), (4, .int x4), (7, .int x7)]) hx hb dX4_pence_118 hl (by decide) rfl (fun ls hl => ?_)
              obtain ⟨x7_120, ex⟩ : ∃ y : Int32, y = (x7 + (1 : Int32)) := ⟨_, rfl⟩
              have hf := lett_e ex hf
              refine lv_iinc (v := x7_120) (lv' := [(7, .int x7_120), (6, .int x6_118), (5, .int x5_80), (8, .int x8_71), (0, .ref (a 42)), (1, .int x1), (2, .int x2), (3, .int x3), (4, .int x4)]) hx hb dX4_pence_120 hl (k := 8) rfl (by rw [ex]; rfl) (by decide) rfl (fun ls hl => ?_)
              refine lv_goto (tgt := 52) hx hb dX4_pence_123 (by decide) ?_
              exact ih w_67.2 x1 x2 x3 x4 x5_80 x6_118 x7_120 _ _ _ hT (lv_sub hl [4, 5, 6, 7, 8, 2, 1, 0] rfl) hf
  refine W.eq (by rw [hargs]) (t_in (vs := [.ref (a 42), .int x1, .int x2]) (n := 9) (Nat.le_of_ble_eq_true rfl) (fun ls hl => ?_))
  have hl : lv_has ls 9 [(0, .ref (a 42)), (1, .int x1), (2, .int x2)] := hl
  unfold fX4_pence at hf
  skip
  refine lv_aload_n hx hb dX4_pence_0 rfl (lv_at hl 0 rfl) ?_
  refine lv_iload_n hx hb dX4_pence_1 rfl (lv_at hl 2 rfl) ?_
  obtain ⟨w_2, h_2, hf⟩ := bind_e hf
  refine t_calli (vs := [.int x2]) (rest := []) C hV hT (fun sz => mX4_isRoad l D d a N t x2 _ h_2 sz) (cwV 1 C.2.2.2.2 (lw_V q1561 q1563 qs78 q129 q1564) rfl rfl rfl hdX4_isRoad ⟨Nat.le_of_ble_eq_true rfl, Nat.le_of_ble_eq_true rfl⟩) rfl hl.1 rfl (Nat.le_of_ble_eq_true rfl) dX4_pence_2 (fun H locs hT => ?_)
  refine lv_if_eq (tgt := 20) hx hb dX4_pence_5 (by decide) (fun hc => ?_) (fun hc => ?_)
  · have hf := ite_t hc hf
    refine lv_iconst (v := -1) hx hb dX4_pence_20 (by decide) ?_
    exact t_iret C hT hf hr hlocks dX4_pence_21
  · have hf := ite_f hc hf
    refine lv_iload_n hx hb dX4_pence_8 rfl (lv_at hl 1 rfl) ?_
    refine lv_i2l hx hb dX4_pence_9 rfl ?_
    refine lv_lconst (v := 0) hx hb dX4_pence_10 (by decide) ?_
    refine g_ldc2 (v := 9999) C q1815 dX4_pence_11 ?_
    obtain ⟨w_14, h_14, hf⟩ := bind_e hf
    refine s_calli (vs := [.long (x1).toInt64, .long (0 : Int64), .long (9999 : Int64)]) (rest := []) C (fun q h => Or.inr h) hT (fun sz => mX4_in l N (x1).toInt64 (0 : Int64) (9999 : Int64) _ h_14 sz) (va_cwS 3 C.2.2.2.2 (lw_S q1448 q1449 q129 q1450) rfl rfl rfl hdX4_in ⟨Nat.le_of_ble_eq_true rfl, Nat.le_of_ble_eq_true rfl⟩) rfl hl.1 rfl (Nat.le_of_ble_eq_true rfl) dX4_pence_14 ⟨Nat.zero_le _, Nat.zero_le _⟩ (fun H locs hT => ?_)
    refine lv_if_ne (tgt := 22) hx hb dX4_pence_17 (by decide) (fun hc => ?_) (fun hc => ?_)
    · have hf := ite_t hc hf
      refine lv_aload_n hx hb dX4_pence_22 rfl (lv_at hl 0 rfl) ?_
      refine lv_iconst (v := 3) hx hb dX4_pence_23 (by decide) ?_
      obtain ⟨w_24, h_24, hf⟩ := bind_e hf
      refine t_calli (vs := [.int (3 : Int32)]) (rest := []) C hV hT (fun sz => mX4_sumOver l D d a N w_2.2 (3 : Int32) _ h_24 sz) (cwV 1 C.2.2.2.2 (lw_V q1642 q1644 qs93 q129 q1645) rfl rfl rfl hdX4_sumOver ⟨Nat.le_of_ble_eq_true rfl, Nat.le_of_ble_eq_true rfl⟩) rfl hl.1 rfl (Nat.le_of_ble_eq_true rfl) dX4_pence_24 (fun H locs hT => ?_)
      refine lv_istore_n (lv' := [(3, .int w_24.1), (0, .ref (a 42)), (1, .int x1), (2, .int x2)]) hx hb dX4_pence_27 rfl hl (by decide) rfl (fun ls hl => ?_)
      refine lv_iload_n hx hb dX4_pence_28 rfl (lv_at hl 0 rfl) ?_
      refine lv_if_ne (tgt := 34) hx hb dX4_pence_29 (by decide) (fun hc => ?_) (fun hc => ?_)
      · have hf := ite_t hc hf
        refine lv_iload_n hx hb dX4_pence_34 rfl (lv_at hl 2 rfl) ?_
        refine lv_aload_n hx hb dX4_pence_35 rfl (lv_at hl 1 rfl) ?_
        refine lv_iload_n hx hb dX4_pence_36 rfl (lv_at hl 3 rfl) ?_
        obtain ⟨w_37, h_37, hf⟩ := bind_e hf
        refine t_calli (vs := [.int x2]) (rest := [.int x1]) C hV hT (fun sz => mX4_waitedOn l D d a N w_24.2 x2 _ h_37 sz) (cwV 1 C.2.2.2.2 (lw_V q1577 q1579 qs82 q129 q1580) rfl rfl rfl hdX4_waitedOn ⟨Nat.le_of_ble_eq_true rfl, Nat.le_of_ble_eq_true rfl⟩) rfl hl.1 rfl (Nat.le_of_ble_eq_true rfl) dX4_pence_37 (fun H locs hT => ?_)
        refine lv_imul hx hb dX4_pence_40 ?_
        refine lv_topi (fun x4_41 ex => ?_)
        have hf := lett_e ex hf
        refine lv_istore (lv' := [(4, .int x4_41), (3, .int w_24.1), (0, .ref (a 42)), (1, .int x1), (2, .int x2)]) hx hb dX4_pence_41 hl (by decide) rfl (fun ls hl => ?_)
        refine lv_iload_n hx hb dX4_pence_43 rfl (lv_at hl 3 rfl) ?_
        refine lv_istore (lv' := [(5, .int x1), (4, .int x4_41), (3, .int w_24.1), (0, .ref (a 42)), (1, .int x1), (2, .int x2)]) hx hb dX4_pence_44 hl (by decide) rfl (fun ls hl => ?_)
        refine lv_iconst (v := 0) hx hb dX4_pence_46 (by decide) ?_
        refine lv_istore (lv' := [(6, .int (0 : Int32)), (5, .int x1), (4, .int x4_41), (3, .int w_24.1), (0, .ref (a 42)), (1, .int x1), (2, .int x2)]) hx hb dX4_pence_47 hl (by decide) rfl (fun ls hl => ?_)
        refine lv_iconst (v := 0) hx hb dX4_pence_49 (by decide) ?_
        refine lv_istore (lv' := [(7, .int (0 : Int32)), (6, .int (0 : Int32)), (5, .int x1), (4, .int x4_41), (3, .int w_24.1), (0, .ref (a 42)), (1, .int x1), (2, .int x2)]) hx hb dX4_pence_50 hl (by decide) rfl (fun ls hl => ?_)
        refine hL52 _ (fun t x3 x4 x5 x6 H locs ls hT hl hf => ?_) N w_37.2 x1 x2 w_24.1 x4_41 x1 (0 : Int32) (0 : Int32) _ _ _ hT (lv_sub hl [5, 6, 7, 4, 3, 2, 1, 0] rfl) hf
        refine lv_iload hx hb dX4_pence_126 (lv_at hl 1 rfl) ?_
        refine lv_iload_n hx hb dX4_pence_128 rfl (lv_at hl 0 rfl) ?_
        obtain ⟨hn, hf⟩ := nz_e hf
        refine lv_idiv hx hb dX4_pence_129 hn ?_
        refine lv_iload hx hb dX4_pence_130 (lv_at hl 3 rfl) ?_
        refine lv_iload hx hb dX4_pence_132 (lv_at hl 2 rfl) ?_
        refine lv_icmp_ge (tgt := 141) hx hb dX4_pence_134 (by decide) (fun hc => ?_) (fun hc => ?_)
        · have hf := ite_t hc hf
          refine lv_iconst (v := 0) hx hb dX4_pence_141 (by decide) ?_
          refine lv_iadd hx hb dX4_pence_142 ?_
          exact t_iret C hT hf hr hlocks dX4_pence_143
        · have hf := ite_f hc hf
          refine lv_iconst (v := 1) hx hb dX4_pence_137 (by decide) ?_
          refine lv_goto (tgt := 142) hx hb dX4_pence_138 (by decide) ?_
          refine lv_iadd hx hb dX4_pence_142 ?_
          exact t_iret C hT hf hr hlocks dX4_pence_143
      · have hf := ite_f (fun q => q hc) hf
        refine lv_iconst (v := 0) hx hb dX4_pence_32 (by decide) ?_
        exact t_iret C hT hf hr hlocks dX4_pence_33
    · have hf := ite_f (fun q => q hc) hf
      refine lv_iconst (v := -1) hx hb dX4_pence_20 (by decide) ?_
      exact t_iret C hT hf hr hlocks dX4_pence_21
def fX4_note (N : Nat) (t : TS) (x1 : Int32) (x2 : Int32) (x3 : Int32) : Option (Int32 × TS) :=
  (if ¬ x1 = (-1 : Int32) then ((fX4_in N (x1).toInt64 (0 : Int64) (60 : Int64)).bind fun w_21 => (if w_21 = 0 then (some ((-2 : Int32), t)) else ((fX4_isRoad N t x2).bind fun w_29 => (if w_29.1 = 0 then (some ((-2 : Int32), w_29.2)) else ((fX4_in N (x3).toInt64 (0 : Int64) (9 : Int64)).bind fun w_41 => (if w_41 = 0 then (some ((-2 : Int32), w_29.2)) else (if ¬ (w_29.2.2.1 20 120) = (10 : Int32) then (lett ((90 : Int32) + ((3 : Int32) * (w_29.2.2.1 20 120))) fun x4_74 => (ix x4_74 121 (lett (tsA w_29.2 20 (x4_74).toNatClampNeg x1) fun t_83 => (ix (x4_74 + (1 : Int32)) 121 (lett (tsA t_83 20 ((x4_74 + (1 : Int32))).toNatClampNeg x2) fun t_93 => (ix (x4_74 + (2 : Int32)) 121 (lett (tsA t_93 20 ((x4_74 + (2 : Int32))).toNatClampNeg x3) fun t_103 => (lett (tsA t_103 20 120 ((t_103.2.1 20 120) + (1 : Int32))) fun t_114 => (some ((t_114.2.1 20 120), t_114)))))))))) else (some ((-2 : Int32), w_29.2))))))))) else (lett (tsA t 20 120 (0 : Int32)) fun t_12 => (some ((0 : Int32), t_12))))
theorem hdX4_note : yX4_note.cls = RX4 ∧ yX4_note.cls ≠ "java/lang/invoke/MethodHandle" ∧ yX4_note.cls ≠ "java/lang/invoke/VarHandle" ∧ (parseMethodDescriptor yX4_note.desc).map (fun d => d.parameters.length) = some 3 := by decide +kernel
set_option maxHeartbeats 4000000 in
theorem mX4_note (l : Launch) (D : va_G) (d : Nat → ClassId) (a : Nat → Nat) (N : Nat) (t : TS) (x1 : Int32) (x2 : Int32) (x3 : Int32) (w : Int32 × TS) (hf : fX4_note N t x1 x2 x3 = some w) (sz : Nat) : Met l yX4_note (ws_ yX4_note cX4_note 5 (some .int)) (rm_ 1 25) (PcT D d a [.int x1, .int x2, .int x3] t sz) (QiT D d a w.1 w.2 sz) 0 0 (AT a sz) := by
  refine Met.ofW (cc := cX4_note) (maxL := 5) (ret := (some .int)) plX4 rfl ?_
  intro p e s m args below meth c s₁ B hml hv
  obtain ⟨C, hV, hT, hr, hlocks, hargs, rfl⟩ := t_enter B hml rfl hv
  have hx := C.1
  have hb := C.2.1
  show W p l e (rm_ 1 25) s m args below meth c s.heap [] 0 0 (MQ below (QiT D d a w.1 w.2 s.heap.size) args s 0 0 (AT a s.heap.size)) _
  refine W.eq (by rw [hargs]) (t_in (vs := [.ref (a 42), .int x1, .int x2, .int x3]) (n := 5) (Nat.le_of_ble_eq_true rfl) (fun ls hl => ?_))
  have hl : lv_has ls 5 [(0, .ref (a 42)), (1, .int x1), (2, .int x2), (3, .int x3)] := hl
  unfold fX4_note at hf
  skip
  refine lv_iload_n hx hb dX4_note_0 rfl (lv_at hl 1 rfl) ?_
  refine lv_iconst (v := -1) hx hb dX4_note_1 (by decide) ?_
  refine lv_icmp_ne (tgt := 15) hx hb dX4_note_2 (by decide) (fun hc => ?_) (fun hc => ?_)
  · have hf := ite_t hc hf
    refine lv_iload_n hx hb dX4_note_15 rfl (lv_at hl 1 rfl) ?_
    refine lv_i2l hx hb dX4_note_16 rfl ?_
    refine lv_lconst (v := 0) hx hb dX4_note_17 (by decide) ?_
    refine g_ldc2 (v := 60) C q1766 dX4_note_18 ?_
    obtain ⟨w_21, h_21, hf⟩ := bind_e hf
    refine s_calli (vs := [.long (x1).toInt64, .long (0 : Int64), .long (60 : Int64)]) (rest := []) C (fun q h => Or.inr h) hT (fun sz => mX4_in l N (x1).toInt64 (0 : Int64) (60 : Int64) _ h_21 sz) (va_cwS 3 C.2.2.2.2 (lw_S q1448 q1449 q129 q1450) rfl rfl rfl hdX4_in ⟨Nat.le_of_ble_eq_true rfl, Nat.le_of_ble_eq_true rfl⟩) rfl hl.1 rfl (Nat.le_of_ble_eq_true rfl) dX4_note_21 ⟨Nat.zero_le _, Nat.zero_le _⟩ (fun H locs hT => ?_)
    refine lv_if_eq (tgt := 59) hx hb dX4_note_24 (by decide) (fun hc => ?_) (fun hc => ?_)
    · have hf := ite_t hc hf
      refine lv_bipush (v := -2) hx hb dX4_note_59 (by decide) ?_
      exact t_iret C hT hf hr hlocks dX4_note_61
    · have hf := ite_f hc hf
      refine lv_aload_n hx hb dX4_note_27 rfl (lv_at hl 0 rfl) ?_
      refine lv_iload_n hx hb dX4_note_28 rfl (lv_at hl 2 rfl) ?_
      obtain ⟨w_29, h_29, hf⟩ := bind_e hf
      refine t_calli (vs := [.int x2]) (rest := []) C hV hT (fun sz => mX4_isRoad l D d a N t x2 _ h_29 sz) (cwV 1 C.2.2.2.2 (lw_V q1561 q1563 qs78 q129 q1564) rfl rfl rfl hdX4_isRoad ⟨Nat.le_of_ble_eq_true rfl, Nat.le_of_ble_eq_true rfl⟩) rfl hl.1 rfl (Nat.le_of_ble_eq_true rfl) dX4_note_29 (fun H locs hT => ?_)
      refine lv_if_eq (tgt := 59) hx hb dX4_note_32 (by decide) (fun hc => ?_) (fun hc => ?_)
      · have hf := ite_t hc hf
        refine lv_bipush (v := -2) hx hb dX4_note_59 (by decide) ?_
        exact t_iret C hT hf hr hlocks dX4_note_61
      · have hf := ite_f hc hf
        refine lv_iload_n hx hb dX4_note_35 rfl (lv_at hl 3 rfl) ?_
        refine lv_i2l hx hb dX4_note_36 rfl ?_
        refine lv_lconst (v := 0) hx hb dX4_note_37 (by decide) ?_
        refine g_ldc2 (v := 9) C q1820 dX4_note_38 ?_
        obtain ⟨w_41, h_41, hf⟩ := bind_e hf
        refine s_calli (vs := [.long (x3).toInt64, .long (0 : Int64), .long (9 : Int64)]) (rest := []) C (fun q h => Or.inr h) hT (fun sz => mX4_in l N (x3).toInt64 (0 : Int64) (9 : Int64) _ h_41 sz) (va_cwS 3 C.2.2.2.2 (lw_S q1448 q1449 q129 q1450) rfl rfl rfl hdX4_in ⟨Nat.le_of_ble_eq_true rfl, Nat.le_of_ble_eq_true rfl⟩) rfl hl.1 rfl (Nat.le_of_ble_eq_true rfl) dX4_note_41 ⟨Nat.zero_le _, Nat.zero_le _⟩ (fun H locs hT => ?_)
        refine lv_if_eq (tgt := 59) hx hb dX4_note_44 (by decide) (fun hc => ?_) (fun hc => ?_)
        · have hf := ite_t hc hf
          refine lv_bipush (v := -2) hx hb dX4_note_59 (by decide) ?_
          exact t_iret C hT hf hr hlocks dX4_note_61
        · have hf := ite_f hc hf
          refine lv_aload_n hx hb dX4_note_47 rfl (lv_at hl 0 rfl) ?_
          refine t_get C hV hT 20 (by decide) q1267 rfl dX4_note_48 ?_
          refine lv_bipush (v := 120) hx hb dX4_note_51 (by decide) ?_
          refine g_ild C hV hT 10 120 rfl (vin_of (by decide)) (by decide) dX4_note_53 ?_
          refine lv_bipush (v := 10) hx hb dX4_note_54 (by decide) ?_
          refine lv_icmp_ne (tgt := 62) hx hb dX4_note_56 (by decide) (fun hc => ?_) (fun hc => ?_)
          · have hf := ite_t hc hf
            refine lv_bipush (v := 90) hx hb dX4_note_62 (by decide) ?_
            refine lv_iconst (v := 3) hx hb dX4_note_64 (by decide) ?_
            refine lv_aload_n hx hb dX4_note_65 rfl (lv_at hl 0 rfl) ?_
            refine t_get C hV hT 20 (by decide) q1267 rfl dX4_note_66 ?_
            refine lv_bipush (v := 120) hx hb dX4_note_69 (by decide) ?_
            refine g_ild C hV hT 10 120 rfl (vin_of (by decide)) (by decide) dX4_note_71 ?_
            refine lv_imul hx hb dX4_note_72 ?_
            refine lv_iadd hx hb dX4_note_73 ?_
            refine lv_topi (fun x4_74 ex => ?_)
            have hf := lett_e ex hf
            refine lv_istore (lv' := [(4, .int x4_74), (0, .ref (a 42)), (1, .int x1), (2, .int x2), (3, .int x3)]) hx hb dX4_note_74 hl (by decide) rfl (fun ls hl => ?_)
            refine lv_aload_n hx hb dX4_note_76 rfl (lv_at hl 1 rfl) ?_
            refine t_get C hV hT 20 (by decide) q1267 rfl dX4_note_77 ?_
            refine lv_iload hx hb dX4_note_80 (lv_at hl 0 rfl) ?_
            refine lv_iload_n hx hb dX4_note_82 rfl (lv_at hl 2 rfl) ?_
            obtain ⟨hi, hf⟩ := ix_e hf
            refine t_ist C hV hT 10 _ rfl hi rfl (tast_20 d a w_29.2 _ _) dX4_note_83 (fun t_83 H locs et hT => ?_)
            have hf := lett_e et hf
            refine lv_aload_n hx hb dX4_note_84 rfl (lv_at hl 1 rfl) ?_
            refine t_get C hV hT 20 (by decide) q1267 rfl dX4_note_85 ?_
            refine lv_iload hx hb dX4_note_88 (lv_at hl 0 rfl) ?_
            refine lv_iconst (v := 1) hx hb dX4_note_90 (by decide) ?_
            refine lv_iadd hx hb dX4_note_91 ?_
            refine lv_iload_n hx hb dX4_note_92 rfl (lv_at hl 3 rfl) ?_
            obtain ⟨hi, hf⟩ := ix_e hf
            refine t_ist C hV hT 10 _ rfl hi rfl (tast_20 d a t_83 _ _) dX4_note_93 (fun t_93 H locs et hT => ?_)
            have hf := lett_e et hf
            refine lv_aload_n hx hb dX4_note_94 rfl (lv_at hl 1 rfl) ?_
            refine t_get C hV hT 20 (by decide) q1267 rfl dX4_note_95 ?_
            refine lv_iload hx hb dX4_note_98 (lv_at hl 0 rfl) ?_
            refine lv_iconst (v := 2) hx hb dX4_note_100 (by decide) ?_
            refine lv_iadd hx hb dX4_note_101 ?_
            refine lv_iload_n hx hb dX4_note_102 rfl (lv_at hl 4 rfl) ?_
            obtain ⟨hi, hf⟩ := ix_e hf
            refine t_ist C hV hT 10 _ rfl hi rfl (tast_20 d a t_93 _ _) dX4_note_103 (fun t_103 H locs et hT => ?_)
            have hf := lett_e et hf
            refine lv_aload_n hx hb dX4_note_104 rfl (lv_at hl 1 rfl) ?_
            refine t_get C hV hT 20 (by decide) q1267 rfl dX4_note_105 ?_
            refine lv_bipush (v := 120) hx hb dX4_note_108 (by decide) ?_
            refine lv_dup2_11 hx hb dX4_note_110 rfl rfl ?_
            refine g_ild C hV hT 10 120 rfl (vin_of (by decide)) (by decide) dX4_note_111 ?_
            refine lv_iconst (v := 1) hx hb dX4_note_112 (by decide) ?_
            refine lv_iadd hx hb dX4_note_113 ?_
            refine t_ist C hV hT 10 120 rfl (vin_of (by decide)) (by decide) (tast_20 d a t_103 _ _) dX4_note_114 (fun t_114 H locs et hT => ?_)
            have hf := lett_e et hf
            refine lv_aload_n hx hb dX4_note_115 rfl (lv_at hl 1 rfl) ?_
            refine t_get C hV hT 20 (by decide) q1267 rfl dX4_note_116 ?_
            refine lv_bipush (v := 120) hx hb dX4_note_119 (by decide) ?_
            refine g_ild C hV hT 10 120 rfl (vin_of (by decide)) (by decide) dX4_note_121 ?_
            exact t_iret C hT hf hr hlocks dX4_note_122
          · have hf := ite_f (fun q => q hc) hf
            refine lv_bipush (v := -2) hx hb dX4_note_59 (by decide) ?_
            exact t_iret C hT hf hr hlocks dX4_note_61
  · have hf := ite_f (fun q => q hc) hf
    refine lv_aload_n hx hb dX4_note_5 rfl (lv_at hl 0 rfl) ?_
    refine t_get C hV hT 20 (by decide) q1267 rfl dX4_note_6 ?_
    refine lv_bipush (v := 120) hx hb dX4_note_9 (by decide) ?_
    refine lv_iconst (v := 0) hx hb dX4_note_11 (by decide) ?_
    refine t_ist C hV hT 10 120 rfl (vin_of (by decide)) (by decide) (tast_20 d a t _ _) dX4_note_12 (fun t_12 H locs et hT => ?_)
    have hf := lett_e et hf
    refine lv_iconst (v := 0) hx hb dX4_note_13 (by decide) ?_
    exact t_iret C hT hf hr hlocks dX4_note_14
def fX4_areNotesSo_B2 (N : Nat) (K : TS → Option (Int32 × TS)) (kb : TS → Int32 → Int32 → Option (Int32 × TS)) (t : TS) (x1 : Int32) (x2 : Int32) : Option (Int32 × TS) :=
  (if ((3 : Int32) * (t.2.1 20 120)) ≤ x2 then (K t) else (ix ((90 : Int32) + x2) 121 (if ¬ (t.2.1 20 (((90 : Int32) + x2)).toNatClampNeg) = x1 then (lett (x2 + (3 : Int32)) fun x2_60 => (kb t x1 x2_60)) else (ix (((90 : Int32) + x2) + (1 : Int32)) 121 (ix (t.2.1 20 ((((90 : Int32) + x2) + (1 : Int32))).toNatClampNeg) 6 (ix (((90 : Int32) + x2) + (2 : Int32)) 121 (if (t.2.1 25 ((t.2.1 20 ((((90 : Int32) + x2) + (1 : Int32))).toNatClampNeg)).toNatClampNeg) = (t.2.1 20 ((((90 : Int32) + x2) + (2 : Int32))).toNatClampNeg) then (lett (x2 + (3 : Int32)) fun x2_60 => (kb t x1 x2_60)) else (some ((0 : Int32), t)))))))))
def fX4_areNotesSo_L2 (N : Nat) (K : TS → Option (Int32 × TS)) : Nat → TS → Int32 → Int32 → Option (Int32 × TS)
  | 0 => fun _ _ _ => none
  | n + 1 => fun t x1 x2 => fX4_areNotesSo_B2 N K (fX4_areNotesSo_L2 N K n) t x1 x2
def fX4_areNotesSo (N : Nat) (t : TS) (x1 : Int32) : Option (Int32 × TS) :=
  (fX4_areNotesSo_L2 N (fun t => (some ((1 : Int32), t))) N t x1 (0 : Int32))
theorem hdX4_areNotesSo : yX4_areNotesSo.cls = RX4 ∧ yX4_areNotesSo.cls ≠ "java/lang/invoke/MethodHandle" ∧ yX4_areNotesSo.cls ≠ "java/lang/invoke/VarHandle" ∧ (parseMethodDescriptor yX4_areNotesSo.desc).map (fun d => d.parameters.length) = some 1 := by decide +kernel
set_option maxHeartbeats 4000000 in
theorem mX4_areNotesSo (l : Launch) (D : va_G) (d : Nat → ClassId) (a : Nat → Nat) (N : Nat) (t : TS) (x1 : Int32) (w : Int32 × TS) (hf : fX4_areNotesSo N t x1 = some w) (sz : Nat) : Met l yX4_areNotesSo (ws_ yX4_areNotesSo cX4_areNotesSo 3 (some .boolean)) (rm_ 0 0) (PcT D d a [.int x1] t sz) (QiT D d a w.1 w.2 sz) 0 0 (AT a sz) := by
  refine Met.ofW (cc := cX4_areNotesSo) (maxL := 3) (ret := (some .boolean)) plX4 rfl ?_
  intro p e s m args below meth c s₁ B hml hv
  obtain ⟨C, hV, hT, hr, hlocks, hargs, rfl⟩ := t_enter B hml rfl hv
  have hx := C.1
  have hb := C.2.1
  show W p l e (rm_ 0 0) s m args below meth c s.heap [] 0 0 (MQ below (QiT D d a w.1 w.2 s.heap.size) args s 0 0 (AT a s.heap.size)) _
  have hL2 : ∀ (K : TS → Option (Int32 × TS)), (∀ (t : TS) (H : Heap) (locs : List Loc) (ls : Array Slot), TH D (AT a s.heap.size) s.heap (wT d a t) H locs → lv_has ls 3 [] → K t = some w → W p l e (rm_ 0 0) s m args below meth c H locs 0 0 (MQ below (QiT D d a w.1 w.2 s.heap.size) args s 0 0 (AT a s.heap.size)) (F0 m 66 ls [])) → ∀ (n : Nat) (t : TS) (x1 : Int32) (x2 : Int32) (H : Heap) (locs : List Loc) (ls : Array Slot), TH D (AT a s.heap.size) s.heap (wT d a t) H locs → lv_has ls 3 [(0, .ref (a 42)), (1, .int x1), (2, .int x2)] → fX4_areNotesSo_L2 N K n t x1 x2 = some w → W p l e (rm_ 0 0) s m args below meth c H locs 0 0 (MQ below (QiT D d a w.1 w.2 s.heap.size) args s 0 0 (AT a s.heap.size)) (F0 m 2 ls []) := by
    intro K hE n
    induction n with
    | zero =>
      intro t x1 x2 H locs ls hT hl hf
      cases hf
    | succ n ih =>
      intro t x1 x2 H locs ls hT hl hf
      replace hf : fX4_areNotesSo_B2 N K (fX4_areNotesSo_L2 N K n) t x1 x2 = some w := hf
      unfold fX4_areNotesSo_B2 at hf
      refine lv_iload_n hx hb dX4_areNotesSo_2 rfl (lv_at hl 2 rfl) ?_
      refine lv_iconst (v := 3) hx hb dX4_areNotesSo_3 (by decide) ?_
      refine lv_aload_n hx hb dX4_areNotesSo_4 rfl (lv_at hl 0 rfl) ?_
      refine t_get C hV hT 20 (by decide) q1267 rfl dX4_areNotesSo_5 ?_
      refine lv_bipush (v := 120) hx hb dX4_areNotesSo_8 (by decide) ?_
      refine g_ild C hV hT 10 120 rfl (vin_of (by decide)) (by decide) dX4_areNotesSo_10 ?_
      refine lv_imul hx hb dX4_areNotesSo_11 ?_
      refine lv_icmp_ge (tgt := 66) hx hb dX4_areNotesSo_12 (by decide) (fun hc => ?_) (fun hc => ?_)
      · have hf := ite_t hc hf
        exact hE t _ _ _ hT (lv_sub hl [] rfl) hf
      · have hf := ite_f hc hf
        refine lv_aload_n hx hb dX4_areNotesSo_15 rfl (lv_at hl 0 rfl) ?_
        refine t_get C hV hT 20 (by decide) q1267 rfl dX4_areNotesSo_16 ?_
        refine lv_bipush (v := 90) hx hb dX4_areNotesSo_19 (by decide) ?_
        refine lv_iload_n hx hb dX4_areNotesSo_21 rfl (lv_at hl 2 rfl) ?_
        refine lv_iadd hx hb dX4_areNotesSo_22 ?_
        obtain ⟨hi, hf⟩ := ix_e hf
        refine g_ild C hV hT 10 _ rfl hi rfl dX4_areNotesSo_23 ?_
        refine lv_iload_n hx hb dX4_areNotesSo_24 rfl (lv_at hl 1 rfl) ?_
        refine lv_icmp_ne (tgt := 60) hx hb dX4_areNotesSo_25 (by decide) (fun hc => ?_) (fun hc => ?_)
        · have hf := ite_t hc hf
          obtain ⟨x2_60, ex⟩ : ∃ y : Int32, y = (x2 + (3 : Int32)) := ⟨_, rfl⟩
          have hf := lett_e ex hf
          refine lv_iinc (v := x2_60) (lv' := [(2, .int x2_60), (0, .ref (a 42)), (1, .int x1)]) hx hb dX4_areNotesSo_60 hl (k := 2) rfl (by rw [ex]; rfl) (by decide) rfl (fun ls hl => ?_)
          refine lv_goto (tgt := 2) hx hb dX4_areNotesSo_63 (by decide) ?_
          exact ih t x1 x2_60 _ _ _ hT (lv_sub hl [1, 2, 0] rfl) hf
        · have hf := ite_f (fun q => q hc) hf
          refine lv_aload_n hx hb dX4_areNotesSo_28 rfl (lv_at hl 0 rfl) ?_
          refine t_get C hV hT 25 (by decide) q1272 rfl dX4_areNotesSo_29 ?_
          refine lv_aload_n hx hb dX4_areNotesSo_32 rfl (lv_at hl 0 rfl) ?_
          refine t_get C hV hT 20 (by decide) q1267 rfl dX4_areNotesSo_33 ?_
          refine lv_bipush (v := 90) hx hb dX4_areNotesSo_36 (by decide) ?_
          refine lv_iload_n hx hb dX4_areNotesSo_38 rfl (lv_at hl 2 rfl) ?_
          refine lv_iadd hx hb dX4_areNotesSo_39 ?_
          refine lv_iconst (v := 1) hx hb dX4_areNotesSo_40 (by decide) ?_
          refine lv_iadd hx hb dX4_areNotesSo_41 ?_
          obtain ⟨hi, hf⟩ := ix_e hf
          refine g_ild C hV hT 10 _ rfl hi rfl dX4_areNotesSo_42 ?_
          obtain ⟨hi, hf⟩ := ix_e hf
          refine g_ild C hV hT 11 _ rfl hi rfl dX4_areNotesSo_43 ?_
          refine lv_aload_n hx hb dX4_areNotesSo_44 rfl (lv_at hl 0 rfl) ?_
          refine t_get C hV hT 20 (by decide) q1267 rfl dX4_areNotesSo_45 ?_
          refine lv_bipush (v := 90) hx hb dX4_areNotesSo_48 (by decide) ?_
          refine lv_iload_n hx hb dX4_areNotesSo_50 rfl (lv_at hl 2 rfl) ?_
          refine lv_iadd hx hb dX4_areNotesSo_51 ?_
          refine lv_iconst (v := 2) hx hb dX4_areNotesSo_52 (by decide) ?_
          refine lv_iadd hx hb dX4_areNotesSo_53 ?_
          obtain ⟨hi, hf⟩ := ix_e hf
          refine g_ild C hV hT 10 _ rfl hi rfl dX4_areNotesSo_54 ?_
          refine lv_icmp_eq (tgt := 60) hx hb dX4_areNotesSo_55 (by decide) (fun hc => ?_) (fun hc => ?_)
          · have hf := ite_t hc hf
            obtain ⟨x2_60, ex⟩ : ∃ y : Int32, y = (x2 + (3 : Int32)) := ⟨_, rfl⟩
            have hf := lett_e ex hf
            refine lv_iinc (v := x2_60) (lv' := [(2, .int x2_60), (0, .ref (a 42)), (1, .int x1)]) hx hb dX4_areNotesSo_60 hl (k := 2) rfl (by rw [ex]; rfl) (by decide) rfl (fun ls hl => ?_)
            refine lv_goto (tgt := 2) hx hb dX4_areNotesSo_63 (by decide) ?_
            exact ih t x1 x2_60 _ _ _ hT (lv_sub hl [1, 2, 0] rfl) hf
          · have hf := ite_f hc hf
            refine lv_iconst (v := 0) hx hb dX4_areNotesSo_58 (by decide) ?_
            exact t_zret C hT hf (Or.inl rfl) hr hlocks dX4_areNotesSo_59
  refine W.eq (by rw [hargs]) (t_in (vs := [.ref (a 42), .int x1]) (n := 3) (Nat.le_of_ble_eq_true rfl) (fun ls hl => ?_))
  have hl : lv_has ls 3 [(0, .ref (a 42)), (1, .int x1)] := hl
  unfold fX4_areNotesSo at hf
  skip
  refine lv_iconst (v := 0) hx hb dX4_areNotesSo_0 (by decide) ?_
  refine lv_istore_n (lv' := [(2, .int (0 : Int32)), (0, .ref (a 42)), (1, .int x1)]) hx hb dX4_areNotesSo_1 rfl hl (by decide) rfl (fun ls hl => ?_)
  refine hL2 _ (fun t H locs ls hT hl hf => ?_) N t x1 (0 : Int32) _ _ _ hT (lv_sub hl [1, 2, 0] rfl) hf
  refine lv_iconst (v := 1) hx hb dX4_areNotesSo_66 (by decide) ?_
  exact t_zret C hT hf (Or.inr rfl) hr hlocks dX4_areNotesSo_67
def fX4_fillsFits_B72 (N : Nat) (K : TS → Int32 → Int32 → Int32 → Int32 → Int32 → Option (TS)) (kb : TS → Int32 → Int32 → Int32 → Int32 → Int32 → Int32 → Option (TS)) (t : TS) (x1 : Int32) (x2 : Int32) (x3 : Int32) (x4 : Int32) (x5 : Int32) (x6 : Int32) : Option (TS) :=
  (if (t.2.1 20 3) ≤ x6 then (K t x1 x2 x3 x4 x5) else (if ¬ x5 = x1 then (K t x1 x2 x3 x4 x5) else (ix x6 6 (ix (((6 : Int32) * x3) + x6) 42 (lett (tsA t 36 ((((6 : Int32) * x3) + x6)).toNatClampNeg (t.2.1 25 (x6).toNatClampNeg)) fun t_107 => (lett (x6 + (1 : Int32)) fun x6_108 => (kb t_107 x1 x2 x3 x4 x5 x6_108)))))))
def fX4_fillsFits_L72 (N : Nat) (K : TS → Int32 → Int32 → Int32 → Int32 → Int32 → Option (TS)) : Nat → TS → Int32 → Int32 → Int32 → Int32 → Int32 → Int32 → Option (TS)
  | 0 => fun _ _ _ _ _ _ _ => none
  | n + 1 => fun t x1 x2 x3 x4 x5 x6 => fX4_fillsFits_B72 N K (fX4_fillsFits_L72 N K n) t x1 x2 x3 x4 x5 x6
def fX4_fillsFits_B36 (N : Nat) (K : TS → Int32 → Int32 → Int32 → Int32 → Option (TS)) (kb : TS → Int32 → Int32 → Int32 → Int32 → Int32 → Option (TS)) (t : TS) (x1 : Int32) (x2 : Int32) (x3 : Int32) (x4 : Int32) (x5 : Int32) : Option (TS) :=
  (if (60 : Int32) < x5 then (K t x1 x2 x3 x4) else ((fX4_passes N t ).bind fun w_44 => (if x4 = 0 then (fX4_fillsFits_L72 N (fun t x1 x2 x3 x4 x5 => (lett (x5 + (1 : Int32)) fun x5_114 => (kb t x1 x2 x3 x4 x5_114))) N w_44.2 x1 x2 x3 (0 : Int32) x5 (0 : Int32)) else ((fX4_areNotesSo N w_44.2 x5).bind fun w_56 => (if w_56.1 = 0 then (fX4_fillsFits_L72 N (fun t x1 x2 x3 x4 x5 => (lett (x5 + (1 : Int32)) fun x5_114 => (kb t x1 x2 x3 x4 x5_114))) N w_56.2 x1 x2 x3 (0 : Int32) x5 (0 : Int32)) else (fX4_fillsFits_L72 N (fun t x1 x2 x3 x4 x5 => (lett (x5 + (1 : Int32)) fun x5_114 => (kb t x1 x2 x3 x4 x5_114))) N w_56.2 x1 x2 x3 (1 : Int32) x5 (0 : Int32)))))))
def fX4_fillsFits_L36 (N : Nat) (K : TS → Int32 → Int32 → Int32 → Int32 → Option (TS)) : Nat → TS → Int32 → Int32 → Int32 → Int32 → Int32 → Option (TS)
  | 0 => fun _ _ _ _ _ _ => none
  | n + 1 => fun t x1 x2 x3 x4 x5 => fX4_fillsFits_B36 N K (fX4_fillsFits_L36 N K n) t x1 x2 x3 x4 x5
def fX4_fillsFits_B11 (N : Nat) (K : TS → Int32 → Option (TS)) (kb : TS → Int32 → Int32 → Int32 → Option (TS)) (t : TS) (x1 : Int32) (x2 : Int32) (x3 : Int32) : Option (TS) :=
  (if (t.1 2) < x3 then (K t x2) else (lett (tsI t 21 (x3 - (1 : Int32))) fun t_23 => ((fX4_begins N t_23 ).bind fun w_27 => (fX4_fillsFits_L36 N (fun t x1 x2 x3 x4 => (ix x3 7 (lett (tsA t 35 (x3).toNatClampNeg (vp_nar .boolean x4)) fun t_127 => (lett (x3 + (1 : Int32)) fun x3_128 => (kb t_127 x1 x2 x3_128))))) N w_27 x1 x2 x3 (1 : Int32) (0 : Int32)))))
def fX4_fillsFits_L11 (N : Nat) (K : TS → Int32 → Option (TS)) : Nat → TS → Int32 → Int32 → Int32 → Option (TS)
  | 0 => fun _ _ _ _ => none
  | n + 1 => fun t x1 x2 x3 => fX4_fillsFits_B11 N K (fX4_fillsFits_L11 N K n) t x1 x2 x3
def fX4_fillsFits (N : Nat) (t : TS) (x1 : Int32) : Option (TS) :=
  (lett (t.1 21) fun x2_4 => ((fX4_keeps N t ).bind fun w_6 => (fX4_fillsFits_L11 N (fun t x2 => (lett (tsI t 21 x2) fun t_136 => ((fX4_laysBack N t_136 ).bind fun w_140 => (some w_140)))) N w_6 x1 x2_4 (0 : Int32))))
theorem hdX4_fillsFits : yX4_fillsFits.cls = RX4 ∧ yX4_fillsFits.cls ≠ "java/lang/invoke/MethodHandle" ∧ yX4_fillsFits.cls ≠ "java/lang/invoke/VarHandle" ∧ (parseMethodDescriptor yX4_fillsFits.desc).map (fun d => d.parameters.length) = some 1 := by decide +kernel
set_option maxHeartbeats 4000000 in
theorem mX4_fillsFits (l : Launch) (D : va_G) (d : Nat → ClassId) (a : Nat → Nat) (N : Nat) (t : TS) (x1 : Int32) (w : TS) (hf : fX4_fillsFits N t x1 = some w) (sz : Nat) : Met l yX4_fillsFits (ws_ yX4_fillsFits cX4_fillsFits 7 none) (rm_ 6 145) (PcT D d a [.int x1] t sz) (QvT D d a w sz) 0 0 (AT a sz) := by
  refine Met.ofW (cc := cX4_fillsFits) (maxL := 7) (ret := none) plX4 rfl ?_
  intro p e s m args below meth c s₁ B hml hv
  obtain ⟨C, hV, hT, hr, hlocks, hargs, rfl⟩ := t_enter B hml rfl hv
  have hx := C.1
  have hb := C.2.1
  show W p l e (rm_ 6 145) s m args below meth c s.heap [] 0 0 (MQ below (QvT D d a w s.heap.size) args s 0 0 (AT a s.heap.size)) _
  have hL11 : ∀ (K : TS → Int32 → Option (TS)), (∀ (t : TS) (x2 : Int32) (H : Heap) (locs : List Loc) (ls : Array Slot), TH D (AT a s.heap.size) s.heap (wT d a t) H locs → lv_has ls 7 [(0, .ref (a 42)), (2, .int x2)] → K t x2 = some w → W p l e (rm_ 6 145) s m args below meth c H locs 0 0 (MQ below (QvT D d a w s.heap.size) args s 0 0 (AT a s.heap.size)) (F0 m 134 ls [])) → ∀ (n : Nat) (t : TS) (x1 : Int32) (x2 : Int32) (x3 : Int32) (H : Heap) (locs : List Loc) (ls : Array Slot), TH D (AT a s.heap.size) s.heap (wT d a t) H locs → lv_has ls 7 [(0, .ref (a 42)), (1, .int x1), (2, .int x2), (3, .int x3)] → fX4_fillsFits_L11 N K n t x1 x2 x3 = some w → W p l e (rm_ 6 145) s m args below meth c H locs 0 0 (MQ below (QvT D d a w s.heap.size) args s 0 0 (AT a s.heap.size)) (F0 m 11 ls []) := by
    intro K hE n
    induction n with
    | zero =>
      intro t x1 x2 x3 H locs ls hT hl hf
      cases hf
    | succ n ih =>
      have hL36 : ∀ (K : TS → Int32 → Int32 → Int32 → Int32 → Option (TS)), (∀ (t : TS) (x1 : Int32) (x2 : Int32) (x3 : Int32) (x4 : Int32) (H : Heap) (locs : List Loc) (ls : Array Slot), TH D (AT a s.heap.size) s.heap (wT d a t) H locs → lv_has ls 7 [(0, .ref (a 42)), (1, .int x1), (2, .int x2), (3, .int x3), (4, .int x4)] → K t x1 x2 x3 x4 = some w → W p l e (rm_ 6 145) s m args below meth c H locs 0 0 (MQ below (QvT D d a w s.heap.size) args s 0 0 (AT a s.heap.size)) (F0 m 120 ls [])) → ∀ (n : Nat) (t : TS) (x1 : Int32) (x2 : Int32) (x3 : Int32) (x4 : Int32) (x5 : Int32) (H : Heap) (locs : List Loc) (ls : Array Slot), TH D (AT a s.heap.size) s.heap (wT d a t) H locs → lv_has ls 7 [(0, .ref (a 42)), (1, .int x1), (2, .int x2), (3, .int x3), (4, .int x4), (5, .int x5)] → fX4_fillsFits_L36 N K n t x1 x2 x3 x4 x5 = some w → W p l e (rm_ 6 145) s m args below meth c H locs 0 0 (MQ below (QvT D d a w s.heap.size) args s 0 0 (AT a s.heap.size)) (F0 m 36 ls []) := by
        intro K hE n
        induction n with
        | zero =>
          intro t x1 x2 x3 x4 x5 H locs ls hT hl hf
          cases hf
        | succ n ih =>
          have hL72 : ∀ (K : TS → Int32 → Int32 → Int32 → Int32 → Int32 → Option (TS)), (∀ (t : TS) (x1 : Int32) (x2 : Int32) (x3 : Int32) (x4 : Int32) (x5 : Int32) (H : Heap) (locs : List Loc) (ls : Array Slot), TH D (AT a s.heap.size) s.heap (wT d a t) H locs → lv_has ls 7 [(0, .ref (a 42)), (1, .int x1), (2, .int x2), (3, .int x3), (4, .int x4), (5, .int x5)] → K t x1 x2 x3 x4 x5 = some w → W p l e (rm_ 6 145) s m args below meth c H locs 0 0 (MQ below (QvT D d a w s.heap.size) args s 0 0 (AT a s.heap.size)) (F0 m 114 ls [])) → ∀ (n : Nat) (t : TS) (x1 : Int32) (x2 : Int32) (x3 : Int32) (x4 : Int32) (x5 : Int32) (x6 : Int32) (H : Heap) (locs : List Loc) (ls : Array Slot), TH D (AT a s.heap.size) s.heap (wT d a t) H locs → lv_has ls 7 [(0, .ref (a 42)), (1, .int x1), (2, .int x2), (3, .int x3), (4, .int x4), (5, .int x5), (6, .int x6)] → fX4_fillsFits_L72 N K n t x1 x2 x3 x4 x5 x6 = some w → W p l e (rm_ 6 145) s m args below meth c H locs 0 0 (MQ below (QvT D d a w s.heap.size) args s 0 0 (AT a s.heap.size)) (F0 m 72 ls []) := by
            intro K hE n
            induction n with
            | zero =>
              intro t x1 x2 x3 x4 x5 x6 H locs ls hT hl hf
              cases hf
            | succ n ih =>
              intro t x1 x2 x3 x4 x5 x6 H locs ls hT hl hf
              replace hf : fX4_fillsFits_B72 N K (fX4_fillsFits_L72 N K n) t x1 x2 x3 x4 x5 x6 = some w := hf
              unfold fX4_fillsFits_B72 at hf
              refine lv_iload hx hb dX4_fillsFits_72 (lv_at hl 6 rfl) ?_
              refine lv_aload_n hx hb dX4_fillsFits_74 rfl (lv_at hl 0 rfl) ?_
              refine t_get C hV hT 20 (by decide) q1267 rfl dX4_fillsFits_75 ?_
              refine lv_iconst (v := 3) hx hb dX4_fillsFits_78 (by decide) ?_
              refine g_ild C hV hT 10 3 rfl (vin_of (by decide)) (by decide) dX4_fillsFits_79 ?_
              refine lv_icmp_ge (tgt := 114) hx hb dX4_fillsFits_80 (by decide) (fun hc => ?_) (fun hc => ?_)
              · have hf := ite_t hc hf
                exact hE t x1 x2 x3 x4 x5 _ _ _ hT (lv_sub hl [0, 1, 2, 3, 4, 5] rfl) hf
              · have hf := ite_f hc hf
                refine lv_iload hx hb dX4_fillsFits_83 (lv_at hl 5 rfl) ?_
                refine lv_iload_n hx hb dX4_fillsFits_85 rfl (lv_at hl 1 rfl) ?_
                refine lv_icmp_ne (tgt := 114) hx hb dX4_fillsFits_86 (by decide) (fun hc => ?_) (fun hc => ?_)
                · have hf := ite_t hc hf
                  exact hE t x1 x2 x3 x4 x5 _ _ _ hT (lv_sub hl [0, 1, 2, 3, 4, 5] rfl) hf
                · have hf := ite_f (fun q => q hc) hf
                  refine lv_aload_n hx hb dX4_fillsFits_89 rfl (lv_at hl 0 rfl) ?_
                  refine t_get C hV hT 36 (by decide) q1283 rfl dX4_fillsFits_90 ?_
                  refine lv_bipush (v := 6) hx hb dX4_fillsFits_93 (by decide) ?_
                  refine lv_iload_n hx hb dX4_fillsFits_95 rfl (lv_at hl 3 rfl) ?_
                  refine lv_imul hx hb dX4_fillsFits_96 ?_
                  refine lv_iload hx hb dX4_fillsFits_97 (lv_at hl 6 rfl) ?_
                  refine lv_iadd hx hb dX4_fillsFits_99 ?_
                  refine lv_aload_n hx hb dX4_fillsFits_100 rfl (lv_at hl 0 rfl) ?_
                  refine t_get C hV hT 25 (by decide) q1272 rfl dX4_fillsFits_101 ?_
                  refine lv_iload hx hb dX4_fillsFits_104 (lv_at hl 6 rfl) ?_
                  obtain ⟨hi, hf⟩ := ix_e hf
                  refine g_ild C hV hT 11 _ rfl hi rfl dX4_fillsFits_106 ?_
                  obtain ⟨hi, hf⟩ := ix_e hf
                  refine t_ist C hV hT 19 _ rfl hi rfl (tast_36 d a t _ _) dX4_fillsFits_107 (fun t_107 H locs et hT => ?_)
                  have hf := lett_e et hf
                  obtain ⟨x6_108, ex⟩ : ∃ y : Int32, y = (x6 + (1 : Int32)) := ⟨_, rfl⟩
                  have hf := lett_e ex hf
                  refine lv_iinc (v := x6_108) (lv' := [(6, .int x6_108), (0, .ref (a 42)), (1, .int x1), (2, .int x2), (3, .int x3), (4, .int x4), (5, .int x5)]) hx hb dX4_fillsFits_108 hl (k := 6) rfl (by rw [ex]; rfl) (by decide) rfl (fun ls hl => ?_)
                  refine lv_goto (tgt := 72) hx hb dX4_fillsFits_111 (by decide) ?_
                  exact ih t_107 x1 x2 x3 x4 x5 x6_108 _ _ _ hT (lv_sub hl [1, 2, 3, 4, 5, 6, 0] rfl) hf
          intro t x1 x2 x3 x4 x5 H locs ls hT hl hf
          replace hf : fX4_fillsFits_B36 N K (fX4_fillsFits_L36 N K n) t x1 x2 x3 x4 x5 = some w := hf
          unfold fX4_fillsFits_B36 at hf
          refine lv_iload hx hb dX4_fillsFits_36 (lv_at hl 5 rfl) ?_
          refine lv_bipush (v := 60) hx hb dX4_fillsFits_38 (by decide) ?_
          refine lv_icmp_gt (tgt := 120) hx hb dX4_fillsFits_40 (by decide) (fun hc => ?_) (fun hc => ?_)
          · have hf := ite_t hc hf
            exact hE t x1 x2 x3 x4 _ _ _ hT (lv_sub hl [0, 1, 2, 3, 4] rfl) hf
          · have hf := ite_f hc hf
            refine lv_aload_n hx hb dX4_fillsFits_43 rfl (lv_at hl 0 rfl) ?_
            obtain ⟨w_44, h_44, hf⟩ := bind_e hf
            refine t_calli (vs := []) (rest := []) C hV hT (fun sz => mX4_passes l D d a N t  _ h_44 sz) (cwV 0 C.2.2.2.2 (lw_V q1609 q1611 qs87 q129 q1612) rfl rfl rfl hdX4_passes ⟨Nat.le_of_ble_eq_true rfl, Nat.le_of_ble_eq_true rfl⟩) rfl hl.1 rfl (Nat.le_of_ble_eq_true rfl) dX4_fillsFits_44 (fun H locs hT => ?_)
            refine lv_pop hx hb dX4_fillsFits_47 rfl ?_
            refine lv_iload hx hb dX4_fillsFits_48 (lv_at hl 4 rfl) ?_
            refine lv_if_eq (tgt := 66) hx hb dX4_fillsFits_50 (by decide) (fun hc => ?_) (fun hc => ?_)
            · have hf := ite_t hc hf
              refine lv_iconst (v := 0) hx hb dX4_fillsFits_66 (by decide) ?_
              refine lv_istore (lv' := [(4, .int (0 : Int32)), (0, .ref (a 42)), (1, .int x1), (2, .int x2), (3, .int x3), (5, .int x5)]) hx hb dX4_fillsFits_67 hl (by decide) rfl (fun ls hl => ?_)
              refine lv_iconst (v := 0) hx hb dX4_fillsFits_69 (by decide) ?_
              refine lv_istore (lv' := [(6, .int (0 : Int32)), (4, .int (0 : Int32)), (0, .ref (a 42)), (1, .int x1), (2, .int x2), (3, .int x3), (5, .int x5)]) hx hb dX4_fillsFits_70 hl (by decide) rfl (fun ls hl => ?_)
              refine hL72 _ (fun t x1 x2 x3 x4 x5 H locs ls hT hl hf => ?_) N w_44.2 x1 x2 x3 (0 : Int32) x5 (0 : Int32) _ _ _ hT (lv_sub hl [2, 3, 4, 5, 1, 6, 0] rfl) hf
              obtain ⟨x5_114, ex⟩ : ∃ y : Int32, y = (x5 + (1 : Int32)) := ⟨_, rfl⟩
              have hf := lett_e ex hf
              refine lv_iinc (v := x5_114) (lv' := [(5, .int x5_114), (0, .ref (a 42)), (1, .int x1), (2, .int x2), (3, .int x3), (4, .int x4)]) hx hb dX4_fillsFits_114 hl (k := 5) rfl (by rw [ex]; rfl) (by decide) rfl (fun ls hl => ?_)
              refine lv_goto (tgt := 36) hx hb dX4_fillsFits_117 (by decide) ?_
              exact ih t x1 x2 x3 x4 x5_114 _ _ _ hT (lv_sub hl [1, 2, 3, 4, 5, 0] rfl) hf
            · have hf := ite_f hc hf
              refine lv_aload_n hx hb dX4_fillsFits_53 rfl (lv_at hl 0 rfl) ?_
              refine lv_iload hx hb dX4_fillsFits_54 (lv_at hl 5 rfl) ?_
              obtain ⟨w_56, h_56, hf⟩ := bind_e hf
              refine t_calli (vs := [.int x5]) (rest := []) C hV hT (fun sz => mX4_areNotesSo l D d a N w_44.2 x5 _ h_56 sz) (cwV 1 C.2.2.2.2 (lw_V q1829 q1831 qs116 q129 q1832) rfl rfl rfl hdX4_areNotesSo ⟨Nat.le_of_ble_eq_true rfl, Nat.le_of_ble_eq_true rfl⟩) rfl hl.1 rfl (Nat.le_of_ble_eq_true rfl) dX4_fillsFits_56 (fun H locs hT => ?_)
              refine lv_if_eq (tgt := 66) hx hb dX4_fillsFits_59 (by decide) (fun hc => ?_) (fun hc => ?_)
              · have hf := ite_t hc hf
                refine lv_iconst (v := 0) hx hb dX4_fillsFits_66 (by decide) ?_
                refine lv_istore (lv' := [(4, .int (0 : Int32)), (0, .ref (a 42)), (1, .int x1), (2, .int x2), (3, .int x3), (5, .int x5)]) hx hb dX4_fillsFits_67 hl (by decide) rfl (fun ls hl => ?_)
                refine lv_iconst (v := 0) hx hb dX4_fillsFits_69 (by decide) ?_
                refine lv_istore (lv' := [(6, .int (0 : Int32)), (4, .int (0 : Int32)), (0, .ref (a 42)), (1, .int x1), (2, .int x2), (3, .int x3), (5, .int x5)]) hx hb dX4_fillsFits_70 hl (by decide) rfl (fun ls hl => ?_)
                refine hL72 _ (fun t x1 x2 x3 x4 x5 H locs ls hT hl hf => ?_) N w_56.2 x1 x2 x3 (0 : Int32) x5 (0 : Int32) _ _ _ hT (lv_sub hl [2, 3, 4, 5, 1, 6, 0] rfl) hf
                obtain ⟨x5_114, ex⟩ : ∃ y : Int32, y = (x5 + (1 : Int32)) := ⟨_, rfl⟩
                have hf := lett_e ex hf
                refine lv_iinc (v := x5_114) (lv' := [(5, .int x5_114), (0, .ref (a 42)), (1, .int x1), (2, .int x2), (3, .int x3), (4, .int x4)]) hx hb dX4_fillsFits_114 hl (k := 5) rfl (by rw [ex]; rfl) (by decide) rfl (fun ls hl => ?_)
                refine lv_goto (tgt := 36) hx hb dX4_fillsFits_117 (by decide) ?_
                exact ih t x1 x2 x3 x4 x5_114 _ _ _ hT (lv_sub hl [1, 2, 3, 4, 5, 0] rfl) hf
              · have hf := ite_f hc hf
                refine lv_iconst (v := 1) hx hb dX4_fillsFits_62 (by decide) ?_
                refine lv_goto (tgt := 67) hx hb dX4_fillsFits_63 (by decide) ?_
                refine lv_istore (lv' := [(4, .int (1 : Int32)), (0, .ref (a 42)), (1, .int x1), (2, .int x2), (3, .int x3), (5, .int x5)]) hx hb dX4_fillsFits_67 hl (by decide) rfl (fun ls hl => ?_)
                refine lv_iconst (v := 0) hx hb dX4_fillsFits_69 (by decide) ?_
                refine lv_istore (lv' := [(6, .int (0 : Int32)), (4, .int (1 : Int32)), (0, .ref (a 42)), (1, .int x1), (2, .int x2), (3, .int x3), (5, .int x5)]) hx hb dX4_fillsFits_70 hl (by decide) rfl (fun ls hl => ?_)
                refine hL72 _ (fun t x1 x2 x3 x4 x5 H locs ls hT hl hf => ?_) N w_56.2 x1 x2 x3 (1 : Int32) x5 (0 : Int32) _ _ _ hT (lv_sub hl [2, 3, 4, 5, 1, 6, 0] rfl) hf
                obtain ⟨x5_114, ex⟩ : ∃ y : Int32, y = (x5 + (1 : Int32)) := ⟨_, rfl⟩
                have hf := lett_e ex hf
                refine lv_iinc (v := x5_114) (lv' := [(5, .int x5_114), (0, .ref (a 42)), (1, .int x1), (2, .int x2), (3, .int x3), (4, .int x4)]) hx hb dX4_fillsFits_114 hl (k := 5) rfl (by rw [ex]; rfl) (by decide) rfl (fun ls hl => ?_)
                refine lv_goto (tgt := 36) hx hb dX4_fillsFits_117 (by decide) ?_
                exact ih t x1 x2 x3 x4 x5_114 _ _ _ hT (lv_sub hl [1, 2, 3, 4, 5, 0] rfl) hf
      intro t x1 x2 x3 H locs ls hT hl hf
      replace hf : fX4_fillsFits_B11 N K (fX4_fillsFits_L11 N K n) t x1 x2 x3 = some w := hf
      unfold fX4_fillsFits_B11 at hf
      refine lv_iload_n hx hb dX4_fillsFits_11 rfl (lv_at hl 3 rfl) ?_
      refine lv_aload_n hx hb dX4_fillsFits_12 rfl (lv_at hl 0 rfl) ?_
      refine t_get C hV hT 2 (by decide) q1249 rfl dX4_fillsFits_13 ?_
      refine lv_icmp_gt (tgt := 134) hx hb dX4_fillsFits_16 (by decide) (fun hc => ?_) (fun hc => ?_)
      · have hf := ite_t hc hf
        exact hE t x2 _ _ _ hT (lv_sub hl [0, 2] rfl) hf
      · have hf := ite_f hc hf
        refine lv_aload_n hx hb dX4_fillsFits_19 rfl (lv_at hl 0 rfl) ?_
        refine lv_iload_n hx hb dX4_fillsFits_20 rfl (lv_at hl 3 rfl) ?_
        refine lv_iconst (v := 1) hx hb dX4_fillsFits_21 (by decide) ?_
        refine lv_isub hx hb dX4_fillsFits_22 ?_
        refine t_put C hV hT 21 (by decide) q1268 (tset_21 a t _) rfl rfl dX4_fillsFits_23 (fun t_23 H locs et hT => ?_)
        have hf := lett_e et hf
        refine lv_aload_n hx hb dX4_fillsFits_26 rfl (lv_at hl 0 rfl) ?_
        obtain ⟨w_27, h_27, hf⟩ := bind_e hf
        refine t_callv (vs := []) (rest := []) C hV hT (fun sz => mX4_begins l D d a N t_23  _ h_27 sz) (cwV 0 C.2.2.2.2 (lw_V q1545 q1547 qs76 q129 q1548) rfl rfl rfl hdX4_begins ⟨Nat.le_of_ble_eq_true rfl, Nat.le_of_ble_eq_true rfl⟩) rfl hl.1 rfl (Nat.le_of_ble_eq_true rfl) dX4_fillsFits_27 (fun H locs hT => ?_)
        refine lv_iconst (v := 1) hx hb dX4_fillsFits_30 (by decide) ?_
        refine lv_istore (lv' := [(4, .int (1 : Int32)), (0, .ref (a 42)), (1, .int x1), (2, .int x2), (3, .int x3)]) hx hb dX4_fillsFits_31 hl (by decide) rfl (fun ls hl => ?_)
        refine lv_iconst (v := 0) hx hb dX4_fillsFits_33 (by decide) ?_
        refine lv_istore (lv' := [(5, .int (0 : Int32)), (4, .int (1 : Int32)), (0, .ref (a 42)), (1, .int x1), (2, .int x2), (3, .int x3)]) hx hb dX4_fillsFits_34 hl (by decide) rfl (fun ls hl => ?_)
        refine hL36 _ (fun t x1 x2 x3 x4 H locs ls hT hl hf => ?_) N w_27 x1 x2 x3 (1 : Int32) (0 : Int32) _ _ _ hT (lv_sub hl [2, 3, 4, 5, 1, 0] rfl) hf
        refine lv_aload_n hx hb dX4_fillsFits_120 rfl (lv_at hl 0 rfl) ?_
        refine t_get C hV hT 35 (by decide) q1282 rfl dX4_fillsFits_121 ?_
        refine lv_iload_n hx hb dX4_fillsFits_124 rfl (lv_at hl 3 rfl) ?_
        refine lv_iload hx hb dX4_fillsFits_125 (lv_at hl 4 rfl) ?_
        obtain ⟨hi, hf⟩ := ix_e hf
        refine t_zst C hV hT 18 _ rfl hi rfl (tast_35 d a t _ _) dX4_fillsFits_127 (fun t_127 H locs et hT => ?_)
        have hf := lett_e et hf
        obtain ⟨x3_128, ex⟩ : ∃ y : Int32, y = (x3 + (1 : Int32)) := ⟨_, rfl⟩
        have hf := lett_e ex hf
        refine lv_iinc (v := x3_128) (lv' := [(3, .int x3_128), (0, .ref (a 42)), (1, .int x1), (2, .int x2), (4, .int x4)]) hx hb dX4_fillsFits_128 hl (k := 3) rfl (by rw [ex]; rfl) (by decide) rfl (fun ls hl => ?_)
        refine lv_goto (tgt := 11) hx hb dX4_fillsFits_131 (by decide) ?_
        exact ih t_127 x1 x2 x3_128 _ _ _ hT (lv_sub hl [1, 2, 3, 0] rfl) hf
  refine W.eq (by rw [hargs]) (t_in (vs := [.ref (a 42), .int x1]) (n := 7) (Nat.le_of_ble_eq_true rfl) (fun ls hl => ?_))
  have hl : lv_has ls 7 [(0, .ref (a 42)), (1, .int x1)] := hl
  unfold fX4_fillsFits at hf
  skip
  refine lv_aload_n hx hb dX4_fillsFits_0 rfl (lv_at hl 0 rfl) ?_
  refine t_get C hV hT 21 (by decide) q1268 rfl dX4_fillsFits_1 ?_
  refine lv_topi (fun x2_4 ex => ?_)
  have hf := lett_e ex hf
  refine lv_istore_n (lv' := [(2, .int x2_4), (0, .ref (a 42)), (1, .int x1)]) hx hb dX4_fillsFits_4 rfl hl (by decide) rfl (fun ls hl => ?_)
  refine lv_aload_n hx hb dX4_fillsFits_5 rfl (lv_at hl 1 rfl) ?_
  obtain ⟨w_6, h_6, hf⟩ := bind_e hf
  refine t_callv (vs := []) (rest := []) C hV hT (fun sz => mX4_keeps l D d a N t  _ h_6 sz) (cwV 0 C.2.2.2.2 (lw_V q1701 q1703 qs100 q129 q1704) rfl rfl rfl hdX4_keeps ⟨Nat.le_of_ble_eq_true rfl, Nat.le_of_ble_eq_true rfl⟩) rfl hl.1 rfl (Nat.le_of_ble_eq_true rfl) dX4_fillsFits_6 (fun H locs hT => ?_)
  refine lv_iconst (v := 0) hx hb dX4_fillsFits_9 (by decide) ?_
  refine lv_istore_n (lv' := [(3, .int (0 : Int32)), (2, .int x2_4), (0, .ref (a 42)), (1, .int x1)]) hx hb dX4_fillsFits_10 rfl hl (by decide) rfl (fun ls hl => ?_)
  refine hL11 _ (fun t x2 H locs ls hT hl hf => ?_) N w_6 x1 x2_4 (0 : Int32) _ _ _ hT (lv_sub hl [2, 3, 1, 0] rfl) hf
  refine lv_aload_n hx hb dX4_fillsFits_134 rfl (lv_at hl 0 rfl) ?_
  refine lv_iload_n hx hb dX4_fillsFits_135 rfl (lv_at hl 1 rfl) ?_
  refine t_put C hV hT 21 (by decide) q1268 (tset_21 a t _) rfl rfl dX4_fillsFits_136 (fun t_136 H locs et hT => ?_)
  have hf := lett_e et hf
  refine lv_aload_n hx hb dX4_fillsFits_139 rfl (lv_at hl 0 rfl) ?_
  obtain ⟨w_140, h_140, hf⟩ := bind_e hf
  refine t_callv (vs := []) (rest := []) C hV hT (fun sz => mX4_laysBack l D d a N t_136  _ h_140 sz) (cwV 0 C.2.2.2.2 (lw_V q1709 q1711 qs102 q129 q1712) rfl rfl rfl hdX4_laysBack ⟨Nat.le_of_ble_eq_true rfl, Nat.le_of_ble_eq_true rfl⟩) rfl hl.1 rfl (Nat.le_of_ble_eq_true rfl) dX4_fillsFits_140 (fun H locs hT => ?_)
  exact t_vret C hT hf hr hlocks dX4_fillsFits_143
def fX4_ruled_B36 (N : Nat) (K : TS → Int32 → Int32 → Int32 → Option (Int32 × TS)) (kb : TS → Int32 → Int32 → Int32 → Int32 → Option (Int32 × TS)) (t : TS) (x1 : Int32) (x2 : Int32) (x3 : Int32) (x4 : Int32) : Option (Int32 × TS) :=
  (if x4 < 0 then (K t x1 x2 x3) else (ix x4 7 (if ¬ (t.2.1 35 (x4).toNatClampNeg) = 0 then (lett (x4 - (1 : Int32)) fun x3_58 => (lett (x2 + (1 : Int32)) fun x2_59 => (lett (x4 + (-1 : Int32)) fun x4_62 => (kb t x1 x2_59 x3_58 x4_62)))) else (lett (x4 + (-1 : Int32)) fun x4_62 => (kb t x1 x2 x3 x4_62)))))
def fX4_ruled_L36 (N : Nat) (K : TS → Int32 → Int32 → Int32 → Option (Int32 × TS)) : Nat → TS → Int32 → Int32 → Int32 → Int32 → Option (Int32 × TS)
  | 0 => fun _ _ _ _ _ => none
  | n + 1 => fun t x1 x2 x3 x4 => fX4_ruled_B36 N K (fX4_ruled_L36 N K n) t x1 x2 x3 x4
def fX4_ruled (N : Nat) (t : TS) (x1 : Int32) : Option (Int32 × TS) :=
  ((fX4_isJunction N t ).bind fun w_1 => (if w_1.1 = 0 then (some ((-3 : Int32), w_1.2)) else ((fX4_in N (x1).toInt64 (0 : Int64) (1 : Int64)).bind fun w_11 => (if ¬ w_11 = 0 then ((fX4_fillsFits N w_1.2 (0 : Int32)).bind fun w_22 => (lett (w_22.1 2) fun x4_34 => (fX4_ruled_L36 N (fun t x1 x2 x3 => (if ¬ x1 = 0 then (some (x3, t)) else (some (x2, t)))) N w_22 x1 (0 : Int32) (-2 : Int32) x4_34))) else (some ((-3 : Int32), w_1.2))))))
theorem hdX4_ruled : yX4_ruled.cls = RX4 ∧ yX4_ruled.cls ≠ "java/lang/invoke/MethodHandle" ∧ yX4_ruled.cls ≠ "java/lang/invoke/VarHandle" ∧ (parseMethodDescriptor yX4_ruled.desc).map (fun d => d.parameters.length) = some 1 := by decide +kernel
set_option maxHeartbeats 4000000 in
theorem mX4_ruled (l : Launch) (D : va_G) (d : Nat → ClassId) (a : Nat → Nat) (N : Nat) (t : TS) (x1 : Int32) (w : Int32 × TS) (hf : fX4_ruled N t x1 = some w) (sz : Nat) : Met l yX4_ruled (ws_ yX4_ruled cX4_ruled 5 (some .int)) (rm_ 7 171) (PcT D d a [.int x1] t sz) (QiT D d a w.1 w.2 sz) 0 0 (AT a sz) := by
  refine Met.ofW (cc := cX4_ruled) (maxL := 5) (ret := (some .int)) plX4 rfl ?_
  intro p e s m args below meth c s₁ B hml hv
  obtain ⟨C, hV, hT, hr, hlocks, hargs, rfl⟩ := t_enter B hml rfl hv
  have hx := C.1
  have hb := C.2.1
  show W p l e (rm_ 7 171) s m args below meth c s.heap [] 0 0 (MQ below (QiT D d a w.1 w.2 s.heap.size) args s 0 0 (AT a s.heap.size)) _
  have hL36 : ∀ (K : TS → Int32 → Int32 → Int32 → Option (Int32 × TS)), (∀ (t : TS) (x1 : Int32) (x2 : Int32) (x3 : Int32) (H : Heap) (locs : List Loc) (ls : Array Slot), TH D (AT a s.heap.size) s.heap (wT d a t) H locs → lv_has ls 5 [(1, .int x1), (2, .int x2), (3, .int x3)] → K t x1 x2 x3 = some w → W p l e (rm_ 7 171) s m args below meth c H locs 0 0 (MQ below (QiT D d a w.1 w.2 s.heap.size) args s 0 0 (AT a s.heap.size)) (F0 m 68 ls [])) → ∀ (n : Nat) (t : TS) (x1 : Int32) (x2 : Int32) (x3 : Int32) (x4 : Int32) (H : Heap) (locs : List Loc) (ls : Array Slot), TH D (AT a s.heap.size) s.heap (wT d a t) H locs → lv_has ls 5 [(0, .ref (a 42)), (1, .int x1), (2, .int x2), (3, .int x3), (4, .int x4)] → fX4_ruled_L36 N K n t x1 x2 x3 x4 = some w → W p l e (rm_ 7 171) s m args below meth c H locs 0 0 (MQ below (QiT D d a w.1 w.2 s.heap.size) args s 0 0 (AT a s.heap.size)) (F0 m 36 ls []) := by
    intro K hE n
    induction n with
    | zero =>
      intro t x1 x2 x3 x4 H locs ls hT hl hf
      cases hf
    | succ n ih =>
      intro t x1 x2 x3 x4 H locs ls hT hl hf
      replace hf : fX4_ruled_B36 N K (fX4_ruled_L36 N K n) t x1 x2 x3 x4 = some w := hf
      unfold fX4_ruled_B36 at hf
      refine lv_iload hx hb dX4_ruled_36 (lv_at hl 4 rfl) ?_
      refine lv_if_lt (tgt := 68) hx hb dX4_ruled_38 (by decide) (fun hc => ?_) (fun hc => ?_)
      · have hf := ite_t hc hf
        exact hE t x1 x2 x3 _ _ _ hT (lv_sub hl [1, 2, 3] rfl) hf
      · have hf := ite_f hc hf
        refine lv_aload_n hx hb dX4_ruled_41 rfl (lv_at hl 0 rfl) ?_
        refine t_get C hV hT 35 (by decide) q1282 rfl dX4_ruled_42 ?_
        refine lv_iload hx hb dX4_ruled_45 (lv_at hl 4 rfl) ?_
        obtain ⟨hi, hf⟩ := ix_e hf
        refine g_zld C hV hT 18 _ rfl hi rfl dX4_ruled_47 ?_
        refine lv_if_ne (tgt := 54) hx hb dX4_ruled_48 (by decide) (fun hc => ?_) (fun hc => ?_)
        · have hf := ite_t hc hf
          refine lv_iload hx hb dX4_ruled_54 (lv_at hl 4 rfl) ?_
          refine lv_iconst (v := 1) hx hb dX4_ruled_56 (by decide) ?_
          refine lv_isub hx hb dX4_ruled_57 ?_
          refine lv_topi (fun x3_58 ex => ?_)
          have hf := lett_e ex hf
          refine lv_istore_n (lv' := [(3, .int x3_58), (0, .ref (a 42)), (1, .int x1), (2, .int x2), (4, .int x4)]) hx hb dX4_ruled_58 rfl hl (by decide) rfl (fun ls hl => ?_)
          obtain ⟨x2_59, ex⟩ : ∃ y : Int32, y = (x2 + (1 : Int32)) := ⟨_, rfl⟩
          have hf := lett_e ex hf
          refine lv_iinc (v := x2_59) (lv' := [(2, .int x2_59), (3, .int x3_58), (0, .ref (a 42)), (1, .int x1), (4, .int x4)]) hx hb dX4_ruled_59 hl (k := 3) rfl (by rw [ex]; rfl) (by decide) rfl (fun ls hl => ?_)
          obtain ⟨x4_62, ex⟩ : ∃ y : Int32, y = (x4 + (-1 : Int32)) := ⟨_, rfl⟩
          have hf := lett_e ex hf
          refine lv_iinc (v := x4_62) (lv' := [(4, .int x4_62), (2, .int x2_59), (3, .int x3_58), (0, .ref (a 42)), (1, .int x1)]) hx hb dX4_ruled_62 hl (k := 4) rfl (by rw [ex]; rfl) (by decide) rfl (fun ls hl => ?_)
          refine lv_goto (tgt := 36) hx hb dX4_ruled_65 (by decide) ?_
          exact ih t x1 x2_59 x3_58 x4_62 _ _ _ hT (lv_sub hl [3, 4, 1, 2, 0] rfl) hf
        · have hf := ite_f (fun q => q hc) hf
          refine lv_goto (tgt := 62) hx hb dX4_ruled_51 (by decide) ?_
          obtain ⟨x4_62, ex⟩ : ∃ y : Int32, y = (x4 + (-1 : Int32)) := ⟨_, rfl⟩
          have hf := lett_e ex hf
          refine lv_iinc (v := x4_62) (lv' := [(4, .int x4_62), (0, .ref (a 42)), (1, .int x1), (2, .int x2), (3, .int x3)]) hx hb dX4_ruled_62 hl (k := 4) rfl (by rw [ex]; rfl) (by decide) rfl (fun ls hl => ?_)
          refine lv_goto (tgt := 36) hx hb dX4_ruled_65 (by decide) ?_
          exact ih t x1 x2 x3 x4_62 _ _ _ hT (lv_sub hl [1, 2, 3, 4, 0] rfl) hf
  refine W.eq (by rw [hargs]) (t_in (vs := [.ref (a 42), .int x1]) (n := 5) (Nat.le_of_ble_eq_true rfl) (fun ls hl => ?_))
  have hl : lv_has ls 5 [(0, .ref (a 42)), (1, .int x1)] := hl
  unfold fX4_ruled at hf
  skip
  refine lv_aload_n hx hb dX4_ruled_0 rfl (lv_at hl 0 rfl) ?_
  obtain ⟨w_1, h_1, hf⟩ := bind_e hf
  refine t_calli (vs := []) (rest := []) C hV hT (fun sz => mX4_isJunction l D d a N t  _ h_1 sz) (cwV 0 C.2.2.2.2 (lw_V q1593 q1595 qs85 q129 q1596) rfl rfl rfl hdX4_isJunction ⟨Nat.le_of_ble_eq_true rfl, Nat.le_of_ble_eq_true rfl⟩) rfl hl.1 rfl (Nat.le_of_ble_eq_true rfl) dX4_ruled_1 (fun H locs hT => ?_)
  refine lv_if_eq (tgt := 17) hx hb dX4_ruled_4 (by decide) (fun hc => ?_) (fun hc => ?_)
  · have hf := ite_t hc hf
    refine lv_bipush (v := -3) hx hb dX4_ruled_17 (by decide) ?_
    exact t_iret C hT hf hr hlocks dX4_ruled_19
  · have hf := ite_f hc hf
    refine lv_iload_n hx hb dX4_ruled_7 rfl (lv_at hl 1 rfl) ?_
    refine lv_i2l hx hb dX4_ruled_8 rfl ?_
    refine lv_lconst (v := 0) hx hb dX4_ruled_9 (by decide) ?_
    refine lv_lconst (v := 1) hx hb dX4_ruled_10 (by decide) ?_
    obtain ⟨w_11, h_11, hf⟩ := bind_e hf
    refine s_calli (vs := [.long (x1).toInt64, .long (0 : Int64), .long (1 : Int64)]) (rest := []) C (fun q h => Or.inr h) hT (fun sz => mX4_in l N (x1).toInt64 (0 : Int64) (1 : Int64) _ h_11 sz) (va_cwS 3 C.2.2.2.2 (lw_S q1448 q1449 q129 q1450) rfl rfl rfl hdX4_in ⟨Nat.le_of_ble_eq_true rfl, Nat.le_of_ble_eq_true rfl⟩) rfl hl.1 rfl (Nat.le_of_ble_eq_true rfl) dX4_ruled_11 ⟨Nat.zero_le _, Nat.zero_le _⟩ (fun H locs hT => ?_)
    refine lv_if_ne (tgt := 20) hx hb dX4_ruled_14 (by decide) (fun hc => ?_) (fun hc => ?_)
    · have hf := ite_t hc hf
      refine lv_aload_n hx hb dX4_ruled_20 rfl (lv_at hl 0 rfl) ?_
      refine lv_iconst (v := 0) hx hb dX4_ruled_21 (by decide) ?_
      obtain ⟨w_22, h_22, hf⟩ := bind_e hf
      refine t_callv (vs := [.int (0 : Int32)]) (rest := []) C hV hT (fun sz => mX4_fillsFits l D d a N w_1.2 (0 : Int32) _ h_22 sz) (cwV 1 C.2.2.2.2 (lw_V q1825 q1827 qs115 q129 q1828) rfl rfl rfl hdX4_fillsFits ⟨Nat.le_of_ble_eq_true rfl, Nat.le_of_ble_eq_true rfl⟩) rfl hl.1 rfl (Nat.le_of_ble_eq_true rfl) dX4_ruled_22 (fun H locs hT => ?_)
      refine lv_iconst (v := 0) hx hb dX4_ruled_25 (by decide) ?_
      refine lv_istore_n (lv' := [(2, .int (0 : Int32)), (0, .ref (a 42)), (1, .int x1)]) hx hb dX4_ruled_26 rfl hl (by decide) rfl (fun ls hl => ?_)
      refine lv_bipush (v := -2) hx hb dX4_ruled_27 (by decide) ?_
      refine lv_istore_n (lv' := [(3, .int (-2 : Int32)), (2, .int (0 : Int32)), (0, .ref (a 42)), (1, .int x1)]) hx hb dX4_ruled_29 rfl hl (by decide) rfl (fun ls hl => ?_)
      refine lv_aload_n hx hb dX4_ruled_30 rfl (lv_at hl 2 rfl) ?_
      refine t_get C hV hT 2 (by decide) q1249 rfl dX4_ruled_31 ?_
      refine lv_topi (fun x4_34 ex => ?_)
      have hf := lett_e ex hf
      refine lv_istore (lv' := [(4, .int x4_34), (3, .int (-2 : Int32)), (2, .int (0 : Int32)), (0, .ref (a 42)), (1, .int x1)]) hx hb dX4_ruled_34 hl (by decide) rfl (fun ls hl => ?_)
      refine hL36 _ (fun t x1 x2 x3 H locs ls hT hl hf => ?_) N w_22 x1 (0 : Int32) (-2 : Int32) x4_34 _ _ _ hT (lv_sub hl [3, 4, 2, 1, 0] rfl) hf
      refine lv_iload_n hx hb dX4_ruled_68 rfl (lv_at hl 0 rfl) ?_
      refine lv_if_ne (tgt := 76) hx hb dX4_ruled_69 (by decide) (fun hc => ?_) (fun hc => ?_)
      · have hf := ite_t hc hf
        refine lv_iload_n hx hb dX4_ruled_76 rfl (lv_at hl 2 rfl) ?_
        exact t_iret C hT hf hr hlocks dX4_ruled_77
      · have hf := ite_f (fun q => q hc) hf
        refine lv_iload_n hx hb dX4_ruled_72 rfl (lv_at hl 1 rfl) ?_
        refine lv_goto (tgt := 77) hx hb dX4_ruled_73 (by decide) ?_
        exact t_iret C hT hf hr hlocks dX4_ruled_77
    · have hf := ite_f (fun q => q hc) hf
      refine lv_bipush (v := -3) hx hb dX4_ruled_17 (by decide) ?_
      exact t_iret C hT hf hr hlocks dX4_ruled_19
def fX4_alikeAt_B18 (N : Nat) (K : TS → Int32 → Int32 → Int32 → Int32 → Option (Int32 × TS)) (kb : TS → Int32 → Int32 → Int32 → Int32 → Int32 → Option (Int32 × TS)) (t : TS) (x1 : Int32) (x2 : Int32) (x3 : Int32) (x4 : Int32) (x5 : Int32) : Option (Int32 × TS) :=
  (if (t.1 2) < x5 then (K t x1 x2 x3 x4) else (ix x3 7 (if (t.2.1 35 (x3).toNatClampNeg) = 0 then (K t x1 x2 x3 x4) else (ix x5 7 (if (t.2.1 35 (x5).toNatClampNeg) = 0 then (lett (x4 + (0 : Int32)) fun x4_80 => (lett (x5 + (1 : Int32)) fun x5_82 => (kb t x1 x2 x3 x4_80 x5_82))) else (ix (((6 : Int32) * x3) + x1) 42 (ix (((6 : Int32) * x5) + x1) 42 (if ¬ (t.2.1 36 ((((6 : Int32) * x3) + x1)).toNatClampNeg) = (t.2.1 36 ((((6 : Int32) * x5) + x1)).toNatClampNeg) then (lett (x4 + (0 : Int32)) fun x4_80 => (lett (x5 + (1 : Int32)) fun x5_82 => (kb t x1 x2 x3 x4_80 x5_82))) else (lett (x4 + (1 : Int32)) fun x4_80 => (lett (x5 + (1 : Int32)) fun x5_82 => (kb t x1 x2 x3 x4_80 x5_82)))))))))))
def fX4_alikeAt_L18 (N : Nat) (K : TS → Int32 → Int32 → Int32 → Int32 → Option (Int32 × TS)) : Nat → TS → Int32 → Int32 → Int32 → Int32 → Int32 → Option (Int32 × TS)
  | 0 => fun _ _ _ _ _ _ => none
  | n + 1 => fun t x1 x2 x3 x4 x5 => fX4_alikeAt_B18 N K (fX4_alikeAt_L18 N K n) t x1 x2 x3 x4 x5
def fX4_alikeAt_J88 (N : Nat) (K : TS → Int32 → Option (Int32 × TS)) (kb : TS → Int32 → Int32 → Int32 → Option (Int32 × TS)) (t : TS) (x1 : Int32) (x2 : Int32) (x3 : Int32) (x4 : Int32) : Option (Int32 × TS) :=
  (if x4 ≤ x2 then (lett (x3 + (1 : Int32)) fun x3_101 => (kb t x1 x2 x3_101)) else (lett (x3 + (1 : Int32)) fun x3_101 => (kb t x1 x4 x3_101)))
def fX4_alikeAt_B4 (N : Nat) (K : TS → Int32 → Option (Int32 × TS)) (kb : TS → Int32 → Int32 → Int32 → Option (Int32 × TS)) (t : TS) (x1 : Int32) (x2 : Int32) (x3 : Int32) : Option (Int32 × TS) :=
  (if (t.1 2) < x3 then (K t x2) else (fX4_alikeAt_L18 N (fun t x1 x2 x3 x4 => (fX4_alikeAt_J88 N K kb t x1 x2 x3 x4)) N t x1 x2 x3 (0 : Int32) (0 : Int32)))
def fX4_alikeAt_L4 (N : Nat) (K : TS → Int32 → Option (Int32 × TS)) : Nat → TS → Int32 → Int32 → Int32 → Option (Int32 × TS)
  | 0 => fun _ _ _ _ => none
  | n + 1 => fun t x1 x2 x3 => fX4_alikeAt_B4 N K (fX4_alikeAt_L4 N K n) t x1 x2 x3
def fX4_alikeAt (N : Nat) (t : TS) (x1 : Int32) : Option (Int32 × TS) :=
  (fX4_alikeAt_L4 N (fun t x2 => (some (x2, t))) N t x1 (0 : Int32) (0 : Int32))
theorem hdX4_alikeAt : yX4_alikeAt.cls = RX4 ∧ yX4_alikeAt.cls ≠ "java/lang/invoke/MethodHandle" ∧ yX4_alikeAt.cls ≠ "java/lang/invoke/VarHandle" ∧ (parseMethodDescriptor yX4_alikeAt.desc).map (fun d => d.parameters.length) = some 1 := by decide +kernel
set_option maxHeartbeats 4000000 in
theorem mX4_alikeAt (l : Launch) (D : va_G) (d : Nat → ClassId) (a : Nat → Nat) (N : Nat) (t : TS) (x1 : Int32) (w : Int32 × TS) (hf : fX4_alikeAt N t x1 = some w) (sz : Nat) : Met l yX4_alikeAt (ws_ yX4_alikeAt cX4_alikeAt 6 (some .int)) (rm_ 0 0) (PcT D d a [.int x1] t sz) (QiT D d a w.1 w.2 sz) 0 0 (AT a sz) := by
  refine Met.ofW (cc := cX4_alikeAt) (maxL := 6) (ret := (some .int)) plX4 rfl ?_
  intro p e s m args below meth c s₁ B hml hv
  obtain ⟨C, hV, hT, hr, hlocks, hargs, rfl⟩ := t_enter B hml rfl hv
  have hx := C.1
  have hb := C.2.1
  show W p l e (rm_ 0 0) s m args below meth c s.heap [] 0 0 (MQ below (QiT D d a w.1 w.2 s.heap.size) args s 0 0 (AT a s.heap.size)) _
  have hL4 : ∀ (K : TS → Int32 → Option (Int32 × TS)), (∀ (t : TS) (x2 : Int32) (H : Heap) (locs : List Loc) (ls : Array Slot), TH D (AT a s.heap.size) s.heap (wT d a t) H locs → lv_has ls 6 [(2, .int x2)] → K t x2 = some w → W p l e (rm_ 0 0) s m args below meth c H locs 0 0 (MQ below (QiT D d a w.1 w.2 s.heap.size) args s 0 0 (AT a s.heap.size)) (F0 m 107 ls [])) → ∀ (n : Nat) (t : TS) (x1 : Int32) (x2 : Int32) (x3 : Int32) (H : Heap) (locs : List Loc) (ls : Array Slot), TH D (AT a s.heap.size) s.heap (wT d a t) H locs → lv_has ls 6 [(0, .ref (a 42)), (1, .int x1), (2, .int x2), (3, .int x3)] → fX4_alikeAt_L4 N K n t x1 x2 x3 = some w → W p l e (rm_ 0 0) s m args below meth c H locs 0 0 (MQ below (QiT D d a w.1 w.2 s.heap.size) args s 0 0 (AT a s.heap.size)) (F0 m 4 ls []) := by
    intro K hE n
    induction n with
    | zero =>
      intro t x1 x2 x3 H locs ls hT hl hf
      cases hf
    | succ n ih =>
      have hL18 : ∀ (K : TS → Int32 → Int32 → Int32 → Int32 → Option (Int32 × TS)), (∀ (t : TS) (x1 : Int32) (x2 : Int32) (x3 : Int32) (x4 : Int32) (H : Heap) (locs : List Loc) (ls : Array Slot), TH D (AT a s.heap.size) s.heap (wT d a t) H locs → lv_has ls 6 [(0, .ref (a 42)), (1, .int x1), (2, .int x2), (3, .int x3), (4, .int x4)] → K t x1 x2 x3 x4 = some w → W p l e (rm_ 0 0) s m args below meth c H locs 0 0 (MQ below (QiT D d a w.1 w.2 s.heap.size) args s 0 0 (AT a s.heap.size)) (F0 m 88 ls [])) → ∀ (n : Nat) (t : TS) (x1 : Int32) (x2 : Int32) (x3 : Int32) (x4 : Int32) (x5 : Int32) (H : Heap) (locs : List Loc) (ls : Array Slot), TH D (AT a s.heap.size) s.heap (wT d a t) H locs → lv_has ls 6 [(0, .ref (a 42)), (1, .int x1), (2, .int x2), (3, .int x3), (4, .int x4), (5, .int x5)] → fX4_alikeAt_L18 N K n t x1 x2 x3 x4 x5 = some w → W p l e (rm_ 0 0) s m args below meth c H locs 0 0 (MQ below (QiT D d a w.1 w.2 s.heap.size) args s 0 0 (AT a s.heap.size)) (F0 m 18 ls []) := by
        intro K hE n
        induction n with
        | zero =>
          intro t x1 x2 x3 x4 x5 H locs ls hT hl hf
          cases hf
        | succ n ih =>
          intro t x1 x2 x3 x4 x5 H locs ls hT hl hf
          replace hf : fX4_alikeAt_B18 N K (fX4_alikeAt_L18 N K n) t x1 x2 x3 x4 x5 = some w := hf
          unfold fX4_alikeAt_B18 at hf
          refine lv_iload hx hb dX4_alikeAt_18 (lv_at hl 5 rfl) ?_
          refine lv_aload_n hx hb dX4_alikeAt_20 rfl (lv_at hl 0 rfl) ?_
          refine t_get C hV hT 2 (by decide) q1249 rfl dX4_alikeAt_21 ?_
          refine lv_icmp_gt (tgt := 88) hx hb dX4_alikeAt_24 (by decide) (fun hc => ?_) (fun hc => ?_)
          · have hf := ite_t hc hf
            exact hE t x1 x2 x3 x4 _ _ _ hT (lv_sub hl [0, 1, 2, 3, 4] rfl) hf
          · have hf := ite_f hc hf
            refine lv_aload_n hx hb dX4_alikeAt_27 rfl (lv_at hl 0 rfl) ?_
            refine t_get C hV hT 35 (by decide) q1282 rfl dX4_alikeAt_28 ?_
            refine lv_iload_n hx hb dX4_alikeAt_31 rfl (lv_at hl 3 rfl) ?_
            obtain ⟨hi, hf⟩ := ix_e hf
            refine g_zld C hV hT 18 _ rfl hi rfl dX4_alikeAt_32 ?_
            refine lv_if_eq (tgt := 88) hx hb dX4_alikeAt_33 (by decide) (fun hc => ?_) (fun hc => ?_)
            · have hf := ite_t hc hf
              exact hE t x1 x2 x3 x4 _ _ _ hT (lv_sub hl [0, 1, 2, 3, 4] rfl) hf
            · have hf := ite_f hc hf
              refine lv_iload hx hb dX4_alikeAt_36 (lv_at hl 4 rfl) ?_
              refine lv_aload_n hx hb dX4_alikeAt_38 rfl (lv_at hl 0 rfl) ?_
              refine t_get C hV hT 35 (by decide) q1282 rfl dX4_alikeAt_39 ?_
              refine lv_iload hx hb dX4_alikeAt_42 (lv_at hl 5 rfl) ?_
              obtain ⟨hi, hf⟩ := ix_e hf
              refine g_zld C hV hT 18 _ rfl hi rfl dX4_alikeAt_44 ?_
              refine lv_if_eq (tgt := 78) hx hb dX4_alikeAt_45 (by decide) (fun hc => ?_) (fun hc => ?_)
              · have hf := ite_t hc hf
                refine lv_iconst (v := 0) hx hb dX4_alikeAt_78 (by decide) ?_
                refine lv_iadd hx hb dX4_alikeAt_79 ?_
                refine lv_topi (fun x4_80 ex => ?_)
                have hf := lett_e ex hf
                refine lv_istore (lv' := [(4, .int x4_80), (0, .ref (a 42)), (1, .int x1), (2, .int x2), (3, .int x3), (5, .int x5)]) hx hb dX4_alikeAt_80 hl (by decide) rfl (fun ls hl => ?_)
                obtain ⟨x5_82, ex⟩ : ∃ y : Int32, y = (x5 + (1 : Int32)) := ⟨_, rfl⟩
                have hf := lett_e ex hf
                refine lv_iinc (v := x5_82) (lv' := [(5, .int x5_82), (4, .int x4_80), (0, .ref (a 42)), (1, .int x1), (2, .int x2), (3, .int x3)]) hx hb dX4_alikeAt_82 hl (k := 5) rfl (by rw [ex]; rfl) (by decide) rfl (fun ls hl => ?_)
                refine lv_goto (tgt := 18) hx hb dX4_alikeAt_85 (by decide) ?_
                exact ih t x1 x2 x3 x4_80 x5_82 _ _ _ hT (lv_sub hl [2, 3, 4, 5, 1, 0] rfl) hf
              · have hf := ite_f hc hf
                refine lv_aload_n hx hb dX4_alikeAt_48 rfl (lv_at hl 0 rfl) ?_
                refine t_get C hV hT 36 (by decide) q1283 rfl dX4_alikeAt_49 ?_
                refine lv_bipush (v := 6) hx hb dX4_alikeAt_52 (by decide) ?_
                refine lv_iload_n hx hb dX4_alikeAt_54 rfl (lv_at hl 3 rfl) ?_
                refine lv_imul hx hb dX4_alikeAt_55 ?_
                refine lv_iload_n hx hb dX4_alikeAt_56 rfl (lv_at hl 1 rfl) ?_
                refine lv_iadd hx hb dX4_alikeAt_57 ?_
                obtain ⟨hi, hf⟩ := ix_e hf
                refine g_ild C hV hT 19 _ rfl hi rfl dX4_alikeAt_58 ?_
                refine lv_aload_n hx hb dX4_alikeAt_59 rfl (lv_at hl 0 rfl) ?_
                refine t_get C hV hT 36 (by decide) q1283 rfl dX4_alikeAt_60 ?_
                refine lv_bipush (v := 6) hx hb dX4_alikeAt_63 (by decide) ?_
                refine lv_iload hx hb dX4_alikeAt_65 (lv_at hl 5 rfl) ?_
                refine lv_imul hx hb dX4_alikeAt_67 ?_
                refine lv_iload_n hx hb dX4_alikeAt_68 rfl (lv_at hl 1 rfl) ?_
                refine lv_iadd hx hb dX4_alikeAt_69 ?_
                obtain ⟨hi, hf⟩ := ix_e hf
                refine g_ild C hV hT 19 _ rfl hi rfl dX4_alikeAt_70 ?_
                refine lv_icmp_ne (tgt := 78) hx hb dX4_alikeAt_71 (by decide) (fun hc => ?_) (fun hc => ?_)
                · have hf := ite_t hc hf
                  refine lv_iconst (v := 0) hx hb dX4_alikeAt_78 (by decide) ?_
                  refine lv_iadd hx hb dX4_alikeAt_79 ?_
                  refine lv_topi (fun x4_80 ex => ?_)
                  have hf := lett_e ex hf
                  refine lv_istore (lv' := [(4, .int x4_80), (0, .ref (a 42)), (1, .int x1), (2, .int x2), (3, .int x3), (5, .int x5)]) hx hb dX4_alikeAt_80 hl (by decide) rfl (fun ls hl => ?_)
                  obtain ⟨x5_82, ex⟩ : ∃ y : Int32, y = (x5 + (1 : Int32)) := ⟨_, rfl⟩
                  have hf := lett_e ex hf
                  refine lv_iinc (v := x5_82) (lv' := [(5, .int x5_82), (4, .int x4_80), (0, .ref (a 42)), (1, .int x1), (2, .int x2), (3, .int x3)]) hx hb dX4_alikeAt_82 hl (k := 5) rfl (by rw [ex]; rfl) (by decide) rfl (fun ls hl => ?_)
                  refine lv_goto (tgt := 18) hx hb dX4_alikeAt_85 (by decide) ?_
                  exact ih t x1 x2 x3 x4_80 x5_82 _ _ _ hT (lv_sub hl [2, 3, 4, 5, 1, 0] rfl) hf
                · have hf := ite_f (fun q => q hc) hf
                  refine lv_iconst (v := 1) hx hb dX4_alikeAt_74 (by decide) ?_
                  refine lv_goto (tgt := 79) hx hb dX4_alikeAt_75 (by decide) ?_
                  refine lv_iadd hx hb dX4_alikeAt_79 ?_
                  refine lv_topi (fun x4_80 ex => ?_)
                  have hf := lett_e ex hf
                  refine lv_istore (lv' := [(4, .int x4_80), (0, .ref (a 42)), (1, .int x1), (2, .int x2), (3, .int x3), (5, .int x5)]) hx hb dX4_alikeAt_80 hl (by decide) rfl (fun ls hl => ?_)
                  obtain ⟨x5_82, ex⟩ : ∃ y : Int32, y = (x5 + (1 : Int32)) := ⟨_, rfl⟩
                  have hf := lett_e ex hf
                  refine lv_iinc (v := x5_82) (lv' := [(5, .int x5_82), (4, .int x4_80), (0, .ref (a 42)), (1, .int x1), (2, .int x2), (3, .int x3)]) hx hb dX4_alikeAt_82 hl (k := 5) rfl (by rw [ex]; rfl) (by decide) rfl (fun ls hl => ?_)
                  refine lv_goto (tgt := 18) hx hb dX4_alikeAt_85 (by decide) ?_
                  exact ih t x1 x2 x3 x4_80 x5_82 _ _ _ hT (lv_sub hl [2, 3, 4, 5, 1, 0] rfl) hf
      have hJ88 : ∀ (t : TS) (x1 : Int32) (x2 : Int32) (x3 : Int32) (x4 : Int32) (H : Heap) (locs : List Loc) (ls : Array Slot), TH D (AT a s.heap.size) s.heap (wT d a t) H locs → lv_has ls 6 [(0, .ref (a 42)), (1, .int x1), (2, .int x2), (3, .int x3), (4, .int x4)] → fX4_alikeAt_J88 N K (fX4_alikeAt_L4 N K n) t x1 x2 x3 x4 = some w → W p l e (rm_ 0 0) s m args below meth c H locs 0 0 (MQ below (QiT D d a w.1 w.2 s.heap.size) args s 0 0 (AT a s.heap.size)) (F0 m 88 ls []) := by
        intro t x1 x2 x3 x4 H locs ls hT hl hf
        unfold fX4_alikeAt_J88 at hf
        refine lv_iload hx hb dX4_alikeAt_88 (lv_at hl 4 rfl) ?_
        refine lv_iload_n hx hb dX4_alikeAt_90 rfl (lv_at hl 2 rfl) ?_
        refine lv_icmp_le (tgt := 99) hx hb dX4_alikeAt_91 (by decide) (fun hc => ?_) (fun hc => ?_)
        · have hf := ite_t hc hf
          refine lv_iload_n hx hb dX4_alikeAt_99 rfl (lv_at hl 2 rfl) ?_
          refine lv_istore_n (lv' := [(2, .int x2), (0, .ref (a 42)), (1, .int x1), (3, .int x3), (4, .int x4)]) hx hb dX4_alikeAt_100 rfl hl (by decide) rfl (fun ls hl => ?_)
          obtain ⟨x3_101, ex⟩ : ∃ y : Int32, y = (x3 + (1 : Int32)) := ⟨_, rfl⟩
          have hf := lett_e ex hf
          refine lv_iinc (v := x3_101) (lv' := [(3, .int x3_101), (2, .int x2), (0, .ref (a 42)), (1, .int x1), (4, .int x4)]) hx hb dX4_alikeAt_101 hl (k := 3) rfl (by rw [ex]; rfl) (by decide) rfl (fun ls hl => ?_)
          refine lv_goto (tgt := 4) hx hb dX4_alikeAt_104 (by decide) ?_
          exact ih t x1 x2 x3_101 _ _ _ hT (lv_sub hl [2, 3, 1, 0] rfl) hf
        · have hf := ite_f hc hf
          refine lv_iload hx hb dX4_alikeAt_94 (lv_at hl 4 rfl) ?_
          refine lv_goto (tgt := 100) hx hb dX4_alikeAt_96 (by decide) ?_
          refine lv_istore_n (lv' := [(2, .int x4), (0, .ref (a 42)), (1, .int x1), (3, .int x3), (4, .int x4)]) hx hb dX4_alikeAt_100 rfl hl (by decide) rfl (fun ls hl => ?_)
          obtain ⟨x3_101, ex⟩ : ∃ y : Int32, y = (x3 + (1 : Int32)) := ⟨_, rfl⟩
          have hf := lett_e ex hf
          refine lv_iinc (v := x3_101) (lv' := [(3, .int x3_101), (2, .int x4), (0, .ref (a 42)), (1, .int x1), (4, .int x4)]) hx hb dX4_alikeAt_101 hl (k := 3) rfl (by rw [ex]; rfl) (by decide) rfl (fun ls hl => ?_)
          refine lv_goto (tgt := 4) hx hb dX4_alikeAt_104 (by decide) ?_
          exact ih t x1 x4 x3_101 _ _ _ hT (lv_sub hl [2, 3, 1, 0] rfl) hf
      intro t x1 x2 x3 H locs ls hT hl hf
      replace hf : fX4_alikeAt_B4 N K (fX4_alikeAt_L4 N K n) t x1 x2 x3 = some w := hf
      unfold fX4_alikeAt_B4 at hf
      refine lv_iload_n hx hb dX4_alikeAt_4 rfl (lv_at hl 3 rfl) ?_
      refine lv_aload_n hx hb dX4_alikeAt_5 rfl (lv_at hl 0 rfl) ?_
      refine t_get C hV hT 2 (by decide) q1249 rfl dX4_alikeAt_6 ?_
      refine lv_icmp_gt (tgt := 107) hx hb dX4_alikeAt_9 (by decide) (fun hc => ?_) (fun hc => ?_)
      · have hf := ite_t hc hf
        exact hE t x2 _ _ _ hT (lv_sub hl [2] rfl) hf
      · have hf := ite_f hc hf
        refine lv_iconst (v := 0) hx hb dX4_alikeAt_12 (by decide) ?_
        refine lv_istore (lv' := [(4, .int (0 : Int32)), (0, .ref (a 42)), (1, .int x1), (2, .int x2), (3, .int x3)]) hx hb dX4_alikeAt_13 hl (by decide) rfl (fun ls hl => ?_)
        refine lv_iconst (v := 0) hx hb dX4_alikeAt_15 (by decide) ?_
        refine lv_istore (lv' := [(5, .int (0 : Int32)), (4, .int (0 : Int32)), (0, .ref (a 42)), (1, .int x1), (2, .int x2), (3, .int x3)]) hx hb dX4_alikeAt_16 hl (by decide) rfl (fun ls hl => ?_)
        refine hL18 _ (fun t x1 x2 x3 x4 H locs ls hT hl hf => ?_) N t x1 x2 x3 (0 : Int32) (0 : Int32) _ _ _ hT (lv_sub hl [2, 3, 4, 5, 1, 0] rfl) hf
        exact hJ88 t x1 x2 x3 x4 _ _ _ hT hl hf
  refine W.eq (by rw [hargs]) (t_in (vs := [.ref (a 42), .int x1]) (n := 6) (Nat.le_of_ble_eq_true rfl) (fun ls hl => ?_))
  have hl : lv_has ls 6 [(0, .ref (a 42)), (1, .int x1)] := hl
  unfold fX4_alikeAt at hf
  skip
  refine lv_iconst (v := 0) hx hb dX4_alikeAt_0 (by decide) ?_
  refine lv_istore_n (lv' := [(2, .int (0 : Int32)), (0, .ref (a 42)), (1, .int x1)]) hx hb dX4_alikeAt_1 rfl hl (by decide) rfl (fun ls hl => ?_)
  refine lv_iconst (v := 0) hx hb dX4_alikeAt_2 (by decide) ?_
  refine lv_istore_n (lv' := [(3, .int (0 : Int32)), (2, .int (0 : Int32)), (0, .ref (a 42)), (1, .int x1)]) hx hb dX4_alikeAt_3 rfl hl (by decide) rfl (fun ls hl => ?_)
  refine hL4 _ (fun t x2 H locs ls hT hl hf => ?_) N t x1 (0 : Int32) (0 : Int32) _ _ _ hT (lv_sub hl [2, 3, 1, 0] rfl) hf
  refine lv_iload_n hx hb dX4_alikeAt_107 rfl (lv_at hl 0 rfl) ?_
  exact t_iret C hT hf hr hlocks dX4_alikeAt_108
def fX4_look_B46 (N : Nat) (K : TS → Int32 → Int32 → Int32 → Option (Int32 × TS)) (kb : TS → Int32 → Int32 → Int32 → Int32 → Option (Int32 × TS)) (t : TS) (x2 : Int32) (x3 : Int32) (x4 : Int32) (x5 : Int32) : Option (Int32 × TS) :=
  (if (t.2.1 20 3) ≤ x5 then (K t x2 x3 x4) else ((fX4_alikeAt N t x5).bind fun w_60 => (if w_60.1 = 0 then (lett (x5 + (1 : Int32)) fun x5_91 => (kb w_60.2 x2 x3 x4 x5_91)) else (if x3 < 0 then (lett (x5 + (1 : Int32)) fun x5_91 => (kb w_60.2 x2 x5 w_60.1 x5_91)) else (if w_60.1 < x4 then (lett (x5 + (1 : Int32)) fun x5_91 => (kb w_60.2 x2 x5 w_60.1 x5_91)) else (lett (x5 + (1 : Int32)) fun x5_91 => (kb w_60.2 x2 x3 x4 x5_91)))))))
def fX4_look_L46 (N : Nat) (K : TS → Int32 → Int32 → Int32 → Option (Int32 × TS)) : Nat → TS → Int32 → Int32 → Int32 → Int32 → Option (Int32 × TS)
  | 0 => fun _ _ _ _ _ => none
  | n + 1 => fun t x2 x3 x4 x5 => fX4_look_B46 N K (fX4_look_L46 N K n) t x2 x3 x4 x5
def fX4_look (N : Nat) (t : TS) (x1 : Int32) (x2 : Int32) : Option (Int32 × TS) :=
  ((fX4_isJunction N t ).bind fun w_1 => (if w_1.1 = 0 then (some ((-1 : Int32), w_1.2)) else ((fX4_in N (x1).toInt64 (0 : Int64) (60 : Int64)).bind fun w_13 => (if w_13 = 0 then (some ((-1 : Int32), w_1.2)) else ((fX4_in N (x2).toInt64 (0 : Int64) (1 : Int64)).bind fun w_23 => (if ¬ w_23 = 0 then ((fX4_fillsFits N w_1.2 x1).bind fun w_33 => (fX4_look_L46 N (fun t x2 x3 x4 => (if ¬ x2 = 0 then (some (x4, t)) else (some (x3, t)))) N w_33 x2 (-2 : Int32) (-2 : Int32) (0 : Int32))) else (some ((-1 : Int32), w_1.2))))))))
theorem hdX4_look : yX4_look.cls = RX4 ∧ yX4_look.cls ≠ "java/lang/invoke/MethodHandle" ∧ yX4_look.cls ≠ "java/lang/invoke/VarHandle" ∧ (parseMethodDescriptor yX4_look.desc).map (fun d => d.parameters.length) = some 2 := by decide +kernel
set_option maxHeartbeats 4000000 in
theorem mX4_look (l : Launch) (D : va_G) (d : Nat → ClassId) (a : Nat → Nat) (N : Nat) (t : TS) (x1 : Int32) (x2 : Int32) (w : Int32 × TS) (hf : fX4_look N t x1 x2 = some w) (sz : Nat) : Met l yX4_look (ws_ yX4_look cX4_look 7 (some .int)) (rm_ 7 171) (PcT D d a [.int x1, .int x2] t sz) (QiT D d a w.1 w.2 sz) 0 0 (AT a sz) := by
  refine Met.ofW (cc := cX4_look) (maxL := 7) (ret := (some .int)) plX4 rfl ?_
  intro p e s m args below meth c s₁ B hml hv
  obtain ⟨C, hV, hT, hr, hlocks, hargs, rfl⟩ := t_enter B hml rfl hv
  have hx := C.1
  have hb := C.2.1
  show W p l e (rm_ 7 171) s m args below meth c s.heap [] 0 0 (MQ below (QiT D d a w.1 w.2 s.heap.size) args s 0 0 (AT a s.heap.size)) _
  have hL46 : ∀ (K : TS → Int32 → Int32 → Int32 → Option (Int32 × TS)), (∀ (t : TS) (x2 : Int32) (x3 : Int32) (x4 : Int32) (H : Heap) (locs : List Loc) (ls : Array Slot), TH D (AT a s.heap.size) s.heap (wT d a t) H locs → lv_has ls 7 [(2, .int x2), (3, .int x3), (4, .int x4)] → K t x2 x3 x4 = some w → W p l e (rm_ 7 171) s m args below meth c H locs 0 0 (MQ below (QiT D d a w.1 w.2 s.heap.size) args s 0 0 (AT a s.heap.size)) (F0 m 97 ls [])) → ∀ (n : Nat) (t : TS) (x2 : Int32) (x3 : Int32) (x4 : Int32) (x5 : Int32) (H : Heap) (locs : List Loc) (ls : Array Slot), TH D (AT a s.heap.size) s.heap (wT d a t) H locs → lv_has ls 7 [(0, .ref (a 42)), (2, .int x2), (3, .int x3), (4, .int x4), (5, .int x5)] → fX4_look_L46 N K n t x2 x3 x4 x5 = some w → W p l e (rm_ 7 171) s m args below meth c H locs 0 0 (MQ below (QiT D d a w.1 w.2 s.heap.size) args s 0 0 (AT a s.heap.size)) (F0 m 46 ls []) := by
    intro K hE n
    induction n with
    | zero =>
      intro t x2 x3 x4 x5 H locs ls hT hl hf
      cases hf
    | succ n ih =>
      intro t x2 x3 x4 x5 H locs ls hT hl hf
      replace hf : fX4_look_B46 N K (fX4_look_L46 N K n) t x2 x3 x4 x5 = some w := hf
      unfold fX4_look_B46 at hf
      refine lv_iload hx hb dX4_look_46 (lv_at hl 4 rfl) ?_
      refine lv_aload_n hx hb dX4_look_48 rfl (lv_at hl 0 rfl) ?_
      refine t_get C hV hT 20 (by decide) q1267 rfl dX4_look_49 ?_
      refine lv_iconst (v := 3) hx hb dX4_look_52 (by decide) ?_
      refine g_ild C hV hT 10 3 rfl (vin_of (by decide)) (by decide) dX4_look_53 ?_
      refine lv_icmp_ge (tgt := 97) hx hb dX4_look_54 (by decide) (fun hc => ?_) (fun hc => ?_)
      · have hf := ite_t hc hf
        exact hE t x2 x3 x4 _ _ _ hT (lv_sub hl [1, 2, 3] rfl) hf
      · have hf := ite_f hc hf
        refine lv_aload_n hx hb dX4_look_57 rfl (lv_at hl 0 rfl) ?_
        refine lv_iload hx hb dX4_look_58 (lv_at hl 4 rfl) ?_
        obtain ⟨w_60, h_60, hf⟩ := bind_e hf
        refine t_calli (vs := [.int x5]) (rest := []) C hV hT (fun sz => mX4_alikeAt l D d a N t x5 _ h_60 sz) (cwV 1 C.2.2.2.2 (lw_V q1837 q1839 qs117 q129 q1840) rfl rfl rfl hdX4_alikeAt ⟨Nat.le_of_ble_eq_true rfl, Nat.le_of_ble_eq_true rfl⟩) rfl hl.1 rfl (Nat.le_of_ble_eq_true rfl) dX4_look_60 (fun H locs hT => ?_)
        refine lv_istore (lv' := [(6, .int w_60.1), (0, .ref (a 42)), (2, .int x2), (3, .int x3), (4, .int x4), (5, .int x5)]) hx hb dX4_look_63 hl (by decide) rfl (fun ls hl => ?_)
        refine lv_iload hx hb dX4_look_65 (lv_at hl 0 rfl) ?_
        refine lv_if_eq (tgt := 91) hx hb dX4_look_67 (by decide) (fun hc => ?_) (fun hc => ?_)
        · have hf := ite_t hc hf
          obtain ⟨x5_91, ex⟩ : ∃ y : Int32, y = (x5 + (1 : Int32)) := ⟨_, rfl⟩
          have hf := lett_e ex hf
          refine lv_iinc (v := x5_91) (lv' := [(5, .int x5_91), (6, .int w_60.1), (0, .ref (a 42)), (2, .int x2), (3, .int x3), (4, .int x4)]) hx hb dX4_look_91 hl (k := 5) rfl (by rw [ex]; rfl) (by decide) rfl (fun ls hl => ?_)
          refine lv_goto (tgt := 46) hx hb dX4_look_94 (by decide) ?_
          exact ih w_60.2 x2 x3 x4 x5_91 _ _ _ hT (lv_sub hl [2, 3, 4, 5, 0] rfl) hf
        · have hf := ite_f hc hf
          refine lv_iload_n hx hb dX4_look_70 rfl (lv_at hl 3 rfl) ?_
          refine lv_if_lt (tgt := 84) hx hb dX4_look_71 (by decide) (fun hc => ?_) (fun hc => ?_)
          · have hf := ite_t hc hf
            refine lv_iload hx hb dX4_look_84 (lv_at hl 5 rfl) ?_
            refine lv_istore_n (lv' := [(3, .int x5), (6, .int w_60.1), (0, .ref (a 42)), (2, .int x2), (4, .int x4), (5, .int x5)]) hx hb dX4_look_86 rfl hl (by decide) rfl (fun ls hl => ?_)
            refine lv_iload hx hb dX4_look_87 (lv_at hl 1 rfl) ?_
            refine lv_istore (lv' := [(4, .int w_60.1), (3, .int x5), (6, .int w_60.1), (0, .ref (a 42)), (2, .int x2), (5, .int x5)]) hx hb dX4_look_89 hl (by decide) rfl (fun ls hl => ?_)
            obtain ⟨x5_91, ex⟩ : ∃ y : Int32, y = (x5 + (1 : Int32)) := ⟨_, rfl⟩
            have hf := lett_e ex hf
            refine lv_iinc (v := x5_91) (lv' := [(5, .int x5_91), (4, .int w_60.1), (3, .int x5), (6, .int w_60.1), (0, .ref (a 42)), (2, .int x2)]) hx hb dX4_look_91 hl (k := 5) rfl (by rw [ex]; rfl) (by decide) rfl (fun ls hl => ?_)
            refine lv_goto (tgt := 46) hx hb dX4_look_94 (by decide) ?_
            exact ih w_60.2 x2 x5 w_60.1 x5_91 _ _ _ hT (lv_sub hl [4, 5, 2, 1, 0] rfl) hf
          · have hf := ite_f hc hf
            refine lv_iload hx hb dX4_look_74 (lv_at hl 0 rfl) ?_
            refine lv_iload hx hb dX4_look_76 (lv_at hl 4 rfl) ?_
            refine lv_icmp_lt (tgt := 84) hx hb dX4_look_78 (by decide) (fun hc => ?_) (fun hc => ?_)
            · have hf := ite_t hc hf
              refine lv_iload hx hb dX4_look_84 (lv_at hl 5 rfl) ?_
              refine lv_istore_n (lv' := [(3, .int x5), (6, .int w_60.1), (0, .ref (a 42)), (2, .int x2), (4, .int x4), (5, .int x5)]) hx hb dX4_look_86 rfl hl (by decide) rfl (fun ls hl => ?_)
              refine lv_iload hx hb dX4_look_87 (lv_at hl 1 rfl) ?_
              refine lv_istore (lv' := [(4, .int w_60.1), (3, .int x5), (6, .int w_60.1), (0, .ref (a 42)), (2, .int x2), (5, .int x5)]) hx hb dX4_look_89 hl (by decide) rfl (fun ls hl => ?_)
              obtain ⟨x5_91, ex⟩ : ∃ y : Int32, y = (x5 + (1 : Int32)) := ⟨_, rfl⟩
              have hf := lett_e ex hf
              refine lv_iinc (v := x5_91) (lv' := [(5, .int x5_91), (4, .int w_60.1), (3, .int x5), (6, .int w_60.1), (0, .ref (a 42)), (2, .int x2)]) hx hb dX4_look_91 hl (k := 5) rfl (by rw [ex]; rfl) (by decide) rfl (fun ls hl => ?_)
              refine lv_goto (tgt := 46) hx hb dX4_look_94 (by decide) ?_
              exact ih w_60.2 x2 x5 w_60.1 x5_91 _ _ _ hT (lv_sub hl [4, 5, 2, 1, 0] rfl) hf
            · have hf := ite_f hc hf
              refine lv_goto (tgt := 91) hx hb dX4_look_81 (by decide) ?_
              obtain ⟨x5_91, ex⟩ : ∃ y : Int32, y = (x5 + (1 : Int32)) := ⟨_, rfl⟩
              have hf := lett_e ex hf
              refine lv_iinc (v := x5_91) (lv' := [(5, .int x5_91), (6, .int w_60.1), (0, .ref (a 42)), (2, .int x2), (3, .int x3), (4, .int x4)]) hx hb dX4_look_91 hl (k := 5) rfl (by rw [ex]; rfl) (by decide) rfl (fun ls hl => ?_)
              refine lv_goto (tgt := 46) hx hb dX4_look_94 (by decide) ?_
              exact ih w_60.2 x2 x3 x4 x5_91 _ _ _ hT (lv_sub hl [2, 3, 4, 5, 0] rfl) hf
  refine W.eq (by rw [hargs]) (t_in (vs := [.ref (a 42), .int x1, .int x2]) (n := 7) (Nat.le_of_ble_eq_true rfl) (fun ls hl => ?_))
  have hl : lv_has ls 7 [(0, .ref (a 42)), (1, .int x1), (2, .int x2)] := hl
  unfold fX4_look at hf
  skip
  refine lv_aload_n hx hb dX4_look_0 rfl (lv_at hl 0 rfl) ?_
  obtain ⟨w_1, h_1, hf⟩ := bind_e hf
  refine t_calli (vs := []) (rest := []) C hV hT (fun sz => mX4_isJunction l D d a N t  _ h_1 sz) (cwV 0 C.2.2.2.2 (lw_V q1593 q1595 qs85 q129 q1596) rfl rfl rfl hdX4_isJunction ⟨Nat.le_of_ble_eq_true rfl, Nat.le_of_ble_eq_true rfl⟩) rfl hl.1 rfl (Nat.le_of_ble_eq_true rfl) dX4_look_1 (fun H locs hT => ?_)
  refine lv_if_eq (tgt := 29) hx hb dX4_look_4 (by decide) (fun hc => ?_) (fun hc => ?_)
  · have hf := ite_t hc hf
    refine lv_iconst (v := -1) hx hb dX4_look_29 (by decide) ?_
    exact t_iret C hT hf hr hlocks dX4_look_30
  · have hf := ite_f hc hf
    refine lv_iload_n hx hb dX4_look_7 rfl (lv_at hl 1 rfl) ?_
    refine lv_i2l hx hb dX4_look_8 rfl ?_
    refine lv_lconst (v := 0) hx hb dX4_look_9 (by decide) ?_
    refine g_ldc2 (v := 60) C q1766 dX4_look_10 ?_
    obtain ⟨w_13, h_13, hf⟩ := bind_e hf
    refine s_calli (vs := [.long (x1).toInt64, .long (0 : Int64), .long (60 : Int64)]) (rest := []) C (fun q h => Or.inr h) hT (fun sz => mX4_in l N (x1).toInt64 (0 : Int64) (60 : Int64) _ h_13 sz) (va_cwS 3 C.2.2.2.2 (lw_S q1448 q1449 q129 q1450) rfl rfl rfl hdX4_in ⟨Nat.le_of_ble_eq_true rfl, Nat.le_of_ble_eq_true rfl⟩) rfl hl.1 rfl (Nat.le_of_ble_eq_true rfl) dX4_look_13 ⟨Nat.zero_le _, Nat.zero_le _⟩ (fun H locs hT => ?_)
    refine lv_if_eq (tgt := 29) hx hb dX4_look_16 (by decide) (fun hc => ?_) (fun hc => ?_)
    · have hf := ite_t hc hf
      refine lv_iconst (v := -1) hx hb dX4_look_29 (by decide) ?_
      exact t_iret C hT hf hr hlocks dX4_look_30
    · have hf := ite_f hc hf
      refine lv_iload_n hx hb dX4_look_19 rfl (lv_at hl 2 rfl) ?_
      refine lv_i2l hx hb dX4_look_20 rfl ?_
      refine lv_lconst (v := 0) hx hb dX4_look_21 (by decide) ?_
      refine lv_lconst (v := 1) hx hb dX4_look_22 (by decide) ?_
      obtain ⟨w_23, h_23, hf⟩ := bind_e hf
      refine s_calli (vs := [.long (x2).toInt64, .long (0 : Int64), .long (1 : Int64)]) (rest := []) C (fun q h => Or.inr h) hT (fun sz => mX4_in l N (x2).toInt64 (0 : Int64) (1 : Int64) _ h_23 sz) (va_cwS 3 C.2.2.2.2 (lw_S q1448 q1449 q129 q1450) rfl rfl rfl hdX4_in ⟨Nat.le_of_ble_eq_true rfl, Nat.le_of_ble_eq_true rfl⟩) rfl hl.1 rfl (Nat.le_of_ble_eq_true rfl) dX4_look_23 ⟨Nat.zero_le _, Nat.zero_le _⟩ (fun H locs hT => ?_)
      refine lv_if_ne (tgt := 31) hx hb dX4_look_26 (by decide) (fun hc => ?_) (fun hc => ?_)
      · have hf := ite_t hc hf
        refine lv_aload_n hx hb dX4_look_31 rfl (lv_at hl 0 rfl) ?_
        refine lv_iload_n hx hb dX4_look_32 rfl (lv_at hl 1 rfl) ?_
        obtain ⟨w_33, h_33, hf⟩ := bind_e hf
        refine t_callv (vs := [.int x1]) (rest := []) C hV hT (fun sz => mX4_fillsFits l D d a N w_1.2 x1 _ h_33 sz) (cwV 1 C.2.2.2.2 (lw_V q1825 q1827 qs115 q129 q1828) rfl rfl rfl hdX4_fillsFits ⟨Nat.le_of_ble_eq_true rfl, Nat.le_of_ble_eq_true rfl⟩) rfl hl.1 rfl (Nat.le_of_ble_eq_true rfl) dX4_look_33 (fun H locs hT => ?_)
        refine lv_bipush (v := -2) hx hb dX4_look_36 (by decide) ?_
        refine lv_istore_n (lv' := [(3, .int (-2 : Int32)), (0, .ref (a 42)), (1, .int x1), (2, .int x2)]) hx hb dX4_look_38 rfl hl (by decide) rfl (fun ls hl => ?_)
        refine lv_bipush (v := -2) hx hb dX4_look_39 (by decide) ?_
        refine lv_istore (lv' := [(4, .int (-2 : Int32)), (3, .int (-2 : Int32)), (0, .ref (a 42)), (1, .int x1), (2, .int x2)]) hx hb dX4_look_41 hl (by decide) rfl (fun ls hl => ?_)
        refine lv_iconst (v := 0) hx hb dX4_look_43 (by decide) ?_
        refine lv_istore (lv' := [(5, .int (0 : Int32)), (4, .int (-2 : Int32)), (3, .int (-2 : Int32)), (0, .ref (a 42)), (1, .int x1), (2, .int x2)]) hx hb dX4_look_44 hl (by decide) rfl (fun ls hl => ?_)
        refine hL46 _ (fun t x2 x3 x4 H locs ls hT hl hf => ?_) N w_33 x2 (-2 : Int32) (-2 : Int32) (0 : Int32) _ _ _ hT (lv_sub hl [3, 5, 2, 1, 0] rfl) hf
        refine lv_iload_n hx hb dX4_look_97 rfl (lv_at hl 0 rfl) ?_
        refine lv_if_ne (tgt := 105) hx hb dX4_look_98 (by decide) (fun hc => ?_) (fun hc => ?_)
        · have hf := ite_t hc hf
          refine lv_iload hx hb dX4_look_105 (lv_at hl 2 rfl) ?_
          exact t_iret C hT hf hr hlocks dX4_look_107
        · have hf := ite_f (fun q => q hc) hf
          refine lv_iload_n hx hb dX4_look_101 rfl (lv_at hl 1 rfl) ?_
          refine lv_goto (tgt := 107) hx hb dX4_look_102 (by decide) ?_
          exact t_iret C hT hf hr hlocks dX4_look_107
      · have hf := ite_f (fun q => q hc) hf
        refine lv_iconst (v := -1) hx hb dX4_look_29 (by decide) ?_
        exact t_iret C hT hf hr hlocks dX4_look_30
def fX4_seed (N : Nat) (t : TS) (x1 : Int32) : Option (Int32 × TS) :=
  (if 0 ≤ x1 then (lett (t.1 22) fun x2_10 => (lett (tsI t 22 x1) fun t_13 => (some (x2_10, t_13)))) else (some ((-1 : Int32), t)))
theorem hdX4_seed : yX4_seed.cls = RX4 ∧ yX4_seed.cls ≠ "java/lang/invoke/MethodHandle" ∧ yX4_seed.cls ≠ "java/lang/invoke/VarHandle" ∧ (parseMethodDescriptor yX4_seed.desc).map (fun d => d.parameters.length) = some 1 := by decide +kernel
set_option maxHeartbeats 4000000 in
theorem mX4_seed (l : Launch) (D : va_G) (d : Nat → ClassId) (a : Nat → Nat) (N : Nat) (t : TS) (x1 : Int32) (w : Int32 × TS) (hf : fX4_seed N t x1 = some w) (sz : Nat) : Met l yX4_seed (ws_ yX4_seed cX4_seed 3 (some .int)) (rm_ 0 0) (PcT D d a [.int x1] t sz) (QiT D d a w.1 w.2 sz) 0 0 (AT a sz) := by
  refine Met.ofW (cc := cX4_seed) (maxL := 3) (ret := (some .int)) plX4 rfl ?_
  intro p e s m args below meth c s₁ B hml hv
  obtain ⟨C, hV, hT, hr, hlocks, hargs, rfl⟩ := t_enter B hml rfl hv
  have hx := C.1
  have hb := C.2.1
  show W p l e (rm_ 0 0) s m args below meth c s.heap [] 0 0 (MQ below (QiT D d a w.1 w.2 s.heap.size) args s 0 0 (AT a s.heap.size)) _
  refine W.eq (by rw [hargs]) (t_in (vs := [.ref (a 42), .int x1]) (n := 3) (Nat.le_of_ble_eq_true rfl) (fun ls hl => ?_))
  have hl : lv_has ls 3 [(0, .ref (a 42)), (1, .int x1)] := hl
  unfold fX4_seed at hf
  skip
  refine lv_iload_n hx hb dX4_seed_0 rfl (lv_at hl 1 rfl) ?_
  refine lv_if_ge (tgt := 6) hx hb dX4_seed_1 (by decide) (fun hc => ?_) (fun hc => ?_)
  · have hf := ite_t hc hf
    refine lv_aload_n hx hb dX4_seed_6 rfl (lv_at hl 0 rfl) ?_
    refine t_get C hV hT 22 (by decide) q1269 rfl dX4_seed_7 ?_
    refine lv_topi (fun x2_10 ex => ?_)
    have hf := lett_e ex hf
    refine lv_istore_n (lv' := [(2, .int x2_10), (0, .ref (a 42)), (1, .int x1)]) hx hb dX4_seed_10 rfl hl (by decide) rfl (fun ls hl => ?_)
    refine lv_aload_n hx hb dX4_seed_11 rfl (lv_at hl 1 rfl) ?_
    refine lv_iload_n hx hb dX4_seed_12 rfl (lv_at hl 2 rfl) ?_
    refine t_put C hV hT 22 (by decide) q1269 (tset_22 a t _) rfl rfl dX4_seed_13 (fun t_13 H locs et hT => ?_)
    have hf := lett_e et hf
    refine lv_iload_n hx hb dX4_seed_16 rfl (lv_at hl 0 rfl) ?_
    exact t_iret C hT hf hr hlocks dX4_seed_17
  · have hf := ite_f hc hf
    refine lv_iconst (v := -1) hx hb dX4_seed_4 (by decide) ?_
    exact t_iret C hT hf hr hlocks dX4_seed_5
def fX4_draw (N : Nat) (t : TS) (x1 : Int32) : Option (Int32 × TS) :=
  (lett (tsL t 37 (lrem (((t.2.2.1 37) * (1103515245 : Int64)) + (12345 : Int64)) (2147483648 : Int64))) fun t_17 => (nzl (x1).toInt64 (some (((lrem ((t_17.2.2.1 37) / (65536 : Int64)) (x1).toInt64)).toInt32, t_17))))
theorem hdX4_draw : yX4_draw.cls = RX4 ∧ yX4_draw.cls ≠ "java/lang/invoke/MethodHandle" ∧ yX4_draw.cls ≠ "java/lang/invoke/VarHandle" ∧ (parseMethodDescriptor yX4_draw.desc).map (fun d => d.parameters.length) = some 1 := by decide +kernel
set_option maxHeartbeats 4000000 in
theorem mX4_draw (l : Launch) (D : va_G) (d : Nat → ClassId) (a : Nat → Nat) (N : Nat) (t : TS) (x1 : Int32) (w : Int32 × TS) (hf : fX4_draw N t x1 = some w) (sz : Nat) : Met l yX4_draw (ws_ yX4_draw cX4_draw 2 (some .int)) (rm_ 0 0) (PcT D d a [.int x1] t sz) (QiT D d a w.1 w.2 sz) 0 0 (AT a sz) := by
  refine Met.ofW (cc := cX4_draw) (maxL := 2) (ret := (some .int)) plX4 rfl ?_
  intro p e s m args below meth c s₁ B hml hv
  obtain ⟨C, hV, hT, hr, hlocks, hargs, rfl⟩ := t_enter B hml rfl hv
  have hx := C.1
  have hb := C.2.1
  show W p l e (rm_ 0 0) s m args below meth c s.heap [] 0 0 (MQ below (QiT D d a w.1 w.2 s.heap.size) args s 0 0 (AT a s.heap.size)) _
  refine W.eq (by rw [hargs]) (t_in (vs := [.ref (a 42), .int x1]) (n := 2) (Nat.le_of_ble_eq_true rfl) (fun ls hl => ?_))
  have hl : lv_has ls 2 [(0, .ref (a 42)), (1, .int x1)] := hl
  unfold fX4_draw at hf
  skip
  refine lv_aload_n hx hb dX4_draw_0 rfl (lv_at hl 0 rfl) ?_
  refine lv_aload_n hx hb dX4_draw_1 rfl (lv_at hl 0 rfl) ?_
  refine t_get C hV hT 37 (by decide) q1284 rfl dX4_draw_2 ?_
  refine g_ldc2 (v := 1103515245) C q1855 dX4_draw_5 ?_
  refine lv_lmul hx hb dX4_draw_8 ?_
  refine g_ldc2 (v := 12345) C q1856 dX4_draw_9 ?_
  refine lv_ladd hx hb dX4_draw_12 ?_
  refine g_ldc2 (v := 2147483648) C q1857 dX4_draw_13 ?_
  refine g_lrem hx hb dX4_draw_16 (by decide) ?_
  refine t_putl C hV hT 37 (by decide) q1284 (tset_37 a t _) rfl rfl dX4_draw_17 (fun t_17 H locs et hT => ?_)
  have hf := lett_e et hf
  refine lv_aload_n hx hb dX4_draw_20 rfl (lv_at hl 0 rfl) ?_
  refine t_get C hV hT 37 (by decide) q1284 rfl dX4_draw_21 ?_
  refine g_ldc2 (v := 65536) C q1858 dX4_draw_24 ?_
  refine lv_ldiv hx hb dX4_draw_27 (by decide) ?_
  refine lv_iload_n hx hb dX4_draw_28 rfl (lv_at hl 1 rfl) ?_
  refine lv_i2l hx hb dX4_draw_29 rfl ?_
  obtain ⟨hn, hf⟩ := nzl_e hf
  refine g_lrem hx hb dX4_draw_30 hn ?_
  refine lv_l2i hx hb dX4_draw_31 rfl ?_
  exact t_iret C hT hf hr hlocks dX4_draw_32
def fX4_mornings_J54 (N : Nat) (t : TS) : Option (Int32 × TS) :=
  (some ((-100000 : Int32), t))
def fX4_mornings_J136 (N : Nat) (K : TS → Int32 → Int32 → Int32 → Int32 → Int32 → Int32 → Int32 → Int32 → Option (Int32 × TS)) (kb : TS → Int32 → Int32 → Int32 → Int32 → Int32 → Int32 → Int32 → Int32 → Int32 → Option (Int32 × TS)) (t : TS) (x1 : Int32) (x2 : Int32) (x3 : Int32) (x4 : Int32) (x5 : Int32) (x6 : Int32) (x7 : Int32) (x8 : Int32) (x9 : Int32) : Option (Int32 × TS) :=
  ((fX4_passes N t ).bind fun w_137 => (lett (x9 + (1 : Int32)) fun x9_141 => (kb w_137.2 x1 x2 x3 x4 x5 x6 x7 x8 x9_141)))
def fX4_mornings_B96 (N : Nat) (K : TS → Int32 → Int32 → Int32 → Int32 → Int32 → Int32 → Int32 → Int32 → Option (Int32 × TS)) (kb : TS → Int32 → Int32 → Int32 → Int32 → Int32 → Int32 → Int32 → Int32 → Int32 → Option (Int32 × TS)) (t : TS) (x1 : Int32) (x2 : Int32) (x3 : Int32) (x4 : Int32) (x5 : Int32) (x6 : Int32) (x7 : Int32) (x8 : Int32) (x9 : Int32) : Option (Int32 × TS) :=
  (if x2 ≤ x9 then (K t x1 x2 x3 x4 x5 x6 x7 x8) else ((fX4_draw N t (100 : Int32)).bind fun w_105 => (if x3 ≤ w_105.1 then (fX4_mornings_J136 N K kb w_105.2 x1 x2 x3 x4 x5 x6 x7 x8 x9) else (if (w_105.2.2.1 20 3) ≤ 0 then (fX4_mornings_J136 N K kb w_105.2 x1 x2 x3 x4 x5 x6 x7 x8 x9) else ((fX4_draw N w_105.2 (w_105.2.2.1 20 3)).bind fun w_129 => ((fX4_comes N w_129.2 w_129.1 (3 : Int32)).bind fun w_133 => (fX4_mornings_J136 N K kb w_133 x1 x2 x3 x4 x5 x6 x7 x8 x9)))))))
def fX4_mornings_L96 (N : Nat) (K : TS → Int32 → Int32 → Int32 → Int32 → Int32 → Int32 → Int32 → Int32 → Option (Int32 × TS)) : Nat → TS → Int32 → Int32 → Int32 → Int32 → Int32 → Int32 → Int32 → Int32 → Int32 → Option (Int32 × TS)
  | 0 => fun _ _ _ _ _ _ _ _ _ _ => none
  | n + 1 => fun t x1 x2 x3 x4 x5 x6 x7 x8 x9 => fX4_mornings_B96 N K (fX4_mornings_L96 N K n) t x1 x2 x3 x4 x5 x6 x7 x8 x9
def fX4_mornings_B87 (N : Nat) (K : TS → Int32 → Int32 → Int32 → Option (Int32 × TS)) (kb : TS → Int32 → Int32 → Int32 → Int32 → Int32 → Int32 → Int32 → Int32 → Option (Int32 × TS)) (t : TS) (x1 : Int32) (x2 : Int32) (x3 : Int32) (x4 : Int32) (x5 : Int32) (x6 : Int32) (x7 : Int32) (x8 : Int32) : Option (Int32 × TS) :=
  (if x1 ≤ x8 then (K t x4 x5 x6) else (fX4_mornings_L96 N (fun t x1 x2 x3 x4 x5 x6 x7 x8 => ((fX4_sumOver N t (2 : Int32)).bind fun w_151 => (lett (x5 + (w_151.1 - x7)) fun x5_158 => (lett (x6 + ((w_151.2.2.1 20 53) - (w_151.2.2.1 28 43))) fun x6_178 => ((fX4_laysBack N w_151.2 ).bind fun w_181 => (lett (x8 + (1 : Int32)) fun x8_184 => (kb w_181 x1 x2 x3 x4 x5_158 x6_178 x7 x8_184))))))) N t x1 x2 x3 x4 x5 x6 x7 x8 (0 : Int32)))
def fX4_mornings_L87 (N : Nat) (K : TS → Int32 → Int32 → Int32 → Option (Int32 × TS)) : Nat → TS → Int32 → Int32 → Int32 → Int32 → Int32 → Int32 → Int32 → Int32 → Option (Int32 × TS)
  | 0 => fun _ _ _ _ _ _ _ _ _ => none
  | n + 1 => fun t x1 x2 x3 x4 x5 x6 x7 x8 => fX4_mornings_B87 N K (fX4_mornings_L87 N K n) t x1 x2 x3 x4 x5 x6 x7 x8
def fX4_mornings (N : Nat) (t : TS) (x1 : Int32) (x2 : Int32) (x3 : Int32) (x4 : Int32) : Option (Int32 × TS) :=
  ((fX4_isJunction N t ).bind fun w_1 => (if w_1.1 = 0 then (fX4_mornings_J54 N w_1.2) else ((fX4_in N (x1).toInt64 (1 : Int64) (10 : Int64)).bind fun w_13 => (if w_13 = 0 then (fX4_mornings_J54 N w_1.2) else ((fX4_in N (x2).toInt64 (1 : Int64) (60 : Int64)).bind fun w_25 => (if w_25 = 0 then (fX4_mornings_J54 N w_1.2) else ((fX4_in N (x3).toInt64 (0 : Int64) (100 : Int64)).bind fun w_37 => (if w_37 = 0 then (fX4_mornings_J54 N w_1.2) else ((fX4_in N (x4).toInt64 (0 : Int64) (1 : Int64)).bind fun w_48 => (if ¬ w_48 = 0 then (lett (tsL w_1.2 37 ((w_1.2.1 22)).toInt64) fun t_64 => ((fX4_sumOver N t_64 (2 : Int32)).bind fun w_75 => ((fX4_keeps N w_75.2 ).bind fun w_81 => (fX4_mornings_L87 N (fun t x4 x5 x6 => (if ¬ x4 = 0 then (some (x6, t)) else (some (x5, t)))) N w_81 x1 x2 x3 x4 (0 : Int32) (0 : Int32) w_75.1 (0 : Int32))))) else (fX4_mornings_J54 N w_1.2)))))))))))
theorem hdX4_mornings : yX4_mornings.cls = RX4 ∧ yX4_mornings.cls ≠ "java/lang/invoke/MethodHandle" ∧ yX4_mornings.cls ≠ "java/lang/invoke/VarHandle" ∧ (parseMethodDescriptor yX4_mornings.desc).map (fun d => d.parameters.length) = some 4 := by decide +kernel
set_option maxHeartbeats 4000000 in
theorem mX4_mornings (l : Launch) (D : va_G) (d : Nat → ClassId) (a : Nat → Nat) (N : Nat) (t : TS) (x1 : Int32) (x2 : Int32) (x3 : Int32) (x4 : Int32) (w : Int32 × TS) (hf : fX4_mornings N t x1 x2 x3 x4 = some w) (sz : Nat) : Met l yX4_mornings (ws_ yX4_mornings cX4_mornings 10 (some .int)) (rm_ 6 145) (PcT D d a [.int x1, .int x2, .int x3, .int x4] t sz) (QiT D d a w.1 w.2 sz) 0 0 (AT a sz) := by
  refine Met.ofW (cc := cX4_mornings) (maxL := 10) (ret := (some .int)) plX4 rfl ?_
  intro p e s m args below meth c s₁ B hml hv
  obtain ⟨C, hV, hT, hr, hlocks, hargs, rfl⟩ := t_enter B hml rfl hv
  have hx := C.1
  have hb := C.2.1
  show W p l e (rm_ 6 145) s m args below meth c s.heap [] 0 0 (MQ below (QiT D d a w.1 w.2 s.heap.size) args s 0 0 (AT a s.heap.size)) _
  have hJ54 : ∀ (t : TS) (H : Heap) (locs : List Loc) (ls : Array Slot), TH D (AT a s.heap.size) s.heap (wT d a t) H locs → lv_has ls 10 [] → fX4_mornings_J54 N t = some w → W p l e (rm_ 6 145) s m args below meth c H locs 0 0 (MQ below (QiT D d a w.1 w.2 s.heap.size) args s 0 0 (AT a s.heap.size)) (F0 m 54 ls []) := by
    intro t H locs ls hT hl hf
    unfold fX4_mornings_J54 at hf
    refine g_ldcw (v := -100000) C q1850 dX4_mornings_54 ?_
    exact t_iret C hT hf hr hlocks dX4_mornings_57
  have hL87 : ∀ (K : TS → Int32 → Int32 → Int32 → Option (Int32 × TS)), (∀ (t : TS) (x4 : Int32) (x5 : Int32) (x6 : Int32) (H : Heap) (locs : List Loc) (ls : Array Slot), TH D (AT a s.heap.size) s.heap (wT d a t) H locs → lv_has ls 10 [(4, .int x4), (5, .int x5), (6, .int x6)] → K t x4 x5 x6 = some w → W p l e (rm_ 6 145) s m args below meth c H locs 0 0 (MQ below (QiT D d a w.1 w.2 s.heap.size) args s 0 0 (AT a s.heap.size)) (F0 m 190 ls [])) → ∀ (n : Nat) (t : TS) (x1 : Int32) (x2 : Int32) (x3 : Int32) (x4 : Int32) (x5 : Int32) (x6 : Int32) (x7 : Int32) (x8 : Int32) (H : Heap) (locs : List Loc) (ls : Array Slot), TH D (AT a s.heap.size) s.heap (wT d a t) H locs → lv_has ls 10 [(0, .ref (a 42)), (1, .int x1), (2, .int x2), (3, .int x3), (4, .int x4), (5, .int x5), (6, .int x6), (7, .int x7), (8, .int x8)] → fX4_mornings_L87 N K n t x1 x2 x3 x4 x5 x6 x7 x8 = some w → W p l e (rm_ 6 145) s m args below meth c H locs 0 0 (MQ below (QiT D d a w.1 w.2 s.heap.size) args s 0 0 (AT a s.heap.size)) (F0 m 87 ls []) := by
    intro K hE n
    induction n with
    | zero =>
      intro t x1 x2 x3 x4 x5 x6 x7 x8 H locs ls hT hl hf
      cases hf
    | succ n ih =>
      have hL96 : ∀ (K : TS → Int32 → Int32 → Int32 → Int32 → Int32 → Int32 → Int32 → Int32 → Option (Int32 × TS)), (∀ (t : TS) (x1 : Int32) (x2 : Int32) (x3 : Int32) (x4 : Int32) (x5 : Int32) (x6 : Int32) (x7 : Int32) (x8 : Int32) (H : Heap) (locs : List Loc) (ls : Array Slot), TH D (AT a s.heap.size) s.heap (wT d a t) H locs → lv_has ls 10 [(0, .ref (a 42)), (1, .int x1), (2, .int x2), (3, .int x3), (4, .int x4), (5, .int x5), (6, .int x6), (7, .int x7), (8, .int x8)] → K t x1 x2 x3 x4 x5 x6 x7 x8 = some w → W p l e (rm_ 6 145) s m args below meth c H locs 0 0 (MQ below (QiT D d a w.1 w.2 s.heap.size) args s 0 0 (AT a s.heap.size)) (F0 m 147 ls [])) → ∀ (n : Nat) (t : TS) (x1 : Int32) (x2 : Int32) (x3 : Int32) (x4 : Int32) (x5 : Int32) (x6 : Int32) (x7 : Int32) (x8 : Int32) (x9 : Int32) (H : Heap) (locs : List Loc) (ls : Array Slot), TH D (AT a s.heap.size) s.heap (wT d a t) H locs → lv_has ls 10 [(0, .ref (a 42)), (1, .int x1), (2, .int x2), (3, .int x3), (4, .int x4), (5, .int x5), (6, .int x6), (7, .int x7), (8, .int x8), (9, .int x9)] → fX4_mornings_L96 N K n t x1 x2 x3 x4 x5 x6 x7 x8 x9 = some w → W p l e (rm_ 6 145) s m args below meth c H locs 0 0 (MQ below (QiT D d a w.1 w.2 s.heap.size) args s 0 0 (AT a s.heap.size)) (F0 m 96 ls []) := by
        intro K hE n
        induction n with
        | zero =>
          intro t x1 x2 x3 x4 x5 x6 x7 x8 x9 H locs ls hT hl hf
          cases hf
        | succ n ih =>
          have hJ136 : ∀ (t : TS) (x1 : Int32) (x2 : Int32) (x3 : Int32) (x4 : Int32) (x5 : Int32) (x6 : Int32) (x7 : Int32) (x8 : Int32) (x9 : Int32) (H : Heap) (locs : List Loc) (ls : Array Slot), TH D (AT a s.heap.size) s.heap (wT d a t) H locs → lv_has ls 10 [(0, .ref (a 42)), (1, .int x1), (2, .int x2), (3, .int x3), (4, .int x4), (5, .int x5), (6, .int x6), (7, .int x7), (8, .int x8), (9, .int x9)] → fX4_mornings_J136 N K (fX4_mornings_L96 N K n) t x1 x2 x3 x4 x5 x6 x7 x8 x9 = some w → W p l e (rm_ 6 145) s m args below meth c H locs 0 0 (MQ below (QiT D d a w.1 w.2 s.heap.size) args s 0 0 (AT a s.heap.size)) (F0 m 136 ls []) := by
            intro t x1 x2 x3 x4 x5 x6 x7 x8 x9 H locs ls hT hl hf
            unfold fX4_mornings_J136 at hf
            refine lv_aload_n hx hb dX4_mornings_136 rfl (lv_at hl 0 rfl) ?_
            obtain ⟨w_137, h_137, hf⟩ := bind_e hf
            refine t_calli (vs := []) (rest := []) C hV hT (fun sz => mX4_passes l D d a N t  _ h_137 sz) (cwV 0 C.2.2.2.2 (lw_V q1609 q1611 qs87 q129 q1612) rfl rfl rfl hdX4_passes ⟨Nat.le_of_ble_eq_true rfl, Nat.le_of_ble_eq_true rfl⟩) rfl hl.1 rfl (Nat.le_of_ble_eq_true rfl) dX4_mornings_137 (fun H locs hT => ?_)
            refine lv_pop hx hb dX4_mornings_140 rfl ?_
            obtain ⟨x9_141, ex⟩ : ∃ y : Int32, y = (x9 + (1 : Int32)) := ⟨_, rfl⟩
            have hf := lett_e ex hf
            refine lv_iinc (v := x9_141) (lv' := [(9, .int x9_141), (0, .ref (a 42)), (1, .int x1), (2, .int x2), (3, .int x3), (4, .int x4), (5, .int x5), (6, .int x6), (7, .int x7), (8, .int x8)]) hx hb dX4_mornings_141 hl (k := 9) rfl (by rw [ex]; rfl) (by decide) rfl (fun ls hl => ?_)
            refine lv_goto (tgt := 96) hx hb dX4_mornings_144 (by decide) ?_
            exact ih w_137.2 x1 x2 x3 x4 x5 x6 x7 x8 x9_141 _ _ _ hT (lv_sub hl [1, 2, 3, 4, 5, 6, 7, 8, 9, 0] rfl) hf
          intro t x1 x2 x3 x4 x5 x6 x7 x8 x9 H locs ls hT hl hf
          replace hf : fX4_mornings_B96 N K (fX4_mornings_L96 N K n) t x1 x2 x3 x4 x5 x6 x7 x8 x9 = some w := hf
          unfold fX4_mornings_B96 at hf
          refine lv_iload hx hb dX4_mornings_96 (lv_at hl 9 rfl) ?_
          refine lv_iload_n hx hb dX4_mornings_98 rfl (lv_at hl 2 rfl) ?_
          refine lv_icmp_ge (tgt := 147) hx hb dX4_mornings_99 (by decide) (fun hc => ?_) (fun hc => ?_)
          · have hf := ite_t hc hf
            exact hE t x1 x2 x3 x4 x5 x6 x7 x8 _ _ _ hT (lv_sub hl [0, 1, 2, 3, 4, 5, 6, 7, 8] rfl) hf
          · have hf := ite_f hc hf
            refine lv_aload_n hx hb dX4_mornings_102 rfl (lv_at hl 0 rfl) ?_
            refine lv_bipush (v := 100) hx hb dX4_mornings_103 (by decide) ?_
            obtain ⟨w_105, h_105, hf⟩ := bind_e hf
            refine t_calli (vs := [.int (100 : Int32)]) (rest := []) C hV hT (fun sz => mX4_draw l D d a N t (100 : Int32) _ h_105 sz) (cwV 1 C.2.2.2.2 (lw_V q1851 q1853 qs118 q129 q1854) rfl rfl rfl hdX4_draw ⟨Nat.le_of_ble_eq_true rfl, Nat.le_of_ble_eq_true rfl⟩) rfl hl.1 rfl (Nat.le_of_ble_eq_true rfl) dX4_mornings_105 (fun H locs hT => ?_)
            refine lv_iload_n hx hb dX4_mornings_108 rfl (lv_at hl 3 rfl) ?_
            refine lv_icmp_ge (tgt := 136) hx hb dX4_mornings_109 (by decide) (fun hc => ?_) (fun hc => ?_)
            · have hf := ite_t hc hf
              exact hJ136 w_105.2 x1 x2 x3 x4 x5 x6 x7 x8 x9 _ _ _ hT hl hf
            · have hf := ite_f hc hf
              refine lv_aload_n hx hb dX4_mornings_112 rfl (lv_at hl 0 rfl) ?_
              refine t_get C hV hT 20 (by decide) q1267 rfl dX4_mornings_113 ?_
              refine lv_iconst (v := 3) hx hb dX4_mornings_116 (by decide) ?_
              refine g_ild C hV hT 10 3 rfl (vin_of (by decide)) (by decide) dX4_mornings_117 ?_
              refine lv_if_le (tgt := 136) hx hb dX4_mornings_118 (by decide) (fun hc => ?_) (fun hc => ?_)
              · have hf := ite_t hc hf
                exact hJ136 w_105.2 x1 x2 x3 x4 x5 x6 x7 x8 x9 _ _ _ hT hl hf
              · have hf := ite_f hc hf
                refine lv_aload_n hx hb dX4_mornings_121 rfl (lv_at hl 0 rfl) ?_
                refine lv_aload_n hx hb dX4_mornings_122 rfl (lv_at hl 0 rfl) ?_
                refine lv_aload_n hx hb dX4_mornings_123 rfl (lv_at hl 0 rfl) ?_
                refine t_get C hV hT 20 (by decide) q1267 rfl dX4_mornings_124 ?_
                refine lv_iconst (v := 3) hx hb dX4_mornings_127 (by decide) ?_
                refine g_ild C hV hT 10 3 rfl (vin_of (by decide)) (by decide) dX4_mornings_128 ?_
                obtain ⟨w_129, h_129, hf⟩ := bind_e hf
                refine t_calli (vs := [.int (w_105.2.2.1 20 3)]) (rest := [.ref (a 42)]) C hV hT (fun sz => mX4_draw l D d a N w_105.2 (w_105.2.2.1 20 3) _ h_129 sz) (cwV 1 C.2.2.2.2 (lw_V q1851 q1853 qs118 q129 q1854) rfl rfl rfl hdX4_draw ⟨Nat.le_of_ble_eq_true rfl, Nat.le_of_ble_eq_true rfl⟩) rfl hl.1 rfl (Nat.le_of_ble_eq_true rfl) dX4_mornings_129 (fun H locs hT => ?_)
                refine lv_iconst (v := 3) hx hb dX4_mornings_132 (by decide) ?_
                obtain ⟨w_133, h_133, hf⟩ := bind_e hf
                refine t_callv (vs := [.int w_129.1, .int (3 : Int32)]) (rest := []) C hV hT (fun sz => mX4_comes l D d a N w_129.2 w_129.1 (3 : Int32) _ h_133 sz) (cwV 2 C.2.2.2.2 (lw_V q1613 q1615 qs88 q129 q1616) rfl rfl rfl hdX4_comes ⟨Nat.le_of_ble_eq_true rfl, Nat.le_of_ble_eq_true rfl⟩) rfl hl.1 rfl (Nat.le_of_ble_eq_true rfl) dX4_mornings_133 (fun H locs hT => ?_)
                exact hJ136 w_133 x1 x2 x3 x4 x5 x6 x7 x8 x9 _ _ _ hT hl hf
      intro t x1 x2 x3 x4 x5 x6 x7 x8 H locs ls hT hl hf
      replace hf : fX4_mornings_B87 N K (fX4_mornings_L87 N K n) t x1 x2 x3 x4 x5 x6 x7 x8 = some w := hf
      unfold fX4_mornings_B87 at hf
      refine lv_iload hx hb dX4_mornings_87 (lv_at hl 8 rfl) ?_
      refine lv_iload_n hx hb dX4_mornings_89 rfl (lv_at hl 1 rfl) ?_
      refine lv_icmp_ge (tgt := 190) hx hb dX4_mornings_90 (by decide) (fun hc => ?_) (fun hc => ?_)
      · have hf := ite_t hc hf
        exact hE t x4 x5 x6 _ _ _ hT (lv_sub hl [4, 5, 6] rfl) hf
      · have hf := ite_f hc hf
        refine lv_iconst (v := 0) hx hb dX4_mornings_93 (by decide) ?_
        refine lv_istore (lv' := [(9, .int (0 : Int32)), (0, .ref (a 42)), (1, .int x1), (2, .int x2), (3, .int x3), (4, .int x4), (5, .int x5), (6, .int x6), (7, .int x7), (8, .int x8)]) hx hb dX4_mornings_94 hl (by decide) rfl (fun ls hl => ?_)
        refine hL96 _ (fun t x1 x2 x3 x4 x5 x6 x7 x8 H locs ls hT hl hf => ?_) N t x1 x2 x3 x4 x5 x6 x7 x8 (0 : Int32) _ _ _ hT (lv_sub hl [1, 2, 3, 4, 5, 6, 7, 8, 9, 0] rfl) hf
        refine lv_iload hx hb dX4_mornings_147 (lv_at hl 5 rfl) ?_
        refine lv_aload_n hx hb dX4_mornings_149 rfl (lv_at hl 0 rfl) ?_
        refine lv_iconst (v := 2) hx hb dX4_mornings_150 (by decide) ?_
        obtain ⟨w_151, h_151, hf⟩ := bind_e hf
        refine t_calli (vs := [.int (2 : Int32)]) (rest := [.int x5]) C hV hT (fun sz => mX4_sumOver l D d a N t (2 : Int32) _ h_151 sz) (cwV 1 C.2.2.2.2 (lw_V q1642 q1644 qs93 q129 q1645) rfl rfl rfl hdX4_sumOver ⟨Nat.le_of_ble_eq_true rfl, Nat.le_of_ble_eq_true rfl⟩) rfl hl.1 rfl (Nat.le_of_ble_eq_true rfl) dX4_mornings_151 (fun H locs hT => ?_)
        refine lv_iload hx hb dX4_mornings_154 (lv_at hl 7 rfl) ?_
        refine lv_isub hx hb dX4_mornings_156 ?_
        refine lv_iadd hx hb dX4_mornings_157 ?_
        refine lv_topi (fun x5_158 ex => ?_)
        have hf := lett_e ex hf
        refine lv_istore (lv' := [(5, .int x5_158), (0, .ref (a 42)), (1, .int x1), (2, .int x2), (3, .int x3), (4, .int x4), (6, .int x6), (7, .int x7), (8, .int x8)]) hx hb dX4_mornings_158 hl (by decide) rfl (fun ls hl => ?_)
        refine lv_iload hx hb dX4_mornings_160 (lv_at hl 6 rfl) ?_
        refine lv_aload_n hx hb dX4_mornings_162 rfl (lv_at hl 1 rfl) ?_
        refine t_get C hV hT 20 (by decide) q1267 rfl dX4_mornings_163 ?_
        refine lv_bipush (v := 53) hx hb dX4_mornings_166 (by decide) ?_
        refine g_ild C hV hT 10 53 rfl (vin_of (by decide)) (by decide) dX4_mornings_168 ?_
        refine lv_aload_n hx hb dX4_mornings_169 rfl (lv_at hl 1 rfl) ?_
        refine t_get C hV hT 28 (by decide) q1275 rfl dX4_mornings_170 ?_
        refine lv_bipush (v := 43) hx hb dX4_mornings_173 (by decide) ?_
        refine g_ild C hV hT 13 43 rfl (vin_of (by decide)) (by decide) dX4_mornings_175 ?_
        refine lv_isub hx hb dX4_mornings_176 ?_
        refine lv_iadd hx hb dX4_mornings_177 ?_
        refine lv_topi (fun x6_178 ex => ?_)
        have hf := lett_e ex hf
        refine lv_istore (lv' := [(6, .int x6_178), (5, .int x5_158), (0, .ref (a 42)), (1, .int x1), (2, .int x2), (3, .int x3), (4, .int x4), (7, .int x7), (8, .int x8)]) hx hb dX4_mornings_178 hl (by decide) rfl (fun ls hl => ?_)
        refine lv_aload_n hx hb dX4_mornings_180 rfl (lv_at hl 2 rfl) ?_
        obtain ⟨w_181, h_181, hf⟩ := bind_e hf
        refine t_callv (vs := []) (rest := []) C hV hT (fun sz => mX4_laysBack l D d a N w_151.2  _ h_181 sz) (cwV 0 C.2.2.2.2 (lw_V q1709 q1711 qs102 q129 q1712) rfl rfl rfl hdX4_laysBack ⟨Nat.le_of_ble_eq_true rfl, Nat.le_of_ble_eq_true rfl⟩) rfl hl.1 rfl (Nat.le_of_ble_eq_true rfl) dX4_mornings_181 (fun H locs hT => ?_)
        obtain ⟨x8_184, ex⟩ : ∃ y : Int32, y = (x8 + (1 : Int32)) := ⟨_, rfl⟩
        have hf := lett_e ex hf
        refine lv_iinc (v := x8_184) (lv' := [(8, .int x8_184), (6, .int x6_178), (5, .int x5_158), (0, .ref (a 42)), (1, .int x1), (2, .int x2), (3, .int x3), (4, .int x4), (7, .int x7)]) hx hb dX4_mornings_184 hl (k := 8) rfl (by rw [ex]; rfl) (by decide) rfl (fun ls hl => ?_)
        refine lv_goto (tgt := 87) hx hb dX4_mornings_187 (by decide) ?_
        exact ih w_181 x1 x2 x3 x4 x5_158 x6_178 x7 x8_184 _ _ _ hT (lv_sub hl [3, 4, 5, 6, 7, 2, 1, 8, 0] rfl) hf
  refine W.eq (by rw [hargs]) (t_in (vs := [.ref (a 42), .int x1, .int x2, .int x3, .int x4]) (n := 10) (Nat.le_of_ble_eq_true rfl) (fun ls hl => ?_))
  have hl : lv_has ls 10 [(0, .ref (a 42)), (1, .int x1), (2, .int x2), (3, .int x3), (4, .int x4)] := hl
  unfold fX4_mornings at hf
  skip
  refine lv_aload_n hx hb dX4_mornings_0 rfl (lv_at hl 0 rfl) ?_
  obtain ⟨w_1, h_1, hf⟩ := bind_e hf
  refine t_calli (vs := []) (rest := []) C hV hT (fun sz => mX4_isJunction l D d a N t  _ h_1 sz) (cwV 0 C.2.2.2.2 (lw_V q1593 q1595 qs85 q129 q1596) rfl rfl rfl hdX4_isJunction ⟨Nat.le_of_ble_eq_true rfl, Nat.le_of_ble_eq_true rfl⟩) rfl hl.1 rfl (Nat.le_of_ble_eq_true rfl) dX4_mornings_1 (fun H locs hT => ?_)
  refine lv_if_eq (tgt := 54) hx hb dX4_mornings_4 (by decide) (fun hc => ?_) (fun hc => ?_)
  · have hf := ite_t hc hf
    exact hJ54 w_1.2 _ _ _ hT (lv_sub hl [] rfl) hf
  · have hf := ite_f hc hf
    refine lv_iload_n hx hb dX4_mornings_7 rfl (lv_at hl 1 rfl) ?_
    refine lv_i2l hx hb dX4_mornings_8 rfl ?_
    refine lv_lconst (v := 1) hx hb dX4_mornings_9 (by decide) ?_
    refine g_ldc2 (v := 10) C q1849 dX4_mornings_10 ?_
    obtain ⟨w_13, h_13, hf⟩ := bind_e hf
    refine s_calli (vs := [.long (x1).toInt64, .long (1 : Int64), .long (10 : Int64)]) (rest := []) C (fun q h => Or.inr h) hT (fun sz => mX4_in l N (x1).toInt64 (1 : Int64) (10 : Int64) _ h_13 sz) (va_cwS 3 C.2.2.2.2 (lw_S q1448 q1449 q129 q1450) rfl rfl rfl hdX4_in ⟨Nat.le_of_ble_eq_true rfl, Nat.le_of_ble_eq_true rfl⟩) rfl hl.1 rfl (Nat.le_of_ble_eq_true rfl) dX4_mornings_13 ⟨Nat.zero_le _, Nat.zero_le _⟩ (fun H locs hT => ?_)
    refine lv_if_eq (tgt := 54) hx hb dX4_mornings_16 (by decide) (fun hc => ?_) (fun hc => ?_)
    · have hf := ite_t hc hf
      exact hJ54 w_1.2 _ _ _ hT (lv_sub hl [] rfl) hf
    · have hf := ite_f hc hf
      refine lv_iload_n hx hb dX4_mornings_19 rfl (lv_at hl 2 rfl) ?_
      refine lv_i2l hx hb dX4_mornings_20 rfl ?_
      refine lv_lconst (v := 1) hx hb dX4_mornings_21 (by decide) ?_
      refine g_ldc2 (v := 60) C q1766 dX4_mornings_22 ?_
      obtain ⟨w_25, h_25, hf⟩ := bind_e hf
      refine s_calli (vs := [.long (x2).toInt64, .long (1 : Int64), .long (60 : Int64)]) (rest := []) C (fun q h => Or.inr h) hT (fun sz => mX4_in l N (x2).toInt64 (1 : Int64) (60 : Int64) _ h_25 sz) (va_cwS 3 C.2.2.2.2 (lw_S q1448 q1449 q129 q1450) rfl rfl rfl hdX4_in ⟨Nat.le_of_ble_eq_true rfl, Nat.le_of_ble_eq_true rfl⟩) rfl hl.1 rfl (Nat.le_of_ble_eq_true rfl) dX4_mornings_25 ⟨Nat.zero_le _, Nat.zero_le _⟩ (fun H locs hT => ?_)
      refine lv_if_eq (tgt := 54) hx hb dX4_mornings_28 (by decide) (fun hc => ?_) (fun hc => ?_)
      · have hf := ite_t hc hf
        exact hJ54 w_1.2 _ _ _ hT (lv_sub hl [] rfl) hf
      · have hf := ite_f hc hf
        refine lv_iload_n hx hb dX4_mornings_31 rfl (lv_at hl 3 rfl) ?_
        refine lv_i2l hx hb dX4_mornings_32 rfl ?_
        refine lv_lconst (v := 0) hx hb dX4_mornings_33 (by decide) ?_
        refine g_ldc2 (v := 100) C q1699 dX4_mornings_34 ?_
        obtain ⟨w_37, h_37, hf⟩ := bind_e hf
        refine s_calli (vs := [.long (x3).toInt64, .long (0 : Int64), .long (100 : Int64)]) (rest := []) C (fun q h => Or.inr h) hT (fun sz => mX4_in l N (x3).toInt64 (0 : Int64) (100 : Int64) _ h_37 sz) (va_cwS 3 C.2.2.2.2 (lw_S q1448 q1449 q129 q1450) rfl rfl rfl hdX4_in ⟨Nat.le_of_ble_eq_true rfl, Nat.le_of_ble_eq_true rfl⟩) rfl hl.1 rfl (Nat.le_of_ble_eq_true rfl) dX4_mornings_37 ⟨Nat.zero_le _, Nat.zero_le _⟩ (fun H locs hT => ?_)
        refine lv_if_eq (tgt := 54) hx hb dX4_mornings_40 (by decide) (fun hc => ?_) (fun hc => ?_)
        · have hf := ite_t hc hf
          exact hJ54 w_1.2 _ _ _ hT (lv_sub hl [] rfl) hf
        · have hf := ite_f hc hf
          refine lv_iload hx hb dX4_mornings_43 (lv_at hl 4 rfl) ?_
          refine lv_i2l hx hb dX4_mornings_45 rfl ?_
          refine lv_lconst (v := 0) hx hb dX4_mornings_46 (by decide) ?_
          refine lv_lconst (v := 1) hx hb dX4_mornings_47 (by decide) ?_
          obtain ⟨w_48, h_48, hf⟩ := bind_e hf
          refine s_calli (vs := [.long (x4).toInt64, .long (0 : Int64), .long (1 : Int64)]) (rest := []) C (fun q h => Or.inr h) hT (fun sz => mX4_in l N (x4).toInt64 (0 : Int64) (1 : Int64) _ h_48 sz) (va_cwS 3 C.2.2.2.2 (lw_S q1448 q1449 q129 q1450) rfl rfl rfl hdX4_in ⟨Nat.le_of_ble_eq_true rfl, Nat.le_of_ble_eq_true rfl⟩) rfl hl.1 rfl (Nat.le_of_ble_eq_true rfl) dX4_mornings_48 ⟨Nat.zero_le _, Nat.zero_le _⟩ (fun H locs hT => ?_)
          refine lv_if_ne (tgt := 58) hx hb dX4_mornings_51 (by decide) (fun hc => ?_) (fun hc => ?_)
          · have hf := ite_t hc hf
            refine lv_aload_n hx hb dX4_mornings_58 rfl (lv_at hl 0 rfl) ?_
            refine lv_aload_n hx hb dX4_mornings_59 rfl (lv_at hl 0 rfl) ?_
            refine t_get C hV hT 22 (by decide) q1269 rfl dX4_mornings_60 ?_
            refine lv_i2l hx hb dX4_mornings_63 rfl ?_
            refine t_putl C hV hT 37 (by decide) q1284 (tset_37 a w_1.2 _) rfl rfl dX4_mornings_64 (fun t_64 H locs et hT => ?_)
            have hf := lett_e et hf
            refine lv_iconst (v := 0) hx hb dX4_mornings_67 (by decide) ?_
            refine lv_istore (lv' := [(5, .int (0 : Int32)), (0, .ref (a 42)), (1, .int x1), (2, .int x2), (3, .int x3), (4, .int x4)]) hx hb dX4_mornings_68 hl (by decide) rfl (fun ls hl => ?_)
            refine lv_iconst (v := 0) hx hb dX4_mornings_70 (by decide) ?_
            refine lv_istore (lv' := [(6, .int (0 : Int32)), (5, .int (0 : Int32)), (0, .ref (a 42)), (1, .int x1), (2, .int x2), (3, .int x3), (4, .int x4)]) hx hb dX4_mornings_71 hl (by decide) rfl (fun ls hl => ?_)
            refine lv_aload_n hx hb dX4_mornings_73 rfl (lv_at hl 2 rfl) ?_
            refine lv_iconst (v := 2) hx hb dX4_mornings_74 (by decide) ?_
            obtain ⟨w_75, h_75, hf⟩ := bind_e hf
            refine t_calli (vs := [.int (2 : Int32)]) (rest := []) C hV hT (fun sz => mX4_sumOver l D d a N t_64 (2 : Int32) _ h_75 sz) (cwV 1 C.2.2.2.2 (lw_V q1642 q1644 qs93 q129 q1645) rfl rfl rfl hdX4_sumOver ⟨Nat.le_of_ble_eq_true rfl, Nat.le_of_ble_eq_true rfl⟩) rfl hl.1 rfl (Nat.le_of_ble_eq_true rfl) dX4_mornings_75 (fun H locs hT => ?_)
            refine lv_istore (lv' := [(7, .int w_75.1), (6, .int (0 : Int32)), (5, .int (0 : Int32)), (0, .ref (a 42)), (1, .int x1), (2, .int x2), (3, .int x3), (4, .int x4)]) hx hb dX4_mornings_78 hl (by decide) rfl (fun ls hl => ?_)
            refine lv_aload_n hx hb dX4_mornings_80 rfl (lv_at hl 3 rfl) ?_
            obtain ⟨w_81, h_81, hf⟩ := bind_e hf
            refine t_callv (vs := []) (rest := []) C hV hT (fun sz => mX4_keeps l D d a N w_75.2  _ h_81 sz) (cwV 0 C.2.2.2.2 (lw_V q1701 q1703 qs100 q129 q1704) rfl rfl rfl hdX4_keeps ⟨Nat.le_of_ble_eq_true rfl, Nat.le_of_ble_eq_true rfl⟩) rfl hl.1 rfl (Nat.le_of_ble_eq_true rfl) dX4_mornings_81 (fun H locs hT => ?_)
            refine lv_iconst (v := 0) hx hb dX4_mornings_84 (by decide) ?_
            refine lv_istore (lv' := [(8, .int (0 : Int32)), (7, .int w_75.1), (6, .int (0 : Int32)), (5, .int (0 : Int32)), (0, .ref (a 42)), (1, .int x1), (2, .int x2), (3, .int x3), (4, .int x4)]) hx hb dX4_mornings_85 hl (by decide) rfl (fun ls hl => ?_)
            refine hL87 _ (fun t x4 x5 x6 H locs ls hT hl hf => ?_) N w_81 x1 x2 x3 x4 (0 : Int32) (0 : Int32) w_75.1 (0 : Int32) _ _ _ hT (lv_sub hl [4, 5, 6, 7, 8, 3, 2, 1, 0] rfl) hf
            refine lv_iload hx hb dX4_mornings_190 (lv_at hl 0 rfl) ?_
            refine lv_if_ne (tgt := 200) hx hb dX4_mornings_192 (by decide) (fun hc => ?_) (fun hc => ?_)
            · have hf := ite_t hc hf
              refine lv_iload hx hb dX4_mornings_200 (lv_at hl 2 rfl) ?_
              exact t_iret C hT hf hr hlocks dX4_mornings_202
            · have hf := ite_f (fun q => q hc) hf
              refine lv_iload hx hb dX4_mornings_195 (lv_at hl 1 rfl) ?_
              refine lv_goto (tgt := 202) hx hb dX4_mornings_197 (by decide) ?_
              exact t_iret C hT hf hr hlocks dX4_mornings_202
          · have hf := ite_f (fun q => q hc) hf
            exact hJ54 w_1.2 _ _ _ hT (lv_sub hl [] rfl) hf
def fX4_count (N : Nat) (t : TS) (x1 : Int32) : Option (Int32 × TS) :=
  (if x1 = (0 : Int32) then (ix (x1 + (1 : Int32)) 121 (some ((t.2.1 20 ((x1 + (1 : Int32))).toNatClampNeg), t))) else (if x1 = (1 : Int32) then (ix (x1 + (1 : Int32)) 121 (some ((t.2.1 20 ((x1 + (1 : Int32))).toNatClampNeg), t))) else (if x1 = (2 : Int32) then (ix (x1 + (1 : Int32)) 121 (some ((t.2.1 20 ((x1 + (1 : Int32))).toNatClampNeg), t))) else (if x1 = (3 : Int32) then (some ((t.1 2), t)) else (if x1 = (4 : Int32) then (some ((t.1 21), t)) else (if x1 = (5 : Int32) then (some ((t.2.1 20 10), t)) else (if x1 = (6 : Int32) then ((fX4_beatOfBar N t ).bind fun w_100 => (some (w_100.1, w_100.2))) else (if x1 = (7 : Int32) then ((fX4_sumOver N t (0 : Int32)).bind fun w_106 => (some (w_106.1, w_106.2))) else (if x1 = (8 : Int32) then ((fX4_sumOver N t (2 : Int32)).bind fun w_112 => (some (w_112.1, w_112.2))) else (if x1 = (9 : Int32) then ((fX4_sumOver N t (3 : Int32)).bind fun w_118 => (some (w_118.1, w_118.2))) else (if x1 = (10 : Int32) then (some ((t.2.1 20 120), t)) else (if x1 = (11 : Int32) then (some ((t.1 27), t)) else (if x1 = (12 : Int32) then (some ((t.1 22), t)) else (if x1 = (13 : Int32) then (some ((t.1 1), t)) else (some ((-1 : Int32), t))))))))))))))))
theorem hdX4_count : yX4_count.cls = RX4 ∧ yX4_count.cls ≠ "java/lang/invoke/MethodHandle" ∧ yX4_count.cls ≠ "java/lang/invoke/VarHandle" ∧ (parseMethodDescriptor yX4_count.desc).map (fun d => d.parameters.length) = some 1 := by decide +kernel
set_option maxHeartbeats 4000000 in
theorem mX4_count (l : Launch) (D : va_G) (d : Nat → ClassId) (a : Nat → Nat) (N : Nat) (t : TS) (x1 : Int32) (w : Int32 × TS) (hf : fX4_count N t x1 = some w) (sz : Nat) : Met l yX4_count (ws_ yX4_count cX4_count 2 (some .int)) (rm_ 2 40) (PcT D d a [.int x1] t sz) (QiT D d a w.1 w.2 sz) 0 0 (AT a sz) := by
  refine Met.ofW (cc := cX4_count) (maxL := 2) (ret := (some .int)) plX4 rfl ?_
  intro p e s m args below meth c s₁ B hml hv
  obtain ⟨C, hV, hT, hr, hlocks, hargs, rfl⟩ := t_enter B hml rfl hv
  have hx := C.1
  have hb := C.2.1
  show W p l e (rm_ 2 40) s m args below meth c s.heap [] 0 0 (MQ below (QiT D d a w.1 w.2 s.heap.size) args s 0 0 (AT a s.heap.size)) _
  refine W.eq (by rw [hargs]) (t_in (vs := [.ref (a 42), .int x1]) (n := 2) (Nat.le_of_ble_eq_true rfl) (fun ls hl => ?_))
  have hl : lv_has ls 2 [(0, .ref (a 42)), (1, .int x1)] := hl
  unfold fX4_count at hf
  skip
  refine lv_iload_n hx hb dX4_count_0 rfl (lv_at hl 1 rfl) ?_
  by_cases hc0 : x1 = (0 : Int32)
  · have hf := ite_t hc0 hf
    refine lv_tableIn (tgt := 72) hx hb dX4_count_1 (by rw [hc0]; decide) (by rw [hc0]; decide) (by rw [hc0]; rfl) (by decide) ?_
    refine lv_aload_n hx hb dX4_count_72 rfl (lv_at hl 0 rfl) ?_
    refine t_get C hV hT 20 (by decide) q1267 rfl dX4_count_73 ?_
    refine lv_iload_n hx hb dX4_count_76 rfl (lv_at hl 1 rfl) ?_
    refine lv_iconst (v := 1) hx hb dX4_count_77 (by decide) ?_
    refine lv_iadd hx hb dX4_count_78 ?_
    obtain ⟨hi, hf⟩ := ix_e hf
    refine g_ild C hV hT 10 _ rfl hi rfl dX4_count_79 ?_
    exact t_iret C hT hf hr hlocks dX4_count_80
  · have hf := ite_f hc0 hf
    by_cases hc1 : x1 = (1 : Int32)
    · have hf := ite_t hc1 hf
      refine lv_tableIn (tgt := 72) hx hb dX4_count_1 (by rw [hc1]; decide) (by rw [hc1]; decide) (by rw [hc1]; rfl) (by decide) ?_
      refine lv_aload_n hx hb dX4_count_72 rfl (lv_at hl 0 rfl) ?_
      refine t_get C hV hT 20 (by decide) q1267 rfl dX4_count_73 ?_
      refine lv_iload_n hx hb dX4_count_76 rfl (lv_at hl 1 rfl) ?_
      refine lv_iconst (v := 1) hx hb dX4_count_77 (by decide) ?_
      refine lv_iadd hx hb dX4_count_78 ?_
      obtain ⟨hi, hf⟩ := ix_e hf
      refine g_ild C hV hT 10 _ rfl hi rfl dX4_count_79 ?_
      exact t_iret C hT hf hr hlocks dX4_count_80
    · have hf := ite_f hc1 hf
      by_cases hc2 : x1 = (2 : Int32)
      · have hf := ite_t hc2 hf
        refine lv_tableIn (tgt := 72) hx hb dX4_count_1 (by rw [hc2]; decide) (by rw [hc2]; decide) (by rw [hc2]; rfl) (by decide) ?_
        refine lv_aload_n hx hb dX4_count_72 rfl (lv_at hl 0 rfl) ?_
        refine t_get C hV hT 20 (by decide) q1267 rfl dX4_count_73 ?_
        refine lv_iload_n hx hb dX4_count_76 rfl (lv_at hl 1 rfl) ?_
        refine lv_iconst (v := 1) hx hb dX4_count_77 (by decide) ?_
        refine lv_iadd hx hb dX4_count_78 ?_
        obtain ⟨hi, hf⟩ := ix_e hf
        refine g_ild C hV hT 10 _ rfl hi rfl dX4_count_79 ?_
        exact t_iret C hT hf hr hlocks dX4_count_80
      · have hf := ite_f hc2 hf
        by_cases hc3 : x1 = (3 : Int32)
        · have hf := ite_t hc3 hf
          refine lv_tableIn (tgt := 81) hx hb dX4_count_1 (by rw [hc3]; decide) (by rw [hc3]; decide) (by rw [hc3]; rfl) (by decide) ?_
          refine lv_aload_n hx hb dX4_count_81 rfl (lv_at hl 0 rfl) ?_
          refine t_get C hV hT 2 (by decide) q1249 rfl dX4_count_82 ?_
          exact t_iret C hT hf hr hlocks dX4_count_85
        · have hf := ite_f hc3 hf
          by_cases hc4 : x1 = (4 : Int32)
          · have hf := ite_t hc4 hf
            refine lv_tableIn (tgt := 86) hx hb dX4_count_1 (by rw [hc4]; decide) (by rw [hc4]; decide) (by rw [hc4]; rfl) (by decide) ?_
            refine lv_aload_n hx hb dX4_count_86 rfl (lv_at hl 0 rfl) ?_
            refine t_get C hV hT 21 (by decide) q1268 rfl dX4_count_87 ?_
            exact t_iret C hT hf hr hlocks dX4_count_90
          · have hf := ite_f hc4 hf
            by_cases hc5 : x1 = (5 : Int32)
            · have hf := ite_t hc5 hf
              refine lv_tableIn (tgt := 91) hx hb dX4_count_1 (by rw [hc5]; decide) (by rw [hc5]; decide) (by rw [hc5]; rfl) (by decide) ?_
              refine lv_aload_n hx hb dX4_count_91 rfl (lv_at hl 0 rfl) ?_
              refine t_get C hV hT 20 (by decide) q1267 rfl dX4_count_92 ?_
              refine lv_bipush (v := 10) hx hb dX4_count_95 (by decide) ?_
              refine g_ild C hV hT 10 10 rfl (vin_of (by decide)) (by decide) dX4_count_97 ?_
              exact t_iret C hT hf hr hlocks dX4_count_98
            · have hf := ite_f hc5 hf
              by_cases hc6 : x1 = (6 : Int32)
              · have hf := ite_t hc6 hf
                refine lv_tableIn (tgt := 99) hx hb dX4_count_1 (by rw [hc6]; decide) (by rw [hc6]; decide) (by rw [hc6]; rfl) (by decide) ?_
                refine lv_aload_n hx hb dX4_count_99 rfl (lv_at hl 0 rfl) ?_
                obtain ⟨w_100, h_100, hf⟩ := bind_e hf
                refine t_calli (vs := []) (rest := []) C hV hT (fun sz => mX4_beatOfBar l D d a N t  _ h_100 sz) (cwV 0 C.2.2.2.2 (lw_V q1625 q1627 qs91 q129 q1628) rfl rfl rfl hdX4_beatOfBar ⟨Nat.le_of_ble_eq_true rfl, Nat.le_of_ble_eq_true rfl⟩) rfl hl.1 rfl (Nat.le_of_ble_eq_true rfl) dX4_count_100 (fun H locs hT => ?_)
                exact t_iret C hT hf hr hlocks dX4_count_103
              · have hf := ite_f hc6 hf
                by_cases hc7 : x1 = (7 : Int32)
                · have hf := ite_t hc7 hf
                  refine lv_tableIn (tgt := 104) hx hb dX4_count_1 (by rw [hc7]; decide) (by rw [hc7]; decide) (by rw [hc7]; rfl) (by decide) ?_
                  refine lv_aload_n hx hb dX4_count_104 rfl (lv_at hl 0 rfl) ?_
                  refine lv_iconst (v := 0) hx hb dX4_count_105 (by decide) ?_
                  obtain ⟨w_106, h_106, hf⟩ := bind_e hf
                  refine t_calli (vs := [.int (0 : Int32)]) (rest := []) C hV hT (fun sz => mX4_sumOver l D d a N t (0 : Int32) _ h_106 sz) (cwV 1 C.2.2.2.2 (lw_V q1642 q1644 qs93 q129 q1645) rfl rfl rfl hdX4_sumOver ⟨Nat.le_of_ble_eq_true rfl, Nat.le_of_ble_eq_true rfl⟩) rfl hl.1 rfl (Nat.le_of_ble_eq_true rfl) dX4_count_106 (fun H locs hT => ?_)
                  exact t_iret C hT hf hr hlocks dX4_count_109
                · have hf := ite_f hc7 hf
                  by_cases hc8 : x1 = (8 : Int32)
                  · have hf := ite_t hc8 hf
                    refine lv_tableIn (tgt := 110) hx hb dX4_count_1 (by rw [hc8]; decide) (by rw [hc8]; decide) (by rw [hc8]; rfl) (by decide) ?_
                    refine lv_aload_n hx hb dX4_count_110 rfl (lv_at hl 0 rfl) ?_
                    refine lv_iconst (v := 2) hx hb dX4_count_111 (by decide) ?_
                    obtain ⟨w_112, h_112, hf⟩ := bind_e hf
                    refine t_calli (vs := [.int (2 : Int32)]) (rest := []) C hV hT (fun sz => mX4_sumOver l D d a N t (2 : Int32) _ h_112 sz) (cwV 1 C.2.2.2.2 (lw_V q1642 q1644 qs93 q129 q1645) rfl rfl rfl hdX4_sumOver ⟨Nat.le_of_ble_eq_true rfl, Nat.le_of_ble_eq_true rfl⟩) rfl hl.1 rfl (Nat.le_of_ble_eq_true rfl) dX4_count_112 (fun H locs hT => ?_)
                    exact t_iret C hT hf hr hlocks dX4_count_115
                  · have hf := ite_f hc8 hf
                    by_cases hc9 : x1 = (9 : Int32)
                    · have hf := ite_t hc9 hf
                      refine lv_tableIn (tgt := 116) hx hb dX4_count_1 (by rw [hc9]; decide) (by rw [hc9]; decide) (by rw [hc9]; rfl) (by decide) ?_
                      refine lv_aload_n hx hb dX4_count_116 rfl (lv_at hl 0 rfl) ?_
                      refine lv_iconst (v := 3) hx hb dX4_count_117 (by decide) ?_
                      obtain ⟨w_118, h_118, hf⟩ := bind_e hf
                      refine t_calli (vs := [.int (3 : Int32)]) (rest := []) C hV hT (fun sz => mX4_sumOver l D d a N t (3 : Int32) _ h_118 sz) (cwV 1 C.2.2.2.2 (lw_V q1642 q1644 qs93 q129 q1645) rfl rfl rfl hdX4_sumOver ⟨Nat.le_of_ble_eq_true rfl, Nat.le_of_ble_eq_true rfl⟩) rfl hl.1 rfl (Nat.le_of_ble_eq_true rfl) dX4_count_118 (fun H locs hT => ?_)
                      exact t_iret C hT hf hr hlocks dX4_count_121
                    · have hf := ite_f hc9 hf
                      by_cases hc10 : x1 = (10 : Int32)
                      · have hf := ite_t hc10 hf
                        refine lv_tableIn (tgt := 122) hx hb dX4_count_1 (by rw [hc10]; decide) (by rw [hc10]; decide) (by rw [hc10]; rfl) (by decide) ?_
                        refine lv_aload_n hx hb dX4_count_122 rfl (lv_at hl 0 rfl) ?_
                        refine t_get C hV hT 20 (by decide) q1267 rfl dX4_count_123 ?_
                        refine lv_bipush (v := 120) hx hb dX4_count_126 (by decide) ?_
                        refine g_ild C hV hT 10 120 rfl (vin_of (by decide)) (by decide) dX4_count_128 ?_
                        exact t_iret C hT hf hr hlocks dX4_count_129
                      · have hf := ite_f hc10 hf
                        by_cases hc11 : x1 = (11 : Int32)
                        · have hf := ite_t hc11 hf
                          refine lv_tableIn (tgt := 130) hx hb dX4_count_1 (by rw [hc11]; decide) (by rw [hc11]; decide) (by rw [hc11]; rfl) (by decide) ?_
                          refine lv_aload_n hx hb dX4_count_130 rfl (lv_at hl 0 rfl) ?_
                          refine t_get C hV hT 27 (by decide) q1274 rfl dX4_count_131 ?_
                          exact t_iret C hT hf hr hlocks dX4_count_134
                        · have hf := ite_f hc11 hf
                          by_cases hc12 : x1 = (12 : Int32)
                          · have hf := ite_t hc12 hf
                            refine lv_tableIn (tgt := 135) hx hb dX4_count_1 (by rw [hc12]; decide) (by rw [hc12]; decide) (by rw [hc12]; rfl) (by decide) ?_
                            refine lv_aload_n hx hb dX4_count_135 rfl (lv_at hl 0 rfl) ?_
                            refine t_get C hV hT 22 (by decide) q1269 rfl dX4_count_136 ?_
                            exact t_iret C hT hf hr hlocks dX4_count_139
                          · have hf := ite_f hc12 hf
                            by_cases hc13 : x1 = (13 : Int32)
                            · have hf := ite_t hc13 hf
                              refine lv_tableIn (tgt := 140) hx hb dX4_count_1 (by rw [hc13]; decide) (by rw [hc13]; decide) (by rw [hc13]; rfl) (by decide) ?_
                              refine lv_aload_n hx hb dX4_count_140 rfl (lv_at hl 0 rfl) ?_
                              refine t_get C hV hT 1 (by decide) q1248 rfl dX4_count_141 ?_
                              exact t_iret C hT hf hr hlocks dX4_count_144
                            · have hf := ite_f hc13 hf
                              have hd0 := i32ne (n := 0) (by decide) hc0
                              have hd1 := i32ne (n := 1) (by decide) hc1
                              have hd2 := i32ne (n := 2) (by decide) hc2
                              have hd3 := i32ne (n := 3) (by decide) hc3
                              have hd4 := i32ne (n := 4) (by decide) hc4
                              have hd5 := i32ne (n := 5) (by decide) hc5
                              have hd6 := i32ne (n := 6) (by decide) hc6
                              have hd7 := i32ne (n := 7) (by decide) hc7
                              have hd8 := i32ne (n := 8) (by decide) hc8
                              have hd9 := i32ne (n := 9) (by decide) hc9
                              have hd10 := i32ne (n := 10) (by decide) hc10
                              have hd11 := i32ne (n := 11) (by decide) hc11
                              have hd12 := i32ne (n := 12) (by decide) hc12
                              have hd13 := i32ne (n := 13) (by decide) hc13
                              refine lv_tableOut (tgt := 145) hx hb dX4_count_1 (by omega) (by decide) ?_
                              refine lv_iconst (v := -1) hx hb dX4_count_145 (by decide) ?_
                              exact t_iret C hT hf hr hlocks dX4_count_146
def fX4_image_B43 (N : Nat) (K : TS → Option (Int32 × TS)) (kb : TS → Int32 → Int32 → Option (Int32 × TS)) (t : TS) (x1 : Int32) (x2 : Int32) : Option (Int32 × TS) :=
  (if (121 : Int32) ≤ x2 then (K t) else (ix x2 121 (ix (((121 : Int32) * x1) + x2) 484 (lett (tsA t 38 ((((121 : Int32) * x1) + x2)).toNatClampNeg (t.2.1 20 (x2).toNatClampNeg)) fun t_65 => (lett (x2 + (1 : Int32)) fun x2_66 => (kb t_65 x1 x2_66))))))
def fX4_image_L43 (N : Nat) (K : TS → Option (Int32 × TS)) : Nat → TS → Int32 → Int32 → Option (Int32 × TS)
  | 0 => fun _ _ _ => none
  | n + 1 => fun t x1 x2 => fX4_image_B43 N K (fX4_image_L43 N K n) t x1 x2
def fX4_image (N : Nat) (t : TS) (x1 : Int32) : Option (Int32 × TS) :=
  ((fX4_in N (x1).toInt64 (0 : Int64) (3 : Int64)).bind fun w_6 => (if ¬ w_6 = 0 then (ix x1 4 (lett (tsA t 41 (x1).toNatClampNeg (vp_nar .boolean (1 : Int32))) fun t_20 => (ix x1 4 (lett (tsA t_20 39 (x1).toNatClampNeg (t_20.1 21)) fun t_30 => (ix x1 4 (lett (tsA t_30 40 (x1).toNatClampNeg (t_30.1 22)) fun t_40 => (fX4_image_L43 N (fun t => (some ((t.2.1 20 10), t))) N t_40 x1 (0 : Int32)))))))) else (some ((-1 : Int32), t))))
theorem hdX4_image : yX4_image.cls = RX4 ∧ yX4_image.cls ≠ "java/lang/invoke/MethodHandle" ∧ yX4_image.cls ≠ "java/lang/invoke/VarHandle" ∧ (parseMethodDescriptor yX4_image.desc).map (fun d => d.parameters.length) = some 1 := by decide +kernel
set_option maxHeartbeats 4000000 in
theorem mX4_image (l : Launch) (D : va_G) (d : Nat → ClassId) (a : Nat → Nat) (N : Nat) (t : TS) (x1 : Int32) (w : Int32 × TS) (hf : fX4_image N t x1 = some w) (sz : Nat) : Met l yX4_image (ws_ yX4_image cX4_image 3 (some .int)) (rm_ 1 25) (PcT D d a [.int x1] t sz) (QiT D d a w.1 w.2 sz) 0 0 (AT a sz) := by
  refine Met.ofW (cc := cX4_image) (maxL := 3) (ret := (some .int)) plX4 rfl ?_
  intro p e s m args below meth c s₁ B hml hv
  obtain ⟨C, hV, hT, hr, hlocks, hargs, rfl⟩ := t_enter B hml rfl hv
  have hx := C.1
  have hb := C.2.1
  show W p l e (rm_ 1 25) s m args below meth c s.heap [] 0 0 (MQ below (QiT D d a w.1 w.2 s.heap.size) args s 0 0 (AT a s.heap.size)) _
  have hL43 : ∀ (K : TS → Option (Int32 × TS)), (∀ (t : TS) (H : Heap) (locs : List Loc) (ls : Array Slot), TH D (AT a s.heap.size) s.heap (wT d a t) H locs → lv_has ls 3 [(0, .ref (a 42))] → K t = some w → W p l e (rm_ 1 25) s m args below meth c H locs 0 0 (MQ below (QiT D d a w.1 w.2 s.heap.size) args s 0 0 (AT a s.heap.size)) (F0 m 72 ls [])) → ∀ (n : Nat) (t : TS) (x1 : Int32) (x2 : Int32) (H : Heap) (locs : List Loc) (ls : Array Slot), TH D (AT a s.heap.size) s.heap (wT d a t) H locs → lv_has ls 3 [(0, .ref (a 42)), (1, .int x1), (2, .int x2)] → fX4_image_L43 N K n t x1 x2 = some w → W p l e (rm_ 1 25) s m args below meth c H locs 0 0 (MQ below (QiT D d a w.1 w.2 s.heap.size) args s 0 0 (AT a s.heap.size)) (F0 m 43 ls []) := by
    intro K hE n
    induction n with
    | zero =>
      intro t x1 x2 H locs ls hT hl hf
      cases hf
    | succ n ih =>
      intro t x1 x2 H locs ls hT hl hf
      replace hf : fX4_image_B43 N K (fX4_image_L43 N K n) t x1 x2 = some w := hf
      unfold fX4_image_B43 at hf
      refine lv_iload_n hx hb dX4_image_43 rfl (lv_at hl 2 rfl) ?_
      refine lv_bipush (v := 121) hx hb dX4_image_44 (by decide) ?_
      refine lv_icmp_ge (tgt := 72) hx hb dX4_image_46 (by decide) (fun hc => ?_) (fun hc => ?_)
      · have hf := ite_t hc hf
        exact hE t _ _ _ hT (lv_sub hl [0] rfl) hf
      · have hf := ite_f hc hf
        refine lv_aload_n hx hb dX4_image_49 rfl (lv_at hl 0 rfl) ?_
        refine t_get C hV hT 38 (by decide) q1285 rfl dX4_image_50 ?_
        refine lv_bipush (v := 121) hx hb dX4_image_53 (by decide) ?_
        refine lv_iload_n hx hb dX4_image_55 rfl (lv_at hl 1 rfl) ?_
        refine lv_imul hx hb dX4_image_56 ?_
        refine lv_iload_n hx hb dX4_image_57 rfl (lv_at hl 2 rfl) ?_
        refine lv_iadd hx hb dX4_image_58 ?_
        refine lv_aload_n hx hb dX4_image_59 rfl (lv_at hl 0 rfl) ?_
        refine t_get C hV hT 20 (by decide) q1267 rfl dX4_image_60 ?_
        refine lv_iload_n hx hb dX4_image_63 rfl (lv_at hl 2 rfl) ?_
        obtain ⟨hi, hf⟩ := ix_e hf
        refine g_ild C hV hT 10 _ rfl hi rfl dX4_image_64 ?_
        obtain ⟨hi, hf⟩ := ix_e hf
        refine t_ist C hV hT 20 _ rfl hi rfl (tast_38 d a t _ _) dX4_image_65 (fun t_65 H locs et hT => ?_)
        have hf := lett_e et hf
        obtain ⟨x2_66, ex⟩ : ∃ y : Int32, y = (x2 + (1 : Int32)) := ⟨_, rfl⟩
        have hf := lett_e ex hf
        refine lv_iinc (v := x2_66) (lv' := [(2, .int x2_66), (0, .ref (a 42)), (1, .int x1)]) hx hb dX4_image_66 hl (k := 2) rfl (by rw [ex]; rfl) (by decide) rfl (fun ls hl => ?_)
        refine lv_goto (tgt := 43) hx hb dX4_image_69 (by decide) ?_
        exact ih t_65 x1 x2_66 _ _ _ hT (lv_sub hl [1, 2, 0] rfl) hf
  refine W.eq (by rw [hargs]) (t_in (vs := [.ref (a 42), .int x1]) (n := 3) (Nat.le_of_ble_eq_true rfl) (fun ls hl => ?_))
  have hl : lv_has ls 3 [(0, .ref (a 42)), (1, .int x1)] := hl
  unfold fX4_image at hf
  skip
  refine lv_iload_n hx hb dX4_image_0 rfl (lv_at hl 1 rfl) ?_
  refine lv_i2l hx hb dX4_image_1 rfl ?_
  refine lv_lconst (v := 0) hx hb dX4_image_2 (by decide) ?_
  refine g_ldc2 (v := 3) C q1752 dX4_image_3 ?_
  obtain ⟨w_6, h_6, hf⟩ := bind_e hf
  refine s_calli (vs := [.long (x1).toInt64, .long (0 : Int64), .long (3 : Int64)]) (rest := []) C (fun q h => Or.inr h) hT (fun sz => mX4_in l N (x1).toInt64 (0 : Int64) (3 : Int64) _ h_6 sz) (va_cwS 3 C.2.2.2.2 (lw_S q1448 q1449 q129 q1450) rfl rfl rfl hdX4_in ⟨Nat.le_of_ble_eq_true rfl, Nat.le_of_ble_eq_true rfl⟩) rfl hl.1 rfl (Nat.le_of_ble_eq_true rfl) dX4_image_6 ⟨Nat.zero_le _, Nat.zero_le _⟩ (fun H locs hT => ?_)
  refine lv_if_ne (tgt := 14) hx hb dX4_image_9 (by decide) (fun hc => ?_) (fun hc => ?_)
  · have hf := ite_t hc hf
    refine lv_aload_n hx hb dX4_image_14 rfl (lv_at hl 0 rfl) ?_
    refine t_get C hV hT 41 (by decide) q1288 rfl dX4_image_15 ?_
    refine lv_iload_n hx hb dX4_image_18 rfl (lv_at hl 1 rfl) ?_
    refine lv_iconst (v := 1) hx hb dX4_image_19 (by decide) ?_
    obtain ⟨hi, hf⟩ := ix_e hf
    refine t_zst C hV hT 23 _ rfl hi rfl (tast_41 d a t _ _) dX4_image_20 (fun t_20 H locs et hT => ?_)
    have hf := lett_e et hf
    refine lv_aload_n hx hb dX4_image_21 rfl (lv_at hl 0 rfl) ?_
    refine t_get C hV hT 39 (by decide) q1286 rfl dX4_image_22 ?_
    refine lv_iload_n hx hb dX4_image_25 rfl (lv_at hl 1 rfl) ?_
    refine lv_aload_n hx hb dX4_image_26 rfl (lv_at hl 0 rfl) ?_
    refine t_get C hV hT 21 (by decide) q1268 rfl dX4_image_27 ?_
    obtain ⟨hi, hf⟩ := ix_e hf
    refine t_ist C hV hT 21 _ rfl hi rfl (tast_39 d a t_20 _ _) dX4_image_30 (fun t_30 H locs et hT => ?_)
    have hf := lett_e et hf
    refine lv_aload_n hx hb dX4_image_31 rfl (lv_at hl 0 rfl) ?_
    refine t_get C hV hT 40 (by decide) q1287 rfl dX4_image_32 ?_
    refine lv_iload_n hx hb dX4_image_35 rfl (lv_at hl 1 rfl) ?_
    refine lv_aload_n hx hb dX4_image_36 rfl (lv_at hl 0 rfl) ?_
    refine t_get C hV hT 22 (by decide) q1269 rfl dX4_image_37 ?_
    obtain ⟨hi, hf⟩ := ix_e hf
    refine t_ist C hV hT 22 _ rfl hi rfl (tast_40 d a t_30 _ _) dX4_image_40 (fun t_40 H locs et hT => ?_)
    have hf := lett_e et hf
    refine lv_iconst (v := 0) hx hb dX4_image_41 (by decide) ?_
    refine lv_istore_n (lv' := [(2, .int (0 : Int32)), (0, .ref (a 42)), (1, .int x1)]) hx hb dX4_image_42 rfl hl (by decide) rfl (fun ls hl => ?_)
    refine hL43 _ (fun t H locs ls hT hl hf => ?_) N t_40 x1 (0 : Int32) _ _ _ hT (lv_sub hl [1, 2, 0] rfl) hf
    refine lv_aload_n hx hb dX4_image_72 rfl (lv_at hl 0 rfl) ?_
    refine t_get C hV hT 20 (by decide) q1267 rfl dX4_image_73 ?_
    refine lv_bipush (v := 10) hx hb dX4_image_76 (by decide) ?_
    refine g_ild C hV hT 10 10 rfl (vin_of (by decide)) (by decide) dX4_image_78 ?_
    exact t_iret C hT hf hr hlocks dX4_image_79
  · have hf := ite_f (fun q => q hc) hf
    refine lv_iconst (v := -1) hx hb dX4_image_12 (by decide) ?_
    exact t_iret C hT hf hr hlocks dX4_image_13
def fX4_back_B50 (N : Nat) (K : TS → Option (Int32 × TS)) (kb : TS → Int32 → Int32 → Option (Int32 × TS)) (t : TS) (x1 : Int32) (x2 : Int32) : Option (Int32 × TS) :=
  (if (121 : Int32) ≤ x2 then (K t) else (ix (((121 : Int32) * x1) + x2) 484 (ix x2 121 (lett (tsA t 20 (x2).toNatClampNeg (t.2.1 38 ((((121 : Int32) * x1) + x2)).toNatClampNeg)) fun t_72 => (lett (x2 + (1 : Int32)) fun x2_73 => (kb t_72 x1 x2_73))))))
def fX4_back_L50 (N : Nat) (K : TS → Option (Int32 × TS)) : Nat → TS → Int32 → Int32 → Option (Int32 × TS)
  | 0 => fun _ _ _ => none
  | n + 1 => fun t x1 x2 => fX4_back_B50 N K (fX4_back_L50 N K n) t x1 x2
def fX4_back (N : Nat) (t : TS) (x1 : Int32) : Option (Int32 × TS) :=
  ((fX4_in N (x1).toInt64 (0 : Int64) (3 : Int64)).bind fun w_6 => (if w_6 = 0 then (some ((-1 : Int32), t)) else (ix x1 4 (if ¬ (t.2.1 41 (x1).toNatClampNeg) = 0 then (ix x1 4 (lett (tsI t 21 (t.2.1 39 (x1).toNatClampNeg)) fun t_30 => (ix x1 4 (lett (tsI t_30 22 (t_30.2.1 40 (x1).toNatClampNeg)) fun t_40 => (lett (tsI t_40 27 (0 : Int32)) fun t_45 => (fX4_back_L50 N (fun t => (some ((t.2.1 20 10), t))) N t_45 x1 (0 : Int32))))))) else (some ((-1 : Int32), t))))))
theorem hdX4_back : yX4_back.cls = RX4 ∧ yX4_back.cls ≠ "java/lang/invoke/MethodHandle" ∧ yX4_back.cls ≠ "java/lang/invoke/VarHandle" ∧ (parseMethodDescriptor yX4_back.desc).map (fun d => d.parameters.length) = some 1 := by decide +kernel
set_option maxHeartbeats 4000000 in
theorem mX4_back (l : Launch) (D : va_G) (d : Nat → ClassId) (a : Nat → Nat) (N : Nat) (t : TS) (x1 : Int32) (w : Int32 × TS) (hf : fX4_back N t x1 = some w) (sz : Nat) : Met l yX4_back (ws_ yX4_back cX4_back 3 (some .int)) (rm_ 1 25) (PcT D d a [.int x1] t sz) (QiT D d a w.1 w.2 sz) 0 0 (AT a sz) := by
  refine Met.ofW (cc := cX4_back) (maxL := 3) (ret := (some .int)) plX4 rfl ?_
  intro p e s m args below meth c s₁ B hml hv
  obtain ⟨C, hV, hT, hr, hlocks, hargs, rfl⟩ := t_enter B hml rfl hv
  have hx := C.1
  have hb := C.2.1
  show W p l e (rm_ 1 25) s m args below meth c s.heap [] 0 0 (MQ below (QiT D d a w.1 w.2 s.heap.size) args s 0 0 (AT a s.heap.size)) _
  have hL50 : ∀ (K : TS → Option (Int32 × TS)), (∀ (t : TS) (H : Heap) (locs : List Loc) (ls : Array Slot), TH D (AT a s.heap.size) s.heap (wT d a t) H locs → lv_has ls 3 [(0, .ref (a 42))] → K t = some w → W p l e (rm_ 1 25) s m args below meth c H locs 0 0 (MQ below (QiT D d a w.1 w.2 s.heap.size) args s 0 0 (AT a s.heap.size)) (F0 m 79 ls [])) → ∀ (n : Nat) (t : TS) (x1 : Int32) (x2 : Int32) (H : Heap) (locs : List Loc) (ls : Array Slot), TH D (AT a s.heap.size) s.heap (wT d a t) H locs → lv_has ls 3 [(0, .ref (a 42)), (1, .int x1), (2, .int x2)] → fX4_back_L50 N K n t x1 x2 = some w → W p l e (rm_ 1 25) s m args below meth c H locs 0 0 (MQ below (QiT D d a w.1 w.2 s.heap.size) args s 0 0 (AT a s.heap.size)) (F0 m 50 ls []) := by
    intro K hE n
    induction n with
    | zero =>
      intro t x1 x2 H locs ls hT hl hf
      cases hf
    | succ n ih =>
      intro t x1 x2 H locs ls hT hl hf
      replace hf : fX4_back_B50 N K (fX4_back_L50 N K n) t x1 x2 = some w := hf
      unfold fX4_back_B50 at hf
      refine lv_iload_n hx hb dX4_back_50 rfl (lv_at hl 2 rfl) ?_
      refine lv_bipush (v := 121) hx hb dX4_back_51 (by decide) ?_
      refine lv_icmp_ge (tgt := 79) hx hb dX4_back_53 (by decide) (fun hc => ?_) (fun hc => ?_)
      · have hf := ite_t hc hf
        exact hE t _ _ _ hT (lv_sub hl [0] rfl) hf
      · have hf := ite_f hc hf
        refine lv_aload_n hx hb dX4_back_56 rfl (lv_at hl 0 rfl) ?_
        refine t_get C hV hT 20 (by decide) q1267 rfl dX4_back_57 ?_
        refine lv_iload_n hx hb dX4_back_60 rfl (lv_at hl 2 rfl) ?_
        refine lv_aload_n hx hb dX4_back_61 rfl (lv_at hl 0 rfl) ?_
        refine t_get C hV hT 38 (by decide) q1285 rfl dX4_back_62 ?_
        refine lv_bipush (v := 121) hx hb dX4_back_65 (by decide) ?_
        refine lv_iload_n hx hb dX4_back_67 rfl (lv_at hl 1 rfl) ?_
        refine lv_imul hx hb dX4_back_68 ?_
        refine lv_iload_n hx hb dX4_back_69 rfl (lv_at hl 2 rfl) ?_
        refine lv_iadd hx hb dX4_back_70 ?_
        obtain ⟨hi, hf⟩ := ix_e hf
        refine g_ild C hV hT 20 _ rfl hi rfl dX4_back_71 ?_
        obtain ⟨hi, hf⟩ := ix_e hf
        refine t_ist C hV hT 10 _ rfl hi rfl (tast_20 d a t _ _) dX4_back_72 (fun t_72 H locs et hT => ?_)
        have hf := lett_e et hf
        obtain ⟨x2_73, ex⟩ : ∃ y : Int32, y = (x2 + (1 : Int32)) := ⟨_, rfl⟩
        have hf := lett_e ex hf
        refine lv_iinc (v := x2_73) (lv' := [(2, .int x2_73), (0, .ref (a 42)), (1, .int x1)]) hx hb dX4_back_73 hl (k := 2) rfl (by rw [ex]; rfl) (by decide) rfl (fun ls hl => ?_)
        refine lv_goto (tgt := 50) hx hb dX4_back_76 (by decide) ?_
        exact ih t_72 x1 x2_73 _ _ _ hT (lv_sub hl [1, 2, 0] rfl) hf
  refine W.eq (by rw [hargs]) (t_in (vs := [.ref (a 42), .int x1]) (n := 3) (Nat.le_of_ble_eq_true rfl) (fun ls hl => ?_))
  have hl : lv_has ls 3 [(0, .ref (a 42)), (1, .int x1)] := hl
  unfold fX4_back at hf
  skip
  refine lv_iload_n hx hb dX4_back_0 rfl (lv_at hl 1 rfl) ?_
  refine lv_i2l hx hb dX4_back_1 rfl ?_
  refine lv_lconst (v := 0) hx hb dX4_back_2 (by decide) ?_
  refine g_ldc2 (v := 3) C q1752 dX4_back_3 ?_
  obtain ⟨w_6, h_6, hf⟩ := bind_e hf
  refine s_calli (vs := [.long (x1).toInt64, .long (0 : Int64), .long (3 : Int64)]) (rest := []) C (fun q h => Or.inr h) hT (fun sz => mX4_in l N (x1).toInt64 (0 : Int64) (3 : Int64) _ h_6 sz) (va_cwS 3 C.2.2.2.2 (lw_S q1448 q1449 q129 q1450) rfl rfl rfl hdX4_in ⟨Nat.le_of_ble_eq_true rfl, Nat.le_of_ble_eq_true rfl⟩) rfl hl.1 rfl (Nat.le_of_ble_eq_true rfl) dX4_back_6 ⟨Nat.zero_le _, Nat.zero_le _⟩ (fun H locs hT => ?_)
  refine lv_if_eq (tgt := 21) hx hb dX4_back_9 (by decide) (fun hc => ?_) (fun hc => ?_)
  · have hf := ite_t hc hf
    refine lv_iconst (v := -1) hx hb dX4_back_21 (by decide) ?_
    exact t_iret C hT hf hr hlocks dX4_back_22
  · have hf := ite_f hc hf
    refine lv_aload_n hx hb dX4_back_12 rfl (lv_at hl 0 rfl) ?_
    refine t_get C hV hT 41 (by decide) q1288 rfl dX4_back_13 ?_
    refine lv_iload_n hx hb dX4_back_16 rfl (lv_at hl 1 rfl) ?_
    obtain ⟨hi, hf⟩ := ix_e hf
    refine g_zld C hV hT 23 _ rfl hi rfl dX4_back_17 ?_
    refine lv_if_ne (tgt := 23) hx hb dX4_back_18 (by decide) (fun hc => ?_) (fun hc => ?_)
    · have hf := ite_t hc hf
      refine lv_aload_n hx hb dX4_back_23 rfl (lv_at hl 0 rfl) ?_
      refine lv_aload_n hx hb dX4_back_24 rfl (lv_at hl 0 rfl) ?_
      refine t_get C hV hT 39 (by decide) q1286 rfl dX4_back_25 ?_
      refine lv_iload_n hx hb dX4_back_28 rfl (lv_at hl 1 rfl) ?_
      obtain ⟨hi, hf⟩ := ix_e hf
      refine g_ild C hV hT 21 _ rfl hi rfl dX4_back_29 ?_
      refine t_put C hV hT 21 (by decide) q1268 (tset_21 a t _) rfl rfl dX4_back_30 (fun t_30 H locs et hT => ?_)
      have hf := lett_e et hf
      refine lv_aload_n hx hb dX4_back_33 rfl (lv_at hl 0 rfl) ?_
      refine lv_aload_n hx hb dX4_back_34 rfl (lv_at hl 0 rfl) ?_
      refine t_get C hV hT 40 (by decide) q1287 rfl dX4_back_35 ?_
      refine lv_iload_n hx hb dX4_back_38 rfl (lv_at hl 1 rfl) ?_
      obtain ⟨hi, hf⟩ := ix_e hf
      refine g_ild C hV hT 22 _ rfl hi rfl dX4_back_39 ?_
      refine t_put C hV hT 22 (by decide) q1269 (tset_22 a t_30 _) rfl rfl dX4_back_40 (fun t_40 H locs et hT => ?_)
      have hf := lett_e et hf
      refine lv_aload_n hx hb dX4_back_43 rfl (lv_at hl 0 rfl) ?_
      refine lv_iconst (v := 0) hx hb dX4_back_44 (by decide) ?_
      refine t_put C hV hT 27 (by decide) q1274 (tset_27 a t_40 _) rfl rfl dX4_back_45 (fun t_45 H locs et hT => ?_)
      have hf := lett_e et hf
      refine lv_iconst (v := 0) hx hb dX4_back_48 (by decide) ?_
      refine lv_istore_n (lv' := [(2, .int (0 : Int32)), (0, .ref (a 42)), (1, .int x1)]) hx hb dX4_back_49 rfl hl (by decide) rfl (fun ls hl => ?_)
      refine hL50 _ (fun t H locs ls hT hl hf => ?_) N t_45 x1 (0 : Int32) _ _ _ hT (lv_sub hl [1, 2, 0] rfl) hf
      refine lv_aload_n hx hb dX4_back_79 rfl (lv_at hl 0 rfl) ?_
      refine t_get C hV hT 20 (by decide) q1267 rfl dX4_back_80 ?_
      refine lv_bipush (v := 10) hx hb dX4_back_83 (by decide) ?_
      refine g_ild C hV hT 10 10 rfl (vin_of (by decide)) (by decide) dX4_back_85 ?_
      exact t_iret C hT hf hr hlocks dX4_back_86
    · have hf := ite_f (fun q => q hc) hf
      refine lv_iconst (v := -1) hx hb dX4_back_21 (by decide) ?_
      exact t_iret C hT hf hr hlocks dX4_back_22
