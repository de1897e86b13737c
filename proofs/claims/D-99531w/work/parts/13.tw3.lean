set_option maxRecDepth 100000
def fX4_push (N : Nat) (t : TS) (x1 : Int64) : Option (TS) :=
  (ix (t.1 18) 64 (lett (tsM t 17 ((t.1 18)).toNatClampNeg x1) fun t_9 => (lett (tsI t_9 18 ((t_9.1 18) + (1 : Int32))) fun t_17 => (some t_17))))
theorem hdX4_push : yX4_push.cls = RX4 ∧ yX4_push.cls ≠ "java/lang/invoke/MethodHandle" ∧ yX4_push.cls ≠ "java/lang/invoke/VarHandle" ∧ (parseMethodDescriptor yX4_push.desc).map (fun d => d.parameters.length) = some 1 := by decide +kernel
set_option maxHeartbeats 4000000 in
theorem mX4_push (l : Launch) (D : va_G) (d : Nat → ClassId) (a : Nat → Nat) (N : Nat) (t : TS) (x1 : Int64) (w : TS) (hf : fX4_push N t x1 = some w) (sz : Nat) : Met l yX4_push (ws_ yX4_push cX4_push 3 none) (rm_ 0 0) (PcT D d a [.long x1] t sz) (QvT D d a w sz) 0 0 (AT a sz) := by
  refine Met.ofW (cc := cX4_push) (maxL := 3) (ret := none) plX4 rfl ?_
  intro p e s m args below meth c s₁ B hml hv
  obtain ⟨C, hV, hT, hr, hlocks, hargs, rfl⟩ := t_enter B hml rfl hv
  have hx := C.1
  have hb := C.2.1
  show W p l e (rm_ 0 0) s m args below meth c s.heap [] 0 0 (MQ below (QvT D d a w s.heap.size) args s 0 0 (AT a s.heap.size)) _
  refine W.eq (by rw [hargs]) (t_in (vs := [.ref (a 42), .long x1]) (n := 3) (Nat.le_of_ble_eq_true rfl) (fun ls hl => ?_))
  have hl : lv_has ls 3 [(0, .ref (a 42)), (1, .long x1)] := hl
  unfold fX4_push at hf
  skip
  refine lv_aload_n hx hb dX4_push_0 rfl (lv_at hl 0 rfl) ?_
  refine t_get C hV hT 17 (by decide) q1264 rfl dX4_push_1 ?_
  refine lv_aload_n hx hb dX4_push_4 rfl (lv_at hl 0 rfl) ?_
  refine t_get C hV hT 18 (by decide) q1265 rfl dX4_push_5 ?_
  refine lv_lload_n hx hb dX4_push_8 rfl (lv_at hl 1 rfl) ?_
  obtain ⟨hi, hf⟩ := ix_e hf
  refine t_lst C hV hT 8 _ rfl hi rfl (tast_17 d a t _ _) dX4_push_9 (fun t_9 H locs et hT => ?_)
  have hf := lett_e et hf
  refine lv_aload_n hx hb dX4_push_10 rfl (lv_at hl 0 rfl) ?_
  refine lv_dup hx hb dX4_push_11 rfl ?_
  refine t_get C hV hT 18 (by decide) q1265 rfl dX4_push_12 ?_
  refine lv_iconst (v := 1) hx hb dX4_push_15 (by decide) ?_
  refine lv_iadd hx hb dX4_push_16 ?_
  refine t_put C hV hT 18 (by decide) q1265 (tset_18 a t_9 _) rfl rfl dX4_push_17 (fun t_17 H locs et hT => ?_)
  have hf := lett_e et hf
  exact t_vret C hT hf hr hlocks dX4_push_20
def fX4_pop (N : Nat) (t : TS) : Option (Int64 × TS) :=
  (lett (tsI t 18 ((t.1 18) - (1 : Int32))) fun t_7 => (ix (t_7.1 18) 64 (some ((t_7.2.2.2 17 ((t_7.1 18)).toNatClampNeg), t_7))))
theorem hdX4_pop : yX4_pop.cls = RX4 ∧ yX4_pop.cls ≠ "java/lang/invoke/MethodHandle" ∧ yX4_pop.cls ≠ "java/lang/invoke/VarHandle" ∧ (parseMethodDescriptor yX4_pop.desc).map (fun d => d.parameters.length) = some 0 := by decide +kernel
set_option maxHeartbeats 4000000 in
theorem mX4_pop (l : Launch) (D : va_G) (d : Nat → ClassId) (a : Nat → Nat) (N : Nat) (t : TS) (w : Int64 × TS) (hf : fX4_pop N t = some w) (sz : Nat) : Met l yX4_pop (ws_ yX4_pop cX4_pop 1 (some .long)) (rm_ 0 0) (PcT D d a [] t sz) (QlT D d a w.1 w.2 sz) 0 0 (AT a sz) := by
  refine Met.ofW (cc := cX4_pop) (maxL := 1) (ret := (some .long)) plX4 rfl ?_
  intro p e s m args below meth c s₁ B hml hv
  obtain ⟨C, hV, hT, hr, hlocks, hargs, rfl⟩ := t_enter B hml rfl hv
  have hx := C.1
  have hb := C.2.1
  show W p l e (rm_ 0 0) s m args below meth c s.heap [] 0 0 (MQ below (QlT D d a w.1 w.2 s.heap.size) args s 0 0 (AT a s.heap.size)) _
  refine W.eq (by rw [hargs]) (t_in (vs := [.ref (a 42)]) (n := 1) (Nat.le_of_ble_eq_true rfl) (fun ls hl => ?_))
  have hl : lv_has ls 1 [(0, .ref (a 42))] := hl
  unfold fX4_pop at hf
  skip
  refine lv_aload_n hx hb dX4_pop_0 rfl (lv_at hl 0 rfl) ?_
  refine lv_dup hx hb dX4_pop_1 rfl ?_
  refine t_get C hV hT 18 (by decide) q1265 rfl dX4_pop_2 ?_
  refine lv_iconst (v := 1) hx hb dX4_pop_5 (by decide) ?_
  refine lv_isub hx hb dX4_pop_6 ?_
  refine t_put C hV hT 18 (by decide) q1265 (tset_18 a t _) rfl rfl dX4_pop_7 (fun t_7 H locs et hT => ?_)
  have hf := lett_e et hf
  refine lv_aload_n hx hb dX4_pop_10 rfl (lv_at hl 0 rfl) ?_
  refine t_get C hV hT 17 (by decide) q1264 rfl dX4_pop_11 ?_
  refine lv_aload_n hx hb dX4_pop_14 rfl (lv_at hl 0 rfl) ?_
  refine t_get C hV hT 18 (by decide) q1265 rfl dX4_pop_15 ?_
  obtain ⟨hi, hf⟩ := ix_e hf
  refine g_lld C hV hT 8 _ rfl hi rfl dX4_pop_18 ?_
  exact t_lret C hT hf hr hlocks dX4_pop_19
def fX4_one_J172 (N : Nat) (x1 : Int64) (x3 : Int64) : Option (Int64) :=
  (some (x1 ||| x3))
def fX4_one (N : Nat) (x0 : Int32) (x1 : Int64) (x3 : Int64) : Option (Int64) :=
  (if x0 = (2 : Int32) then (some (x1 + x3)) else (if x0 = (3 : Int32) then (some (x1 - x3)) else (if x0 = (4 : Int32) then (some (x1 * x3)) else (if x0 = (5 : Int32) then (if ¬ (lg_cmp x3 (0 : Int64)) = 0 then (nzl x3 (some (x1 / x3))) else (some (0 : Int64))) else (if x0 = (6 : Int32) then (if 0 ≤ (lg_cmp x1 x3) then (some (0 : Int64)) else (some (1 : Int64))) else (if x0 = (7 : Int32) then (if 0 < (lg_cmp x1 x3) then (some (0 : Int64)) else (some (1 : Int64))) else (if x0 = (8 : Int32) then (if ¬ (lg_cmp x1 x3) = 0 then (some (0 : Int64)) else (some (1 : Int64))) else (if x0 = (9 : Int32) then (if (lg_cmp x1 x3) < 0 then (some (0 : Int64)) else (some (1 : Int64))) else (if x0 = (10 : Int32) then (if (lg_cmp x1 x3) ≤ 0 then (some (0 : Int64)) else (some (1 : Int64))) else (if x0 = (11 : Int32) then (fX4_one_J172 N x1 x3) else (if x0 = (12 : Int32) then (some (x1 &&& x3)) else (if x0 = (13 : Int32) then (fX4_one_J172 N x1 x3) else (if x0 = (14 : Int32) then (if ¬ (lg_cmp x3 (0 : Int64)) = 0 then (nzl x3 (some (lrem x1 x3))) else (some (0 : Int64))) else (fX4_one_J172 N x1 x3))))))))))))))
theorem hdX4_one : yX4_one.cls ≠ "java/lang/invoke/MethodHandle" ∧ yX4_one.cls ≠ "java/lang/invoke/VarHandle" ∧ (parseMethodDescriptor yX4_one.desc).map (fun d => d.parameters.length) = some 3 := by decide +kernel
set_option maxHeartbeats 4000000 in
theorem mX4_one (l : Launch) (N : Nat) (x0 : Int32) (x1 : Int64) (x3 : Int64) (w : Int64) (hf : fX4_one N x0 x1 x3 = some w) (sz : Nat) : Met l yX4_one (ws_ yX4_one cX4_one 5 (some .long)) (rm_ 0 0) (PcS [.int x0, .long x1, .long x3] sz) (QlS w sz) 0 0 (fun q => sz ≤ q) := by
  refine Met.ofW (cc := cX4_one) (maxL := 5) (ret := (some .long)) plX4 rfl ?_
  intro p e s m args below meth c s₁ B hml hv
  obtain ⟨C, hT, hr, hlocks, hargs, rfl⟩ := s_enter (D := db_D0) (own := RX4) B hml rfl hv
  have hx := C.1
  have hb := C.2.1
  show W p l e (rm_ 0 0) s m args below meth c s.heap [] 0 0 (MQ below (QlS w s.heap.size) args s 0 0 (fun q => s.heap.size ≤ q)) _
  have hJ172 : ∀ (x1 : Int64) (x3 : Int64) (H : Heap) (locs : List Loc) (ls : Array Slot), TH db_D0 (fun q => s.heap.size ≤ q) s.heap [] H locs → lv_has ls 5 [(1, .long x1), (3, .long x3)] → fX4_one_J172 N x1 x3 = some w → W p l e (rm_ 0 0) s m args below meth c H locs 0 0 (MQ below (QlS w s.heap.size) args s 0 0 (fun q => s.heap.size ≤ q)) (F0 m 172 ls []) := by
    intro x1 x3 H locs ls hT hl hf
    unfold fX4_one_J172 at hf
    refine lv_lload_n hx hb dX4_one_172 rfl (lv_at hl 0 rfl) ?_
    refine lv_lload_n hx hb dX4_one_173 rfl (lv_at hl 1 rfl) ?_
    refine lv_lor hx hb dX4_one_174 ?_
    exact s_lret C hT hf hr hlocks dX4_one_175
  refine W.eq (by rw [hargs]) (t_in (vs := [.int x0, .long x1, .long x3]) (n := 5) (Nat.le_of_ble_eq_true rfl) (fun ls hl => ?_))
  have hl : lv_has ls 5 [(0, .int x0), (1, .long x1), (3, .long x3)] := hl
  unfold fX4_one at hf
  refine lv_iload_n hx hb dX4_one_0 rfl (lv_at hl 0 rfl) ?_
  by_cases hc2 : x0 = (2 : Int32)
  · have hf := ite_t hc2 hf
    refine lv_tableIn (tgt := 68) hx hb dX4_one_1 (by rw [hc2]; decide) (by rw [hc2]; decide) (by rw [hc2]; rfl) (by decide) ?_
    refine lv_lload_n hx hb dX4_one_68 rfl (lv_at hl 1 rfl) ?_
    refine lv_lload_n hx hb dX4_one_69 rfl (lv_at hl 2 rfl) ?_
    refine lv_ladd hx hb dX4_one_70 ?_
    exact s_lret C hT hf hr hlocks dX4_one_71
  · have hf := ite_f hc2 hf
    by_cases hc3 : x0 = (3 : Int32)
    · have hf := ite_t hc3 hf
      refine lv_tableIn (tgt := 72) hx hb dX4_one_1 (by rw [hc3]; decide) (by rw [hc3]; decide) (by rw [hc3]; rfl) (by decide) ?_
      refine lv_lload_n hx hb dX4_one_72 rfl (lv_at hl 1 rfl) ?_
      refine lv_lload_n hx hb dX4_one_73 rfl (lv_at hl 2 rfl) ?_
      refine lv_lsub hx hb dX4_one_74 ?_
      exact s_lret C hT hf hr hlocks dX4_one_75
    · have hf := ite_f hc3 hf
      by_cases hc4 : x0 = (4 : Int32)
      · have hf := ite_t hc4 hf
        refine lv_tableIn (tgt := 76) hx hb dX4_one_1 (by rw [hc4]; decide) (by rw [hc4]; decide) (by rw [hc4]; rfl) (by decide) ?_
        refine lv_lload_n hx hb dX4_one_76 rfl (lv_at hl 1 rfl) ?_
        refine lv_lload_n hx hb dX4_one_77 rfl (lv_at hl 2 rfl) ?_
        refine lv_lmul hx hb dX4_one_78 ?_
        exact s_lret C hT hf hr hlocks dX4_one_79
      · have hf := ite_f hc4 hf
        by_cases hc5 : x0 = (5 : Int32)
        · have hf := ite_t hc5 hf
          refine lv_tableIn (tgt := 80) hx hb dX4_one_1 (by rw [hc5]; decide) (by rw [hc5]; decide) (by rw [hc5]; rfl) (by decide) ?_
          refine lv_lload_n hx hb dX4_one_80 rfl (lv_at hl 2 rfl) ?_
          refine lv_lconst (v := 0) hx hb dX4_one_81 (by decide) ?_
          refine W.lcmp hx hb dX4_one_82 ?_
          refine lv_if_ne (tgt := 90) hx hb dX4_one_83 (by decide) (fun hc => ?_) (fun hc => ?_)
          · have hf := ite_t hc hf
            refine lv_lload_n hx hb dX4_one_90 rfl (lv_at hl 1 rfl) ?_
            refine lv_lload_n hx hb dX4_one_91 rfl (lv_at hl 2 rfl) ?_
            obtain ⟨hn, hf⟩ := nzl_e hf
            refine lv_ldiv hx hb dX4_one_92 hn ?_
            exact s_lret C hT hf hr hlocks dX4_one_93
          · have hf := ite_f (fun q => q hc) hf
            refine lv_lconst (v := 0) hx hb dX4_one_86 (by decide) ?_
            refine lv_goto (tgt := 93) hx hb dX4_one_87 (by decide) ?_
            exact s_lret C hT hf hr hlocks dX4_one_93
        · have hf := ite_f hc5 hf
          by_cases hc6 : x0 = (6 : Int32)
          · have hf := ite_t hc6 hf
            refine lv_tableIn (tgt := 108) hx hb dX4_one_1 (by rw [hc6]; decide) (by rw [hc6]; decide) (by rw [hc6]; rfl) (by decide) ?_
            refine lv_lload_n hx hb dX4_one_108 rfl (lv_at hl 1 rfl) ?_
            refine lv_lload_n hx hb dX4_one_109 rfl (lv_at hl 2 rfl) ?_
            refine W.lcmp hx hb dX4_one_110 ?_
            refine lv_if_ge (tgt := 118) hx hb dX4_one_111 (by decide) (fun hc => ?_) (fun hc => ?_)
            · have hf := ite_t hc hf
              refine lv_lconst (v := 0) hx hb dX4_one_118 (by decide) ?_
              exact s_lret C hT hf hr hlocks dX4_one_119
            · have hf := ite_f hc hf
              refine lv_lconst (v := 1) hx hb dX4_one_114 (by decide) ?_
              refine lv_goto (tgt := 119) hx hb dX4_one_115 (by decide) ?_
              exact s_lret C hT hf hr hlocks dX4_one_119
          · have hf := ite_f hc6 hf
            by_cases hc7 : x0 = (7 : Int32)
            · have hf := ite_t hc7 hf
              refine lv_tableIn (tgt := 120) hx hb dX4_one_1 (by rw [hc7]; decide) (by rw [hc7]; decide) (by rw [hc7]; rfl) (by decide) ?_
              refine lv_lload_n hx hb dX4_one_120 rfl (lv_at hl 1 rfl) ?_
              refine lv_lload_n hx hb dX4_one_121 rfl (lv_at hl 2 rfl) ?_
              refine W.lcmp hx hb dX4_one_122 ?_
              refine lv_if_gt (tgt := 130) hx hb dX4_one_123 (by decide) (fun hc => ?_) (fun hc => ?_)
              · have hf := ite_t hc hf
                refine lv_lconst (v := 0) hx hb dX4_one_130 (by decide) ?_
                exact s_lret C hT hf hr hlocks dX4_one_131
              · have hf := ite_f hc hf
                refine lv_lconst (v := 1) hx hb dX4_one_126 (by decide) ?_
                refine lv_goto (tgt := 131) hx hb dX4_one_127 (by decide) ?_
                exact s_lret C hT hf hr hlocks dX4_one_131
            · have hf := ite_f hc7 hf
              by_cases hc8 : x0 = (8 : Int32)
              · have hf := ite_t hc8 hf
                refine lv_tableIn (tgt := 132) hx hb dX4_one_1 (by rw [hc8]; decide) (by rw [hc8]; decide) (by rw [hc8]; rfl) (by decide) ?_
                refine lv_lload_n hx hb dX4_one_132 rfl (lv_at hl 1 rfl) ?_
                refine lv_lload_n hx hb dX4_one_133 rfl (lv_at hl 2 rfl) ?_
                refine W.lcmp hx hb dX4_one_134 ?_
                refine lv_if_ne (tgt := 142) hx hb dX4_one_135 (by decide) (fun hc => ?_) (fun hc => ?_)
                · have hf := ite_t hc hf
                  refine lv_lconst (v := 0) hx hb dX4_one_142 (by decide) ?_
                  exact s_lret C hT hf hr hlocks dX4_one_143
                · have hf := ite_f (fun q => q hc) hf
                  refine lv_lconst (v := 1) hx hb dX4_one_138 (by decide) ?_
                  refine lv_goto (tgt := 143) hx hb dX4_one_139 (by decide) ?_
                  exact s_lret C hT hf hr hlocks dX4_one_143
              · have hf := ite_f hc8 hf
                by_cases hc9 : x0 = (9 : Int32)
                · have hf := ite_t hc9 hf
                  refine lv_tableIn (tgt := 144) hx hb dX4_one_1 (by rw [hc9]; decide) (by rw [hc9]; decide) (by rw [hc9]; rfl) (by decide) ?_
                  refine lv_lload_n hx hb dX4_one_144 rfl (lv_at hl 1 rfl) ?_
                  refine lv_lload_n hx hb dX4_one_145 rfl (lv_at hl 2 rfl) ?_
                  refine W.lcmp hx hb dX4_one_146 ?_
                  refine lv_if_lt (tgt := 154) hx hb dX4_one_147 (by decide) (fun hc => ?_) (fun hc => ?_)
                  · have hf := ite_t hc hf
                    refine lv_lconst (v := 0) hx hb dX4_one_154 (by decide) ?_
                    exact s_lret C hT hf hr hlocks dX4_one_155
                  · have hf := ite_f hc hf
                    refine lv_lconst (v := 1) hx hb dX4_one_150 (by decide) ?_
                    refine lv_goto (tgt := 155) hx hb dX4_one_151 (by decide) ?_
                    exact s_lret C hT hf hr hlocks dX4_one_155
                · have hf := ite_f hc9 hf
                  by_cases hc10 : x0 = (10 : Int32)
                  · have hf := ite_t hc10 hf
                    refine lv_tableIn (tgt := 156) hx hb dX4_one_1 (by rw [hc10]; decide) (by rw [hc10]; decide) (by rw [hc10]; rfl) (by decide) ?_
                    refine lv_lload_n hx hb dX4_one_156 rfl (lv_at hl 1 rfl) ?_
                    refine lv_lload_n hx hb dX4_one_157 rfl (lv_at hl 2 rfl) ?_
                    refine W.lcmp hx hb dX4_one_158 ?_
                    refine lv_if_le (tgt := 166) hx hb dX4_one_159 (by decide) (fun hc => ?_) (fun hc => ?_)
                    · have hf := ite_t hc hf
                      refine lv_lconst (v := 0) hx hb dX4_one_166 (by decide) ?_
                      exact s_lret C hT hf hr hlocks dX4_one_167
                    · have hf := ite_f hc hf
                      refine lv_lconst (v := 1) hx hb dX4_one_162 (by decide) ?_
                      refine lv_goto (tgt := 167) hx hb dX4_one_163 (by decide) ?_
                      exact s_lret C hT hf hr hlocks dX4_one_167
                  · have hf := ite_f hc10 hf
                    by_cases hc11 : x0 = (11 : Int32)
                    · have hf := ite_t hc11 hf
                      refine lv_tableIn (tgt := 172) hx hb dX4_one_1 (by rw [hc11]; decide) (by rw [hc11]; decide) (by rw [hc11]; rfl) (by decide) ?_
                      exact hJ172 x1 x3 _ _ _ hT (lv_sub hl [1, 2] rfl) hf
                    · have hf := ite_f hc11 hf
                      by_cases hc12 : x0 = (12 : Int32)
                      · have hf := ite_t hc12 hf
                        refine lv_tableIn (tgt := 168) hx hb dX4_one_1 (by rw [hc12]; decide) (by rw [hc12]; decide) (by rw [hc12]; rfl) (by decide) ?_
                        refine lv_lload_n hx hb dX4_one_168 rfl (lv_at hl 1 rfl) ?_
                        refine lv_lload_n hx hb dX4_one_169 rfl (lv_at hl 2 rfl) ?_
                        refine lv_land hx hb dX4_one_170 ?_
                        exact s_lret C hT hf hr hlocks dX4_one_171
                      · have hf := ite_f hc12 hf
                        by_cases hc13 : x0 = (13 : Int32)
                        · have hf := ite_t hc13 hf
                          refine lv_tableIn (tgt := 172) hx hb dX4_one_1 (by rw [hc13]; decide) (by rw [hc13]; decide) (by rw [hc13]; rfl) (by decide) ?_
                          exact hJ172 x1 x3 _ _ _ hT (lv_sub hl [1, 2] rfl) hf
                        · have hf := ite_f hc13 hf
                          by_cases hc14 : x0 = (14 : Int32)
                          · have hf := ite_t hc14 hf
                            refine lv_tableIn (tgt := 94) hx hb dX4_one_1 (by rw [hc14]; decide) (by rw [hc14]; decide) (by rw [hc14]; rfl) (by decide) ?_
                            refine lv_lload_n hx hb dX4_one_94 rfl (lv_at hl 2 rfl) ?_
                            refine lv_lconst (v := 0) hx hb dX4_one_95 (by decide) ?_
                            refine W.lcmp hx hb dX4_one_96 ?_
                            refine lv_if_ne (tgt := 104) hx hb dX4_one_97 (by decide) (fun hc => ?_) (fun hc => ?_)
                            · have hf := ite_t hc hf
                              refine lv_lload_n hx hb dX4_one_104 rfl (lv_at hl 1 rfl) ?_
                              refine lv_lload_n hx hb dX4_one_105 rfl (lv_at hl 2 rfl) ?_
                              obtain ⟨hn, hf⟩ := nzl_e hf
                              refine g_lrem hx hb dX4_one_106 hn ?_
                              exact s_lret C hT hf hr hlocks dX4_one_107
                            · have hf := ite_f (fun q => q hc) hf
                              refine lv_lconst (v := 0) hx hb dX4_one_100 (by decide) ?_
                              refine lv_goto (tgt := 107) hx hb dX4_one_101 (by decide) ?_
                              exact s_lret C hT hf hr hlocks dX4_one_107
                          · have hf := ite_f hc14 hf
                            have hd2 := i32ne (n := 2) (by decide) hc2
                            have hd3 := i32ne (n := 3) (by decide) hc3
                            have hd4 := i32ne (n := 4) (by decide) hc4
                            have hd5 := i32ne (n := 5) (by decide) hc5
                            have hd6 := i32ne (n := 6) (by decide) hc6
                            have hd7 := i32ne (n := 7) (by decide) hc7
                            have hd8 := i32ne (n := 8) (by decide) hc8
                            have hd9 := i32ne (n := 9) (by decide) hc9
                            have hd10 := i32ne (n := 10) (by decide) hc10
                            have hd11 := i32ne (n := 11) (by decide) hc11
                            have hd12 := i32ne (n := 12) (by decide) hc12
                            have hd13 := i32ne (n := 13) (by decide) hc13
                            have hd14 := i32ne (n := 14) (by decide) hc14
                            refine lv_tableOut (tgt := 172) hx hb dX4_one_1 (by omega) (by decide) ?_
                            exact hJ172 x1 x3 _ _ _ hT (lv_sub hl [1, 2] rfl) hf
def fX4_reckons_B8 (N : Nat) (K : TS → Option (Int64 × TS)) (kb : TS → Int32 → Int32 → Int32 → Option (Int64 × TS)) (t : TS) (x1 : Int32) (x3 : Int32) (x4 : Int32) : Option (Int64 × TS) :=
  (if x3 ≤ x4 then (K t) else (ix (((400 : Int32) * x1) + x4) 2400 (lett ((t.2.1 3 ((((400 : Int32) * x1) + x4)).toNatClampNeg) &&& (15 : Int32)) fun x5_30 => (ix (((400 : Int32) * x1) + x4) 2400 (lett ((t.2.1 3 ((((400 : Int32) * x1) + x4)).toNatClampNeg) >>> ((4 : Int32) &&& 31)) fun x6_47 => (if ¬ x5_30 = 0 then (if ¬ x5_30 = (1 : Int32) then (if ¬ x5_30 = (11 : Int32) then ((fX4_pop N t ).bind fun w_105 => ((fX4_pop N w_105.2 ).bind fun w_111 => ((fX4_one N x5_30 w_111.1 w_105.1).bind fun w_123 => ((fX4_push N w_111.2 w_123).bind fun w_126 => (lett (x4 + (1 : Int32)) fun x4_129 => (kb w_126 x1 x3 x4_129)))))) else ((fX4_pop N t ).bind fun w_94 => ((fX4_push N w_94.2 ((1 : Int64) - w_94.1)).bind fun w_98 => (lett (x4 + (1 : Int32)) fun x4_129 => (kb w_98 x1 x3 x4_129))))) else (ix x6_47 12 ((fX4_push N t (t.2.2.2 19 (x6_47).toNatClampNeg)).bind fun w_78 => (lett (x4 + (1 : Int32)) fun x4_129 => (kb w_78 x1 x3 x4_129))))) else ((fX4_push N t (x6_47).toInt64).bind fun w_58 => (lett (x4 + (1 : Int32)) fun x4_129 => (kb w_58 x1 x3 x4_129)))))))))
def fX4_reckons_L8 (N : Nat) (K : TS → Option (Int64 × TS)) : Nat → TS → Int32 → Int32 → Int32 → Option (Int64 × TS)
  | 0 => fun _ _ _ _ => none
  | n + 1 => fun t x1 x3 x4 => fX4_reckons_B8 N K (fX4_reckons_L8 N K n) t x1 x3 x4
def fX4_reckons (N : Nat) (t : TS) (x1 : Int32) (x2 : Int32) (x3 : Int32) : Option (Int64 × TS) :=
  (lett (tsI t 18 (0 : Int32)) fun t_2 => (fX4_reckons_L8 N (fun t => ((fX4_pop N t ).bind fun w_136 => (some (w_136.1, w_136.2)))) N t_2 x1 x3 x2))
theorem hdX4_reckons : yX4_reckons.cls = RX4 ∧ yX4_reckons.cls ≠ "java/lang/invoke/MethodHandle" ∧ yX4_reckons.cls ≠ "java/lang/invoke/VarHandle" ∧ (parseMethodDescriptor yX4_reckons.desc).map (fun d => d.parameters.length) = some 3 := by decide +kernel
set_option maxHeartbeats 4000000 in
theorem mX4_reckons (l : Launch) (D : va_G) (d : Nat → ClassId) (a : Nat → Nat) (N : Nat) (t : TS) (x1 : Int32) (x2 : Int32) (x3 : Int32) (w : Int64 × TS) (hf : fX4_reckons N t x1 x2 x3 = some w) (sz : Nat) : Met l yX4_reckons (ws_ yX4_reckons cX4_reckons 11 (some .long)) (rm_ 1 24) (PcT D d a [.int x1, .int x2, .int x3] t sz) (QlT D d a w.1 w.2 sz) 0 0 (AT a sz) := by
  refine Met.ofW (cc := cX4_reckons) (maxL := 11) (ret := (some .long)) plX4 rfl ?_
  intro p e s m args below meth c s₁ B hml hv
  obtain ⟨C, hV, hT, hr, hlocks, hargs, rfl⟩ := t_enter B hml rfl hv
  have hx := C.1
  have hb := C.2.1
  show W p l e (rm_ 1 24) s m args below meth c s.heap [] 0 0 (MQ below (QlT D d a w.1 w.2 s.heap.size) args s 0 0 (AT a s.heap.size)) _
  have hL8 : ∀ (K : TS → Option (Int64 × TS)), (∀ (t : TS) (H : Heap) (locs : List Loc) (ls : Array Slot), TH D (AT a s.heap.size) s.heap (wT d a t) H locs → lv_has ls 11 [(0, .ref (a 42))] → K t = some w → W p l e (rm_ 1 24) s m args below meth c H locs 0 0 (MQ below (QlT D d a w.1 w.2 s.heap.size) args s 0 0 (AT a s.heap.size)) (F0 m 135 ls [])) → ∀ (n : Nat) (t : TS) (x1 : Int32) (x3 : Int32) (x4 : Int32) (H : Heap) (locs : List Loc) (ls : Array Slot), TH D (AT a s.heap.size) s.heap (wT d a t) H locs → lv_has ls 11 [(0, .ref (a 42)), (1, .int x1), (3, .int x3), (4, .int x4)] → fX4_reckons_L8 N K n t x1 x3 x4 = some w → W p l e (rm_ 1 24) s m args below meth c H locs 0 0 (MQ below (QlT D d a w.1 w.2 s.heap.size) args s 0 0 (AT a s.heap.size)) (F0 m 8 ls []) := by
    intro K hE n
    induction n with
    | zero =>
      intro t x1 x3 x4 H locs ls hT hl hf
      cases hf
    | succ n ih =>
      intro t x1 x3 x4 H locs ls hT hl hf
      replace hf : fX4_reckons_B8 N K (fX4_reckons_L8 N K n) t x1 x3 x4 = some w := hf
      unfold fX4_reckons_B8 at hf
      refine lv_iload hx hb dX4_reckons_8 (lv_at hl 3 rfl) ?_
      refine lv_iload_n hx hb dX4_reckons_10 rfl (lv_at hl 2 rfl) ?_
      refine lv_icmp_ge (tgt := 135) hx hb dX4_reckons_11 (by decide) (fun hc => ?_) (fun hc => ?_)
      · have hf := ite_t hc hf
        exact hE t _ _ _ hT (lv_sub hl [0] rfl) hf
      · have hf := ite_f hc hf
        refine lv_aload_n hx hb dX4_reckons_14 rfl (lv_at hl 0 rfl) ?_
        refine t_get C hV hT 3 (by decide) q1250 rfl dX4_reckons_15 ?_
        refine lv_sipush (v := 400) hx hb dX4_reckons_18 (by decide) ?_
        refine lv_iload_n hx hb dX4_reckons_21 rfl (lv_at hl 1 rfl) ?_
        refine lv_imul hx hb dX4_reckons_22 ?_
        refine lv_iload hx hb dX4_reckons_23 (lv_at hl 3 rfl) ?_
        refine lv_iadd hx hb dX4_reckons_25 ?_
        obtain ⟨hi, hf⟩ := ix_e hf
        refine g_ild C hV hT 2 _ rfl hi rfl dX4_reckons_26 ?_
        refine lv_bipush (v := 15) hx hb dX4_reckons_27 (by decide) ?_
        refine lv_iand hx hb dX4_reckons_29 ?_
        refine lv_topi (fun x5_30 ex => ?_)
        have hf := lett_e ex hf
        refine lv_istore (lv' := [(5, .int x5_30), (0, .ref (a 42)), (1, .int x1), (3, .int x3), (4, .int x4)]) hx hb dX4_reckons_30 hl (by decide) rfl (fun ls hl => ?_)
        refine lv_aload_n hx hb dX4_reckons_32 rfl (lv_at hl 1 rfl) ?_
        refine t_get C hV hT 3 (by decide) q1250 rfl dX4_reckons_33 ?_
        refine lv_sipush (v := 400) hx hb dX4_reckons_36 (by decide) ?_
        refine lv_iload_n hx hb dX4_reckons_39 rfl (lv_at hl 2 rfl) ?_
        refine lv_imul hx hb dX4_reckons_40 ?_
        refine lv_iload hx hb dX4_reckons_41 (lv_at hl 4 rfl) ?_
        refine lv_iadd hx hb dX4_reckons_43 ?_
        obtain ⟨hi, hf⟩ := ix_e hf
        refine g_ild C hV hT 2 _ rfl hi rfl dX4_reckons_44 ?_
        refine lv_iconst (v := 4) hx hb dX4_reckons_45 (by decide) ?_
        refine lv_ishr hx hb dX4_reckons_46 ?_
        refine lv_topi (fun x6_47 ex => ?_)
        have hf := lett_e ex hf
        refine lv_istore (lv' := [(6, .int x6_47), (5, .int x5_30), (0, .ref (a 42)), (1, .int x1), (3, .int x3), (4, .int x4)]) hx hb dX4_reckons_47 hl (by decide) rfl (fun ls hl => ?_)
        refine lv_iload hx hb dX4_reckons_49 (lv_at hl 1 rfl) ?_
        refine lv_if_ne (tgt := 64) hx hb dX4_reckons_51 (by decide) (fun hc => ?_) (fun hc => ?_)
        · have hf := ite_t hc hf
          refine lv_iload hx hb dX4_reckons_64 (lv_at hl 1 rfl) ?_
          refine lv_iconst (v := 1) hx hb dX4_reckons_66 (by decide) ?_
          refine lv_icmp_ne (tgt := 84) hx hb dX4_reckons_67 (by decide) (fun hc => ?_) (fun hc => ?_)
          · have hf := ite_t hc hf
            refine lv_iload hx hb dX4_reckons_84 (lv_at hl 1 rfl) ?_
            refine lv_bipush (v := 11) hx hb dX4_reckons_86 (by decide) ?_
            refine lv_icmp_ne (tgt := 104) hx hb dX4_reckons_88 (by decide) (fun hc => ?_) (fun hc => ?_)
            · have hf := ite_t hc hf
              refine lv_aload_n hx hb dX4_reckons_104 rfl (lv_at hl 2 rfl) ?_
              obtain ⟨w_105, h_105, hf⟩ := bind_e hf
              refine t_calll (vs := []) (rest := []) C hV hT (fun sz => mX4_pop l D d a N t  _ h_105 sz) (cwV 0 C.2.2.2.2 (lw_V q1658 q1660 qs97 q129 q1661) rfl rfl rfl hdX4_pop ⟨Nat.le_of_ble_eq_true rfl, Nat.le_of_ble_eq_true rfl⟩) rfl hl.1 rfl (Nat.le_of_ble_eq_true rfl) dX4_reckons_105 (fun H locs hT => ?_)
              refine lv_lstore (lv' := [(7, .long w_105.1), (6, .int x6_47), (5, .int x5_30), (0, .ref (a 42)), (1, .int x1), (3, .int x3), (4, .int x4)]) hx hb dX4_reckons_108 hl (by decide) rfl (fun ls hl => ?_)
              refine lv_aload_n hx hb dX4_reckons_110 rfl (lv_at hl 3 rfl) ?_
              obtain ⟨w_111, h_111, hf⟩ := bind_e hf
              refine t_calll (vs := []) (rest := []) C hV hT (fun sz => mX4_pop l D d a N w_105.2  _ h_111 sz) (cwV 0 C.2.2.2.2 (lw_V q1658 q1660 qs97 q129 q1661) rfl rfl rfl hdX4_pop ⟨Nat.le_of_ble_eq_true rfl, Nat.le_of_ble_eq_true rfl⟩) rfl hl.1 rfl (Nat.le_of_ble_eq_true rfl) dX4_reckons_111 (fun H locs hT => ?_)
              refine lv_lstore (lv' := [(9, .long w_111.1), (7, .long w_105.1), (6, .int x6_47), (5, .int x5_30), (0, .ref (a 42)), (1, .int x1), (3, .int x3), (4, .int x4)]) hx hb dX4_reckons_114 hl (by decide) rfl (fun ls hl => ?_)
              refine lv_aload_n hx hb dX4_reckons_116 rfl (lv_at hl 4 rfl) ?_
              refine lv_iload hx hb dX4_reckons_117 (lv_at hl 3 rfl) ?_
              refine lv_lload hx hb dX4_reckons_119 (lv_at hl 0 rfl) ?_
              refine lv_lload hx hb dX4_reckons_121 (lv_at hl 1 rfl) ?_
              obtain ⟨w_123, h_123, hf⟩ := bind_e hf
              refine s_calll (vs := [.int x5_30, .long w_111.1, .long w_105.1]) (rest := [.ref (a 42)]) C (fun q h => Or.inr h) hT (fun sz => mX4_one l N x5_30 w_111.1 w_105.1 _ h_123 sz) (va_cwS 3 C.2.2.2.2 (lw_S q1662 q1663 q129 q1664) rfl rfl rfl hdX4_one ⟨Nat.le_of_ble_eq_true rfl, Nat.le_of_ble_eq_true rfl⟩) rfl hl.1 rfl (Nat.le_of_ble_eq_true rfl) dX4_reckons_123 ⟨Nat.zero_le _, Nat.zero_le _⟩ (fun H locs hT => ?_)
              obtain ⟨w_126, h_126, hf⟩ := bind_e hf
              refine t_callv (vs := [.long w_123]) (rest := []) C hV hT (fun sz => mX4_push l D d a N w_111.2 w_123 _ h_126 sz) (cwV 1 C.2.2.2.2 (lw_V q1654 q1656 qs96 q129 q1657) rfl rfl rfl hdX4_push ⟨Nat.le_of_ble_eq_true rfl, Nat.le_of_ble_eq_true rfl⟩) rfl hl.1 rfl (Nat.le_of_ble_eq_true rfl) dX4_reckons_126 (fun H locs hT => ?_)
              obtain ⟨x4_129, ex⟩ : ∃ y : Int32, y = (x4 + (1 : Int32)) := ⟨_, rfl⟩
              have hf := lett_e ex hf
              refine lv_iinc (v := x4_129) (lv' := [(4, .int x4_129), (9, .long w_111.1), (7, .long w_105.1), (6, .int x6_47), (5, .int x5_30), (0, .ref (a 42)), (1, .int x1), (3, .int x3)]) hx hb dX4_reckons_129 hl (k := 7) rfl (by rw [ex]; rfl) (by decide) rfl (fun ls hl => ?_)
              refine lv_goto (tgt := 8) hx hb dX4_reckons_132 (by decide) ?_
              exact ih w_126 x1 x3 x4_129 _ _ _ hT (lv_sub hl [5, 6, 7, 0] rfl) hf
            · have hf := ite_f (fun q => q hc) hf
              refine lv_aload_n hx hb dX4_reckons_91 rfl (lv_at hl 2 rfl) ?_
              refine lv_lconst (v := 1) hx hb dX4_reckons_92 (by decide) ?_
              refine lv_aload_n hx hb dX4_reckons_93 rfl (lv_at hl 2 rfl) ?_
              obtain ⟨w_94, h_94, hf⟩ := bind_e hf
              refine t_calll (vs := []) (rest := [.long (1 : Int64), .ref (a 42)]) C hV hT (fun sz => mX4_pop l D d a N t  _ h_94 sz) (cwV 0 C.2.2.2.2 (lw_V q1658 q1660 qs97 q129 q1661) rfl rfl rfl hdX4_pop ⟨Nat.le_of_ble_eq_true rfl, Nat.le_of_ble_eq_true rfl⟩) rfl hl.1 rfl (Nat.le_of_ble_eq_true rfl) dX4_reckons_94 (fun H locs hT => ?_)
              refine lv_lsub hx hb dX4_reckons_97 ?_
              obtain ⟨w_98, h_98, hf⟩ := bind_e hf
              refine t_callv (vs := [.long ((1 : Int64) - w_94.1)]) (rest := []) C hV hT (fun sz => mX4_push l D d a N w_94.2 ((1 : Int64) - w_94.1) _ h_98 sz) (cwV 1 C.2.2.2.2 (lw_V q1654 q1656 qs96 q129 q1657) rfl rfl rfl hdX4_push ⟨Nat.le_of_ble_eq_true rfl, Nat.le_of_ble_eq_true rfl⟩) rfl hl.1 rfl (Nat.le_of_ble_eq_true rfl) dX4_reckons_98 (fun H locs hT => ?_)
              refine lv_goto (tgt := 129) hx hb dX4_reckons_101 (by decide) ?_
              obtain ⟨x4_129, ex⟩ : ∃ y : Int32, y = (x4 + (1 : Int32)) := ⟨_, rfl⟩
              have hf := lett_e ex hf
              refine lv_iinc (v := x4_129) (lv' := [(4, .int x4_129), (6, .int x6_47), (5, .int x5_30), (0, .ref (a 42)), (1, .int x1), (3, .int x3)]) hx hb dX4_reckons_129 hl (k := 5) rfl (by rw [ex]; rfl) (by decide) rfl (fun ls hl => ?_)
              refine lv_goto (tgt := 8) hx hb dX4_reckons_132 (by decide) ?_
              exact ih w_98 x1 x3 x4_129 _ _ _ hT (lv_sub hl [3, 4, 5, 0] rfl) hf
          · have hf := ite_f (fun q => q hc) hf
            refine lv_aload_n hx hb dX4_reckons_70 rfl (lv_at hl 2 rfl) ?_
            refine lv_aload_n hx hb dX4_reckons_71 rfl (lv_at hl 2 rfl) ?_
            refine t_get C hV hT 19 (by decide) q1266 rfl dX4_reckons_72 ?_
            refine lv_iload hx hb dX4_reckons_75 (lv_at hl 0 rfl) ?_
            obtain ⟨hi, hf⟩ := ix_e hf
            refine g_lld C hV hT 9 _ rfl hi rfl dX4_reckons_77 ?_
            obtain ⟨w_78, h_78, hf⟩ := bind_e hf
            refine t_callv (vs := [.long (t.2.2.2 19 (x6_47).toNatClampNeg)]) (rest := []) C hV hT (fun sz => mX4_push l D d a N t (t.2.2.2 19 (x6_47).toNatClampNeg) _ h_78 sz) (cwV 1 C.2.2.2.2 (lw_V q1654 q1656 qs96 q129 q1657) rfl rfl rfl hdX4_push ⟨Nat.le_of_ble_eq_true rfl, Nat.le_of_ble_eq_true rfl⟩) rfl hl.1 rfl (Nat.le_of_ble_eq_true rfl) dX4_reckons_78 (fun H locs hT => ?_)
            refine lv_goto (tgt := 129) hx hb dX4_reckons_81 (by decide) ?_
            obtain ⟨x4_129, ex⟩ : ∃ y : Int32, y = (x4 + (1 : Int32)) := ⟨_, rfl⟩
            have hf := lett_e ex hf
            refine lv_iinc (v := x4_129) (lv' := [(4, .int x4_129), (6, .int x6_47), (5, .int x5_30), (0, .ref (a 42)), (1, .int x1), (3, .int x3)]) hx hb dX4_reckons_129 hl (k := 5) rfl (by rw [ex]; rfl) (by decide) rfl (fun ls hl => ?_)
            refine lv_goto (tgt := 8) hx hb dX4_reckons_132 (by decide) ?_
            exact ih w_78 x1 x3 x4_129 _ _ _ hT (lv_sub hl [3, 4, 5, 0] rfl) hf
        · have hf := ite_f (fun q => q hc) hf
          refine lv_aload_n hx hb dX4_reckons_54 rfl (lv_at hl 2 rfl) ?_
          refine lv_iload hx hb dX4_reckons_55 (lv_at hl 0 rfl) ?_
          refine lv_i2l hx hb dX4_reckons_57 rfl ?_
          obtain ⟨w_58, h_58, hf⟩ := bind_e hf
          refine t_callv (vs := [.long (x6_47).toInt64]) (rest := []) C hV hT (fun sz => mX4_push l D d a N t (x6_47).toInt64 _ h_58 sz) (cwV 1 C.2.2.2.2 (lw_V q1654 q1656 qs96 q129 q1657) rfl rfl rfl hdX4_push ⟨Nat.le_of_ble_eq_true rfl, Nat.le_of_ble_eq_true rfl⟩) rfl hl.1 rfl (Nat.le_of_ble_eq_true rfl) dX4_reckons_58 (fun H locs hT => ?_)
          refine lv_goto (tgt := 129) hx hb dX4_reckons_61 (by decide) ?_
          obtain ⟨x4_129, ex⟩ : ∃ y : Int32, y = (x4 + (1 : Int32)) := ⟨_, rfl⟩
          have hf := lett_e ex hf
          refine lv_iinc (v := x4_129) (lv' := [(4, .int x4_129), (6, .int x6_47), (5, .int x5_30), (0, .ref (a 42)), (1, .int x1), (3, .int x3)]) hx hb dX4_reckons_129 hl (k := 5) rfl (by rw [ex]; rfl) (by decide) rfl (fun ls hl => ?_)
          refine lv_goto (tgt := 8) hx hb dX4_reckons_132 (by decide) ?_
          exact ih w_58 x1 x3 x4_129 _ _ _ hT (lv_sub hl [3, 4, 5, 0] rfl) hf
  refine W.eq (by rw [hargs]) (t_in (vs := [.ref (a 42), .int x1, .int x2, .int x3]) (n := 11) (Nat.le_of_ble_eq_true rfl) (fun ls hl => ?_))
  have hl : lv_has ls 11 [(0, .ref (a 42)), (1, .int x1), (2, .int x2), (3, .int x3)] := hl
  unfold fX4_reckons at hf
  skip
  refine lv_aload_n hx hb dX4_reckons_0 rfl (lv_at hl 0 rfl) ?_
  refine lv_iconst (v := 0) hx hb dX4_reckons_1 (by decide) ?_
  refine t_put C hV hT 18 (by decide) q1265 (tset_18 a t _) rfl rfl dX4_reckons_2 (fun t_2 H locs et hT => ?_)
  have hf := lett_e et hf
  refine lv_iload_n hx hb dX4_reckons_5 rfl (lv_at hl 2 rfl) ?_
  refine lv_istore (lv' := [(4, .int x2), (0, .ref (a 42)), (1, .int x1), (2, .int x2), (3, .int x3)]) hx hb dX4_reckons_6 hl (by decide) rfl (fun ls hl => ?_)
  refine hL8 _ (fun t H locs ls hT hl hf => ?_) N t_2 x1 x3 x2 _ _ _ hT (lv_sub hl [1, 2, 4, 0] rfl) hf
  refine lv_aload_n hx hb dX4_reckons_135 rfl (lv_at hl 0 rfl) ?_
  obtain ⟨w_136, h_136, hf⟩ := bind_e hf
  refine t_calll (vs := []) (rest := []) C hV hT (fun sz => mX4_pop l D d a N t  _ h_136 sz) (cwV 0 C.2.2.2.2 (lw_V q1658 q1660 qs97 q129 q1661) rfl rfl rfl hdX4_pop ⟨Nat.le_of_ble_eq_true rfl, Nat.le_of_ble_eq_true rfl⟩) rfl hl.1 rfl (Nat.le_of_ble_eq_true rfl) dX4_reckons_136 (fun H locs hT => ?_)
  exact t_lret C hT hf hr hlocks dX4_reckons_139
def fX4_summedBy_J58 (N : Nat) (K : TS → Option (Int64 × TS)) (kb : TS → Int32 → Int32 → Option (Int64 × TS)) (t : TS) (x1 : Int32) (x3 : Int32) : Option (Int64 × TS) :=
  (ix x3 288 (ix (x3 + (1 : Int32)) 288 ((fX4_reckons N t x1 (t.2.1 5 (x3).toNatClampNeg) (t.2.1 5 ((x3 + (1 : Int32))).toNatClampNeg)).bind fun w_74 => (some (w_74.1, w_74.2)))))
def fX4_summedBy_B2 (N : Nat) (K : TS → Option (Int64 × TS)) (kb : TS → Int32 → Int32 → Option (Int64 × TS)) (t : TS) (x1 : Int32) (x2 : Int32) : Option (Int64 × TS) :=
  (ix x1 6 (if (t.2.1 6 (x1).toNatClampNeg) ≤ x2 then (K t) else (lett (((48 : Int32) * x1) + ((4 : Int32) * x2)) fun x3_20 => (ix (x3_20 + (2 : Int32)) 288 (if (t.2.1 5 ((x3_20 + (2 : Int32))).toNatClampNeg) < 0 then (fX4_summedBy_J58 N K kb t x1 x3_20) else (ix (x3_20 + (2 : Int32)) 288 (ix (x3_20 + (3 : Int32)) 288 ((fX4_reckons N t x1 (t.2.1 5 ((x3_20 + (2 : Int32))).toNatClampNeg) (t.2.1 5 ((x3_20 + (3 : Int32))).toNatClampNeg)).bind fun w_50 => (if ¬ (lg_cmp w_50.1 (1 : Int64)) = 0 then (lett (x2 + (1 : Int32)) fun x2_78 => (kb w_50.2 x1 x2_78)) else (fX4_summedBy_J58 N K kb w_50.2 x1 x3_20))))))))))
def fX4_summedBy_L2 (N : Nat) (K : TS → Option (Int64 × TS)) : Nat → TS → Int32 → Int32 → Option (Int64 × TS)
  | 0 => fun _ _ _ => none
  | n + 1 => fun t x1 x2 => fX4_summedBy_B2 N K (fX4_summedBy_L2 N K n) t x1 x2
def fX4_summedBy (N : Nat) (t : TS) (x1 : Int32) : Option (Int64 × TS) :=
  (fX4_summedBy_L2 N (fun t => (some ((0 : Int64), t))) N t x1 (0 : Int32))
theorem hdX4_summedBy : yX4_summedBy.cls = RX4 ∧ yX4_summedBy.cls ≠ "java/lang/invoke/MethodHandle" ∧ yX4_summedBy.cls ≠ "java/lang/invoke/VarHandle" ∧ (parseMethodDescriptor yX4_summedBy.desc).map (fun d => d.parameters.length) = some 1 := by decide +kernel
set_option maxHeartbeats 4000000 in
theorem mX4_summedBy (l : Launch) (D : va_G) (d : Nat → ClassId) (a : Nat → Nat) (N : Nat) (t : TS) (x1 : Int32) (w : Int64 × TS) (hf : fX4_summedBy N t x1 = some w) (sz : Nat) : Met l yX4_summedBy (ws_ yX4_summedBy cX4_summedBy 4 (some .long)) (rm_ 2 54) (PcT D d a [.int x1] t sz) (QlT D d a w.1 w.2 sz) 0 0 (AT a sz) := by
  refine Met.ofW (cc := cX4_summedBy) (maxL := 4) (ret := (some .long)) plX4 rfl ?_
  intro p e s m args below meth c s₁ B hml hv
  obtain ⟨C, hV, hT, hr, hlocks, hargs, rfl⟩ := t_enter B hml rfl hv
  have hx := C.1
  have hb := C.2.1
  show W p l e (rm_ 2 54) s m args below meth c s.heap [] 0 0 (MQ below (QlT D d a w.1 w.2 s.heap.size) args s 0 0 (AT a s.heap.size)) _
  have hL2 : ∀ (K : TS → Option (Int64 × TS)), (∀ (t : TS) (H : Heap) (locs : List Loc) (ls : Array Slot), TH D (AT a s.heap.size) s.heap (wT d a t) H locs → lv_has ls 4 [] → K t = some w → W p l e (rm_ 2 54) s m args below meth c H locs 0 0 (MQ below (QlT D d a w.1 w.2 s.heap.size) args s 0 0 (AT a s.heap.size)) (F0 m 84 ls [])) → ∀ (n : Nat) (t : TS) (x1 : Int32) (x2 : Int32) (H : Heap) (locs : List Loc) (ls : Array Slot), TH D (AT a s.heap.size) s.heap (wT d a t) H locs → lv_has ls 4 [(0, .ref (a 42)), (1, .int x1), (2, .int x2)] → fX4_summedBy_L2 N K n t x1 x2 = some w → W p l e (rm_ 2 54) s m args below meth c H locs 0 0 (MQ below (QlT D d a w.1 w.2 s.heap.size) args s 0 0 (AT a s.heap.size)) (F0 m 2 ls []) := by
    intro K hE n
    induction n with
    | zero =>
      intro t x1 x2 H locs ls hT hl hf
      cases hf
    | succ n ih =>
      have hJ58 : ∀ (t : TS) (x1 : Int32) (x3 : Int32) (H : Heap) (locs : List Loc) (ls : Array Slot), TH D (AT a s.heap.size) s.heap (wT d a t) H locs → lv_has ls 4 [(0, .ref (a 42)), (1, .int x1), (3, .int x3)] → fX4_summedBy_J58 N K (fX4_summedBy_L2 N K n) t x1 x3 = some w → W p l e (rm_ 2 54) s m args below meth c H locs 0 0 (MQ below (QlT D d a w.1 w.2 s.heap.size) args s 0 0 (AT a s.heap.size)) (F0 m 58 ls []) := by
        intro t x1 x3 H locs ls hT hl hf
        unfold fX4_summedBy_J58 at hf
        refine lv_aload_n hx hb dX4_summedBy_58 rfl (lv_at hl 0 rfl) ?_
        refine lv_iload_n hx hb dX4_summedBy_59 rfl (lv_at hl 1 rfl) ?_
        refine lv_aload_n hx hb dX4_summedBy_60 rfl (lv_at hl 0 rfl) ?_
        refine t_get C hV hT 5 (by decide) q1252 rfl dX4_summedBy_61 ?_
        refine lv_iload_n hx hb dX4_summedBy_64 rfl (lv_at hl 2 rfl) ?_
        obtain ⟨hi, hf⟩ := ix_e hf
        refine g_ild C hV hT 4 _ rfl hi rfl dX4_summedBy_65 ?_
        refine lv_aload_n hx hb dX4_summedBy_66 rfl (lv_at hl 0 rfl) ?_
        refine t_get C hV hT 5 (by decide) q1252 rfl dX4_summedBy_67 ?_
        refine lv_iload_n hx hb dX4_summedBy_70 rfl (lv_at hl 2 rfl) ?_
        refine lv_iconst (v := 1) hx hb dX4_summedBy_71 (by decide) ?_
        refine lv_iadd hx hb dX4_summedBy_72 ?_
        obtain ⟨hi, hf⟩ := ix_e hf
        refine g_ild C hV hT 4 _ rfl hi rfl dX4_summedBy_73 ?_
        obtain ⟨w_74, h_74, hf⟩ := bind_e hf
        refine t_calll (vs := [.int x1, .int (t.2.1 5 (x3).toNatClampNeg), .int (t.2.1 5 ((x3 + (1 : Int32))).toNatClampNeg)]) (rest := []) C hV hT (fun sz => mX4_reckons l D d a N t x1 (t.2.1 5 (x3).toNatClampNeg) (t.2.1 5 ((x3 + (1 : Int32))).toNatClampNeg) _ h_74 sz) (cwV 3 C.2.2.2.2 (lw_V q1650 q1652 qs95 q129 q1653) rfl rfl rfl hdX4_reckons ⟨Nat.le_of_ble_eq_true rfl, Nat.le_of_ble_eq_true rfl⟩) rfl hl.1 rfl (Nat.le_of_ble_eq_true rfl) dX4_summedBy_74 (fun H locs hT => ?_)
        exact t_lret C hT hf hr hlocks dX4_summedBy_77
      intro t x1 x2 H locs ls hT hl hf
      replace hf : fX4_summedBy_B2 N K (fX4_summedBy_L2 N K n) t x1 x2 = some w := hf
      unfold fX4_summedBy_B2 at hf
      refine lv_iload_n hx hb dX4_summedBy_2 rfl (lv_at hl 2 rfl) ?_
      refine lv_aload_n hx hb dX4_summedBy_3 rfl (lv_at hl 0 rfl) ?_
      refine t_get C hV hT 6 (by decide) q1253 rfl dX4_summedBy_4 ?_
      refine lv_iload_n hx hb dX4_summedBy_7 rfl (lv_at hl 1 rfl) ?_
      obtain ⟨hi, hf⟩ := ix_e hf
      refine g_ild C hV hT 5 _ rfl hi rfl dX4_summedBy_8 ?_
      refine lv_icmp_ge (tgt := 84) hx hb dX4_summedBy_9 (by decide) (fun hc => ?_) (fun hc => ?_)
      · have hf := ite_t hc hf
        exact hE t _ _ _ hT (lv_sub hl [] rfl) hf
      · have hf := ite_f hc hf
        refine lv_bipush (v := 48) hx hb dX4_summedBy_12 (by decide) ?_
        refine lv_iload_n hx hb dX4_summedBy_14 rfl (lv_at hl 1 rfl) ?_
        refine lv_imul hx hb dX4_summedBy_15 ?_
        refine lv_iconst (v := 4) hx hb dX4_summedBy_16 (by decide) ?_
        refine lv_iload_n hx hb dX4_summedBy_17 rfl (lv_at hl 2 rfl) ?_
        refine lv_imul hx hb dX4_summedBy_18 ?_
        refine lv_iadd hx hb dX4_summedBy_19 ?_
        refine lv_topi (fun x3_20 ex => ?_)
        have hf := lett_e ex hf
        refine lv_istore_n (lv' := [(3, .int x3_20), (0, .ref (a 42)), (1, .int x1), (2, .int x2)]) hx hb dX4_summedBy_20 rfl hl (by decide) rfl (fun ls hl => ?_)
        refine lv_aload_n hx hb dX4_summedBy_21 rfl (lv_at hl 1 rfl) ?_
        refine t_get C hV hT 5 (by decide) q1252 rfl dX4_summedBy_22 ?_
        refine lv_iload_n hx hb dX4_summedBy_25 rfl (lv_at hl 0 rfl) ?_
        refine lv_iconst (v := 2) hx hb dX4_summedBy_26 (by decide) ?_
        refine lv_iadd hx hb dX4_summedBy_27 ?_
        obtain ⟨hi, hf⟩ := ix_e hf
        refine g_ild C hV hT 4 _ rfl hi rfl dX4_summedBy_28 ?_
        refine lv_if_lt (tgt := 58) hx hb dX4_summedBy_29 (by decide) (fun hc => ?_) (fun hc => ?_)
        · have hf := ite_t hc hf
          exact hJ58 t x1 x3_20 _ _ _ hT (lv_sub hl [1, 2, 0] rfl) hf
        · have hf := ite_f hc hf
          refine lv_aload_n hx hb dX4_summedBy_32 rfl (lv_at hl 1 rfl) ?_
          refine lv_iload_n hx hb dX4_summedBy_33 rfl (lv_at hl 2 rfl) ?_
          refine lv_aload_n hx hb dX4_summedBy_34 rfl (lv_at hl 1 rfl) ?_
          refine t_get C hV hT 5 (by decide) q1252 rfl dX4_summedBy_35 ?_
          refine lv_iload_n hx hb dX4_summedBy_38 rfl (lv_at hl 0 rfl) ?_
          refine lv_iconst (v := 2) hx hb dX4_summedBy_39 (by decide) ?_
          refine lv_iadd hx hb dX4_summedBy_40 ?_
          obtain ⟨hi, hf⟩ := ix_e hf
          refine g_ild C hV hT 4 _ rfl hi rfl dX4_summedBy_41 ?_
          refine lv_aload_n hx hb dX4_summedBy_42 rfl (lv_at hl 1 rfl) ?_
          refine t_get C hV hT 5 (by decide) q1252 rfl dX4_summedBy_43 ?_
          refine lv_iload_n hx hb dX4_summedBy_46 rfl (lv_at hl 0 rfl) ?_
          refine lv_iconst (v := 3) hx hb dX4_summedBy_47 (by decide) ?_
          refine lv_iadd hx hb dX4_summedBy_48 ?_
          obtain ⟨hi, hf⟩ := ix_e hf
          refine g_ild C hV hT 4 _ rfl hi rfl dX4_summedBy_49 ?_
          obtain ⟨w_50, h_50, hf⟩ := bind_e hf
          refine t_calll (vs := [.int x1, .int (t.2.1 5 ((x3_20 + (2 : Int32))).toNatClampNeg), .int (t.2.1 5 ((x3_20 + (3 : Int32))).toNatClampNeg)]) (rest := []) C hV hT (fun sz => mX4_reckons l D d a N t x1 (t.2.1 5 ((x3_20 + (2 : Int32))).toNatClampNeg) (t.2.1 5 ((x3_20 + (3 : Int32))).toNatClampNeg) _ h_50 sz) (cwV 3 C.2.2.2.2 (lw_V q1650 q1652 qs95 q129 q1653) rfl rfl rfl hdX4_reckons ⟨Nat.le_of_ble_eq_true rfl, Nat.le_of_ble_eq_true rfl⟩) rfl hl.1 rfl (Nat.le_of_ble_eq_true rfl) dX4_summedBy_50 (fun H locs hT => ?_)
          refine lv_lconst (v := 1) hx hb dX4_summedBy_53 (by decide) ?_
          refine W.lcmp hx hb dX4_summedBy_54 ?_
          refine lv_if_ne (tgt := 78) hx hb dX4_summedBy_55 (by decide) (fun hc => ?_) (fun hc => ?_)
          · have hf := ite_t hc hf
            obtain ⟨x2_78, ex⟩ : ∃ y : Int32, y = (x2 + (1 : Int32)) := ⟨_, rfl⟩
            have hf := lett_e ex hf
            refine lv_iinc (v := x2_78) (lv' := [(2, .int x2_78), (3, .int x3_20), (0, .ref (a 42)), (1, .int x1)]) hx hb dX4_summedBy_78 hl (k := 3) rfl (by rw [ex]; rfl) (by decide) rfl (fun ls hl => ?_)
            refine lv_goto (tgt := 2) hx hb dX4_summedBy_81 (by decide) ?_
            exact ih w_50.2 x1 x2_78 _ _ _ hT (lv_sub hl [2, 3, 0] rfl) hf
          · have hf := ite_f (fun q => q hc) hf
            exact hJ58 w_50.2 x1 x3_20 _ _ _ hT (lv_sub hl [1, 2, 0] rfl) hf
  refine W.eq (by rw [hargs]) (t_in (vs := [.ref (a 42), .int x1]) (n := 4) (Nat.le_of_ble_eq_true rfl) (fun ls hl => ?_))
  have hl : lv_has ls 4 [(0, .ref (a 42)), (1, .int x1)] := hl
  unfold fX4_summedBy at hf
  skip
  refine lv_iconst (v := 0) hx hb dX4_summedBy_0 (by decide) ?_
  refine lv_istore_n (lv' := [(2, .int (0 : Int32)), (0, .ref (a 42)), (1, .int x1)]) hx hb dX4_summedBy_1 rfl hl (by decide) rfl (fun ls hl => ?_)
  refine hL2 _ (fun t H locs ls hT hl hf => ?_) N t x1 (0 : Int32) _ _ _ hT (lv_sub hl [1, 2, 0] rfl) hf
  refine lv_lconst (v := 0) hx hb dX4_summedBy_84 (by decide) ?_
  exact t_lret C hT hf hr hlocks dX4_summedBy_85
def fX4_isLetBy_J88 (N : Nat) (t : TS) (x1 : Int32) (x2 : Int32) (s0 : Int64) (s1 : Int32) : Option (Int32 × TS) :=
  (ix s1 12 (lett (tsM t 19 (s1).toNatClampNeg s0) fun t_88 => ((fX4_bits N x2).bind fun w_95 => (lett (tsM t_88 19 5 (w_95).toInt64) fun t_99 => ((fX4_soundOf N t_99 (x2 ||| ((1 : Int32) <<< (x1 &&& 31)))).bind fun w_112 => ((fX4_soundOf N w_112.2 x2).bind fun w_117 => (lett (tsM w_117.2 19 6 ((w_112.1 - w_117.1)).toInt64) fun t_122 => ((fX4_sinceOf N t_122 x1).bind fun w_131 => (lett (tsM w_131.2 19 7 (w_131.1).toInt64) fun t_135 => ((fX4_wentFrom N t_135 x1).bind fun w_144 => (lett (tsM w_144.2 19 8 (w_144.1).toInt64) fun t_148 => ((fX4_sumOver N t_148 (0 : Int32)).bind fun w_157 => (lett (tsM w_157.2 19 9 (w_157.1).toInt64) fun t_161 => ((fX4_beatOfBar N t_161 ).bind fun w_169 => (lett (tsM w_169.2 19 10 (w_169.1).toInt64) fun t_173 => (nz (t_173.2.1 20 1) (lett (tsM t_173 19 11 (((t_173.2.1 20 10) / (t_173.2.1 20 1))).toInt64) fun t_195 => ((fX4_summedBy N t_195 (t_195.1 21)).bind fun w_201 => (if (lg_cmp w_201.1 (0 : Int64)) ≤ 0 then (some ((0 : Int32), w_201.2)) else (some ((1 : Int32), w_201.2)))))))))))))))))))))
def fX4_isLetBy (N : Nat) (t : TS) (x1 : Int32) (x2 : Int32) : Option (Int32 × TS) :=
  ((fX4_beatOfBar N t ).bind fun w_7 => (ix ((41 : Int32) + w_7.1) 121 ((fX4_isOf N (w_7.2.2.1 20 (((41 : Int32) + w_7.1)).toNatClampNeg) x1).bind fun w_13 => (if 0 ≤ (w_7.2.1 21) then (lett (tsM w_7.2 19 0 (x1).toInt64) fun t_33 => ((fX4_waitOn N t_33 x1).bind fun w_41 => (lett (tsM w_41.2 19 1 (w_41.1).toInt64) fun t_45 => (ix ((54 : Int32) + x1) 121 (lett (tsM t_45 19 2 ((t_45.2.1 20 (((54 : Int32) + x1)).toNatClampNeg)).toInt64) fun t_61 => ((fX4_partOf N t_61 x1).bind fun w_69 => (lett (tsM w_69.2 19 3 (w_69.1).toInt64) fun t_73 => (if w_13 = 0 then (fX4_isLetBy_J88 N t_73 x1 x2 (0 : Int64) (4 : Int32)) else (fX4_isLetBy_J88 N t_73 x1 x2 (1 : Int64) (4 : Int32)))))))))) else (ckz w_13 (some (w_13, w_7.2)))))))
theorem hdX4_isLetBy : yX4_isLetBy.cls = RX4 ∧ yX4_isLetBy.cls ≠ "java/lang/invoke/MethodHandle" ∧ yX4_isLetBy.cls ≠ "java/lang/invoke/VarHandle" ∧ (parseMethodDescriptor yX4_isLetBy.desc).map (fun d => d.parameters.length) = some 2 := by decide +kernel
set_option maxHeartbeats 4000000 in
theorem mX4_isLetBy (l : Launch) (D : va_G) (d : Nat → ClassId) (a : Nat → Nat) (N : Nat) (t : TS) (x1 : Int32) (x2 : Int32) (w : Int32 × TS) (hf : fX4_isLetBy N t x1 x2 = some w) (sz : Nat) : Met l yX4_isLetBy (ws_ yX4_isLetBy cX4_isLetBy 4 (some .boolean)) (rm_ 3 77) (PcT D d a [.int x1, .int x2] t sz) (QiT D d a w.1 w.2 sz) 0 0 (AT a sz) := by
  refine Met.ofW (cc := cX4_isLetBy) (maxL := 4) (ret := (some .boolean)) plX4 rfl ?_
  intro p e s m args below meth c s₁ B hml hv
  obtain ⟨C, hV, hT, hr, hlocks, hargs, rfl⟩ := t_enter B hml rfl hv
  have hx := C.1
  have hb := C.2.1
  show W p l e (rm_ 3 77) s m args below meth c s.heap [] 0 0 (MQ below (QiT D d a w.1 w.2 s.heap.size) args s 0 0 (AT a s.heap.size)) _
  have hJ88 : ∀ (t : TS) (x1 : Int32) (x2 : Int32) (s0 : Int64) (s1 : Int32) (H : Heap) (locs : List Loc) (ls : Array Slot), TH D (AT a s.heap.size) s.heap (wT d a t) H locs → lv_has ls 4 [(0, .ref (a 42)), (1, .int x1), (2, .int x2)] → fX4_isLetBy_J88 N t x1 x2 s0 s1 = some w → W p l e (rm_ 3 77) s m args below meth c H locs 0 0 (MQ below (QiT D d a w.1 w.2 s.heap.size) args s 0 0 (AT a s.heap.size)) (F0 m 88 ls [.long s0, .int s1, .ref (a 19)]) := by
    intro t x1 x2 s0 s1 H locs ls hT hl hf
    unfold fX4_isLetBy_J88 at hf
    obtain ⟨hi, hf⟩ := ix_e hf
    refine t_lst C hV hT 9 _ rfl hi rfl (tast_19 d a t _ _) dX4_isLetBy_88 (fun t_88 H locs et hT => ?_)
    have hf := lett_e et hf
    refine lv_aload_n hx hb dX4_isLetBy_89 rfl (lv_at hl 0 rfl) ?_
    refine t_get C hV hT 19 (by decide) q1266 rfl dX4_isLetBy_90 ?_
    refine lv_iconst (v := 5) hx hb dX4_isLetBy_93 (by decide) ?_
    refine lv_iload_n hx hb dX4_isLetBy_94 rfl (lv_at hl 2 rfl) ?_
    obtain ⟨w_95, h_95, hf⟩ := bind_e hf
    refine s_calli (vs := [.int x2]) (rest := [.int (5 : Int32), .ref (a 19)]) C (fun q h => Or.inr h) hT (fun sz => mX4_bits l N x2 _ h_95 sz) (va_cwS 1 C.2.2.2.2 (lw_S q1632 q1633 q129 q1634) rfl rfl rfl hdX4_bits ⟨Nat.le_of_ble_eq_true rfl, Nat.le_of_ble_eq_true rfl⟩) rfl hl.1 rfl (Nat.le_of_ble_eq_true rfl) dX4_isLetBy_95 ⟨Nat.zero_le _, Nat.zero_le _⟩ (fun H locs hT => ?_)
    refine lv_i2l hx hb dX4_isLetBy_98 rfl ?_
    refine t_lst C hV hT 9 5 rfl (vin_of (by decide)) (by decide) (tast_19 d a t_88 _ _) dX4_isLetBy_99 (fun t_99 H locs et hT => ?_)
    have hf := lett_e et hf
    refine lv_aload_n hx hb dX4_isLetBy_100 rfl (lv_at hl 0 rfl) ?_
    refine t_get C hV hT 19 (by decide) q1266 rfl dX4_isLetBy_101 ?_
    refine lv_bipush (v := 6) hx hb dX4_isLetBy_104 (by decide) ?_
    refine lv_aload_n hx hb dX4_isLetBy_106 rfl (lv_at hl 0 rfl) ?_
    refine lv_iload_n hx hb dX4_isLetBy_107 rfl (lv_at hl 2 rfl) ?_
    refine lv_iconst (v := 1) hx hb dX4_isLetBy_108 (by decide) ?_
    refine lv_iload_n hx hb dX4_isLetBy_109 rfl (lv_at hl 1 rfl) ?_
    refine lv_ishl hx hb dX4_isLetBy_110 ?_
    refine lv_ior hx hb dX4_isLetBy_111 ?_
    obtain ⟨w_112, h_112, hf⟩ := bind_e hf
    refine t_calli (vs := [.int (x2 ||| ((1 : Int32) <<< (x1 &&& 31)))]) (rest := [.int (6 : Int32), .ref (a 19)]) C hV hT (fun sz => mX4_soundOf l D d a N t_99 (x2 ||| ((1 : Int32) <<< (x1 &&& 31))) _ h_112 sz) (cwV 1 C.2.2.2.2 (lw_V q1635 q1637 qs92 q129 q1638) rfl rfl rfl hdX4_soundOf ⟨Nat.le_of_ble_eq_true rfl, Nat.le_of_ble_eq_true rfl⟩) rfl hl.1 rfl (Nat.le_of_ble_eq_true rfl) dX4_isLetBy_112 (fun H locs hT => ?_)
    refine lv_aload_n hx hb dX4_isLetBy_115 rfl (lv_at hl 0 rfl) ?_
    refine lv_iload_n hx hb dX4_isLetBy_116 rfl (lv_at hl 2 rfl) ?_
    obtain ⟨w_117, h_117, hf⟩ := bind_e hf
    refine t_calli (vs := [.int x2]) (rest := [.int w_112.1, .int (6 : Int32), .ref (a 19)]) C hV hT (fun sz => mX4_soundOf l D d a N w_112.2 x2 _ h_117 sz) (cwV 1 C.2.2.2.2 (lw_V q1635 q1637 qs92 q129 q1638) rfl rfl rfl hdX4_soundOf ⟨Nat.le_of_ble_eq_true rfl, Nat.le_of_ble_eq_true rfl⟩) rfl hl.1 rfl (Nat.le_of_ble_eq_true rfl) dX4_isLetBy_117 (fun H locs hT => ?_)
    refine lv_isub hx hb dX4_isLetBy_120 ?_
    refine lv_i2l hx hb dX4_isLetBy_121 rfl ?_
    refine t_lst C hV hT 9 6 rfl (vin_of (by decide)) (by decide) (tast_19 d a w_117.2 _ _) dX4_isLetBy_122 (fun t_122 H locs et hT => ?_)
    have hf := lett_e et hf
    refine lv_aload_n hx hb dX4_isLetBy_123 rfl (lv_at hl 0 rfl) ?_
    refine t_get C hV hT 19 (by decide) q1266 rfl dX4_isLetBy_124 ?_
    refine lv_bipush (v := 7) hx hb dX4_isLetBy_127 (by decide) ?_
    refine lv_aload_n hx hb dX4_isLetBy_129 rfl (lv_at hl 0 rfl) ?_
    refine lv_iload_n hx hb dX4_isLetBy_130 rfl (lv_at hl 1 rfl) ?_
    obtain ⟨w_131, h_131, hf⟩ := bind_e hf
    refine t_calli (vs := [.int x1]) (rest := [.int (7 : Int32), .ref (a 19)]) C hV hT (fun sz => mX4_sinceOf l D d a N t_122 x1 _ h_131 sz) (cwV 1 C.2.2.2.2 (lw_V q1581 q1583 qs83 q129 q1584) rfl rfl rfl hdX4_sinceOf ⟨Nat.le_of_ble_eq_true rfl, Nat.le_of_ble_eq_true rfl⟩) rfl hl.1 rfl (Nat.le_of_ble_eq_true rfl) dX4_isLetBy_131 (fun H locs hT => ?_)
    refine lv_i2l hx hb dX4_isLetBy_134 rfl ?_
    refine t_lst C hV hT 9 7 rfl (vin_of (by decide)) (by decide) (tast_19 d a w_131.2 _ _) dX4_isLetBy_135 (fun t_135 H locs et hT => ?_)
    have hf := lett_e et hf
    refine lv_aload_n hx hb dX4_isLetBy_136 rfl (lv_at hl 0 rfl) ?_
    refine t_get C hV hT 19 (by decide) q1266 rfl dX4_isLetBy_137 ?_
    refine lv_bipush (v := 8) hx hb dX4_isLetBy_140 (by decide) ?_
    refine lv_aload_n hx hb dX4_isLetBy_142 rfl (lv_at hl 0 rfl) ?_
    refine lv_iload_n hx hb dX4_isLetBy_143 rfl (lv_at hl 1 rfl) ?_
    obtain ⟨w_144, h_144, hf⟩ := bind_e hf
    refine t_calli (vs := [.int x1]) (rest := [.int (8 : Int32), .ref (a 19)]) C hV hT (fun sz => mX4_wentFrom l D d a N t_135 x1 _ h_144 sz) (cwV 1 C.2.2.2.2 (lw_V q1573 q1575 qs81 q129 q1576) rfl rfl rfl hdX4_wentFrom ⟨Nat.le_of_ble_eq_true rfl, Nat.le_of_ble_eq_true rfl⟩) rfl hl.1 rfl (Nat.le_of_ble_eq_true rfl) dX4_isLetBy_144 (fun H locs hT => ?_)
    refine lv_i2l hx hb dX4_isLetBy_147 rfl ?_
    refine t_lst C hV hT 9 8 rfl (vin_of (by decide)) (by decide) (tast_19 d a w_144.2 _ _) dX4_isLetBy_148 (fun t_148 H locs et hT => ?_)
    have hf := lett_e et hf
    refine lv_aload_n hx hb dX4_isLetBy_149 rfl (lv_at hl 0 rfl) ?_
    refine t_get C hV hT 19 (by decide) q1266 rfl dX4_isLetBy_150 ?_
    refine lv_bipush (v := 9) hx hb dX4_isLetBy_153 (by decide) ?_
    refine lv_aload_n hx hb dX4_isLetBy_155 rfl (lv_at hl 0 rfl) ?_
    refine lv_iconst (v := 0) hx hb dX4_isLetBy_156 (by decide) ?_
    obtain ⟨w_157, h_157, hf⟩ := bind_e hf
    refine t_calli (vs := [.int (0 : Int32)]) (rest := [.int (9 : Int32), .ref (a 19)]) C hV hT (fun sz => mX4_sumOver l D d a N t_148 (0 : Int32) _ h_157 sz) (cwV 1 C.2.2.2.2 (lw_V q1642 q1644 qs93 q129 q1645) rfl rfl rfl hdX4_sumOver ⟨Nat.le_of_ble_eq_true rfl, Nat.le_of_ble_eq_true rfl⟩) rfl hl.1 rfl (Nat.le_of_ble_eq_true rfl) dX4_isLetBy_157 (fun H locs hT => ?_)
    refine lv_i2l hx hb dX4_isLetBy_160 rfl ?_
    refine t_lst C hV hT 9 9 rfl (vin_of (by decide)) (by decide) (tast_19 d a w_157.2 _ _) dX4_isLetBy_161 (fun t_161 H locs et hT => ?_)
    have hf := lett_e et hf
    refine lv_aload_n hx hb dX4_isLetBy_162 rfl (lv_at hl 0 rfl) ?_
    refine t_get C hV hT 19 (by decide) q1266 rfl dX4_isLetBy_163 ?_
    refine lv_bipush (v := 10) hx hb dX4_isLetBy_166 (by decide) ?_
    refine lv_aload_n hx hb dX4_isLetBy_168 rfl (lv_at hl 0 rfl) ?_
    obtain ⟨w_169, h_169, hf⟩ := bind_e hf
    refine t_calli (vs := []) (rest := [.int (10 : Int32), .ref (a 19)]) C hV hT (fun sz => mX4_beatOfBar l D d a N t_161  _ h_169 sz) (cwV 0 C.2.2.2.2 (lw_V q1625 q1627 qs91 q129 q1628) rfl rfl rfl hdX4_beatOfBar ⟨Nat.le_of_ble_eq_true rfl, Nat.le_of_ble_eq_true rfl⟩) rfl hl.1 rfl (Nat.le_of_ble_eq_true rfl) dX4_isLetBy_169 (fun H locs hT => ?_)
    refine lv_i2l hx hb dX4_isLetBy_172 rfl ?_
    refine t_lst C hV hT 9 10 rfl (vin_of (by decide)) (by decide) (tast_19 d a w_169.2 _ _) dX4_isLetBy_173 (fun t_173 H locs et hT => ?_)
    have hf := lett_e et hf
    refine lv_aload_n hx hb dX4_isLetBy_174 rfl (lv_at hl 0 rfl) ?_
    refine t_get C hV hT 19 (by decide) q1266 rfl dX4_isLetBy_175 ?_
    refine lv_bipush (v := 11) hx hb dX4_isLetBy_178 (by decide) ?_
    refine lv_aload_n hx hb dX4_isLetBy_180 rfl (lv_at hl 0 rfl) ?_
    refine t_get C hV hT 20 (by decide) q1267 rfl dX4_isLetBy_181 ?_
    refine lv_bipush (v := 10) hx hb dX4_isLetBy_184 (by decide) ?_
    refine g_ild C hV hT 10 10 rfl (vin_of (by decide)) (by decide) dX4_isLetBy_186 ?_
    refine lv_aload_n hx hb dX4_isLetBy_187 rfl (lv_at hl 0 rfl) ?_
    refine t_get C hV hT 20 (by decide) q1267 rfl dX4_isLetBy_188 ?_
    refine lv_iconst (v := 1) hx hb dX4_isLetBy_191 (by decide) ?_
    refine g_ild C hV hT 10 1 rfl (vin_of (by decide)) (by decide) dX4_isLetBy_192 ?_
    obtain ⟨hn, hf⟩ := nz_e hf
    refine lv_idiv hx hb dX4_isLetBy_193 hn ?_
    refine lv_i2l hx hb dX4_isLetBy_194 rfl ?_
    refine t_lst C hV hT 9 11 rfl (vin_of (by decide)) (by decide) (tast_19 d a t_173 _ _) dX4_isLetBy_195 (fun t_195 H locs et hT => ?_)
    have hf := lett_e et hf
    refine lv_aload_n hx hb dX4_isLetBy_196 rfl (lv_at hl 0 rfl) ?_
    refine lv_aload_n hx hb dX4_isLetBy_197 rfl (lv_at hl 0 rfl) ?_
    refine t_get C hV hT 21 (by decide) q1268 rfl dX4_isLetBy_198 ?_
    obtain ⟨w_201, h_201, hf⟩ := bind_e hf
    refine t_calll (vs := [.int (t_195.1 21)]) (rest := []) C hV hT (fun sz => mX4_summedBy l D d a N t_195 (t_195.1 21) _ h_201 sz) (cwV 1 C.2.2.2.2 (lw_V q1646 q1648 qs94 q129 q1649) rfl rfl rfl hdX4_summedBy ⟨Nat.le_of_ble_eq_true rfl, Nat.le_of_ble_eq_true rfl⟩) rfl hl.1 rfl (Nat.le_of_ble_eq_true rfl) dX4_isLetBy_201 (fun H locs hT => ?_)
    refine lv_lconst (v := 0) hx hb dX4_isLetBy_204 (by decide) ?_
    refine W.lcmp hx hb dX4_isLetBy_205 ?_
    refine lv_if_le (tgt := 213) hx hb dX4_isLetBy_206 (by decide) (fun hc => ?_) (fun hc => ?_)
    · have hf := ite_t hc hf
      refine lv_iconst (v := 0) hx hb dX4_isLetBy_213 (by decide) ?_
      exact t_zret C hT hf (Or.inl rfl) hr hlocks dX4_isLetBy_214
    · have hf := ite_f hc hf
      refine lv_iconst (v := 1) hx hb dX4_isLetBy_209 (by decide) ?_
      refine lv_goto (tgt := 214) hx hb dX4_isLetBy_210 (by decide) ?_
      exact t_zret C hT hf (Or.inr rfl) hr hlocks dX4_isLetBy_214
  refine W.eq (by rw [hargs]) (t_in (vs := [.ref (a 42), .int x1, .int x2]) (n := 4) (Nat.le_of_ble_eq_true rfl) (fun ls hl => ?_))
  have hl : lv_has ls 4 [(0, .ref (a 42)), (1, .int x1), (2, .int x2)] := hl
  unfold fX4_isLetBy at hf
  skip
  refine lv_aload_n hx hb dX4_isLetBy_0 rfl (lv_at hl 0 rfl) ?_
  refine t_get C hV hT 20 (by decide) q1267 rfl dX4_isLetBy_1 ?_
  refine lv_bipush (v := 41) hx hb dX4_isLetBy_4 (by decide) ?_
  refine lv_aload_n hx hb dX4_isLetBy_6 rfl (lv_at hl 0 rfl) ?_
  obtain ⟨w_7, h_7, hf⟩ := bind_e hf
  refine t_calli (vs := []) (rest := [.int (41 : Int32), .ref (a 20)]) C hV hT (fun sz => mX4_beatOfBar l D d a N t  _ h_7 sz) (cwV 0 C.2.2.2.2 (lw_V q1625 q1627 qs91 q129 q1628) rfl rfl rfl hdX4_beatOfBar ⟨Nat.le_of_ble_eq_true rfl, Nat.le_of_ble_eq_true rfl⟩) rfl hl.1 rfl (Nat.le_of_ble_eq_true rfl) dX4_isLetBy_7 (fun H locs hT => ?_)
  refine lv_iadd hx hb dX4_isLetBy_10 ?_
  obtain ⟨hi, hf⟩ := ix_e hf
  refine g_ild C hV hT 10 _ rfl hi rfl dX4_isLetBy_11 ?_
  refine lv_iload_n hx hb dX4_isLetBy_12 rfl (lv_at hl 1 rfl) ?_
  obtain ⟨w_13, h_13, hf⟩ := bind_e hf
  refine s_calli (vs := [.int (w_7.2.2.1 20 (((41 : Int32) + w_7.1)).toNatClampNeg), .int x1]) (rest := []) C (fun q h => Or.inr h) hT (fun sz => mX4_isOf l N (w_7.2.2.1 20 (((41 : Int32) + w_7.1)).toNatClampNeg) x1 _ h_13 sz) (va_cwS 2 C.2.2.2.2 (lw_S q1629 q1630 q129 q1631) rfl rfl rfl hdX4_isOf ⟨Nat.le_of_ble_eq_true rfl, Nat.le_of_ble_eq_true rfl⟩) rfl hl.1 rfl (Nat.le_of_ble_eq_true rfl) dX4_isLetBy_13 ⟨Nat.zero_le _, Nat.zero_le _⟩ (fun H locs hT => ?_)
  refine lv_istore_n (lv' := [(3, .int w_13), (0, .ref (a 42)), (1, .int x1), (2, .int x2)]) hx hb dX4_isLetBy_16 rfl hl (by decide) rfl (fun ls hl => ?_)
  refine lv_aload_n hx hb dX4_isLetBy_17 rfl (lv_at hl 1 rfl) ?_
  refine t_get C hV hT 21 (by decide) q1268 rfl dX4_isLetBy_18 ?_
  refine lv_if_ge (tgt := 26) hx hb dX4_isLetBy_21 (by decide) (fun hc => ?_) (fun hc => ?_)
  · have hf := ite_t hc hf
    refine lv_aload_n hx hb dX4_isLetBy_26 rfl (lv_at hl 1 rfl) ?_
    refine t_get C hV hT 19 (by decide) q1266 rfl dX4_isLetBy_27 ?_
    refine lv_iconst (v := 0) hx hb dX4_isLetBy_30 (by decide) ?_
    refine lv_iload_n hx hb dX4_isLetBy_31 rfl (lv_at hl 2 rfl) ?_
    refine lv_i2l hx hb dX4_isLetBy_32 rfl ?_
    refine t_lst C hV hT 9 0 rfl (vin_of (by decide)) (by decide) (tast_19 d a w_7.2 _ _) dX4_isLetBy_33 (fun t_33 H locs et hT => ?_)
    have hf := lett_e et hf
    refine lv_aload_n hx hb dX4_isLetBy_34 rfl (lv_at hl 1 rfl) ?_
    refine t_get C hV hT 19 (by decide) q1266 rfl dX4_isLetBy_35 ?_
    refine lv_iconst (v := 1) hx hb dX4_isLetBy_38 (by decide) ?_
    refine lv_aload_n hx hb dX4_isLetBy_39 rfl (lv_at hl 1 rfl) ?_
    refine lv_iload_n hx hb dX4_isLetBy_40 rfl (lv_at hl 2 rfl) ?_
    obtain ⟨w_41, h_41, hf⟩ := bind_e hf
    refine t_calli (vs := [.int x1]) (rest := [.int (1 : Int32), .ref (a 19)]) C hV hT (fun sz => mX4_waitOn l D d a N t_33 x1 _ h_41 sz) (cwV 1 C.2.2.2.2 (lw_V q1565 q1567 qs79 q129 q1568) rfl rfl rfl hdX4_waitOn ⟨Nat.le_of_ble_eq_true rfl, Nat.le_of_ble_eq_true rfl⟩) rfl hl.1 rfl (Nat.le_of_ble_eq_true rfl) dX4_isLetBy_41 (fun H locs hT => ?_)
    refine lv_i2l hx hb dX4_isLetBy_44 rfl ?_
    refine t_lst C hV hT 9 1 rfl (vin_of (by decide)) (by decide) (tast_19 d a w_41.2 _ _) dX4_isLetBy_45 (fun t_45 H locs et hT => ?_)
    have hf := lett_e et hf
    refine lv_aload_n hx hb dX4_isLetBy_46 rfl (lv_at hl 1 rfl) ?_
    refine t_get C hV hT 19 (by decide) q1266 rfl dX4_isLetBy_47 ?_
    refine lv_iconst (v := 2) hx hb dX4_isLetBy_50 (by decide) ?_
    refine lv_aload_n hx hb dX4_isLetBy_51 rfl (lv_at hl 1 rfl) ?_
    refine t_get C hV hT 20 (by decide) q1267 rfl dX4_isLetBy_52 ?_
    refine lv_bipush (v := 54) hx hb dX4_isLetBy_55 (by decide) ?_
    refine lv_iload_n hx hb dX4_isLetBy_57 rfl (lv_at hl 2 rfl) ?_
    refine lv_iadd hx hb dX4_isLetBy_58 ?_
    obtain ⟨hi, hf⟩ := ix_e hf
    refine g_ild C hV hT 10 _ rfl hi rfl dX4_isLetBy_59 ?_
    refine lv_i2l hx hb dX4_isLetBy_60 rfl ?_
    refine t_lst C hV hT 9 2 rfl (vin_of (by decide)) (by decide) (tast_19 d a t_45 _ _) dX4_isLetBy_61 (fun t_61 H locs et hT => ?_)
    have hf := lett_e et hf
    refine lv_aload_n hx hb dX4_isLetBy_62 rfl (lv_at hl 1 rfl) ?_
    refine t_get C hV hT 19 (by decide) q1266 rfl dX4_isLetBy_63 ?_
    refine lv_iconst (v := 3) hx hb dX4_isLetBy_66 (by decide) ?_
    refine lv_aload_n hx hb dX4_isLetBy_67 rfl (lv_at hl 1 rfl) ?_
    refine lv_iload_n hx hb dX4_isLetBy_68 rfl (lv_at hl 2 rfl) ?_
    obtain ⟨w_69, h_69, hf⟩ := bind_e hf
    refine t_calli (vs := [.int x1]) (rest := [.int (3 : Int32), .ref (a 19)]) C hV hT (fun sz => mX4_partOf l D d a N t_61 x1 _ h_69 sz) (cwV 1 C.2.2.2.2 (lw_V q1569 q1571 qs80 q129 q1572) rfl rfl rfl hdX4_partOf ⟨Nat.le_of_ble_eq_true rfl, Nat.le_of_ble_eq_true rfl⟩) rfl hl.1 rfl (Nat.le_of_ble_eq_true rfl) dX4_isLetBy_69 (fun H locs hT => ?_)
    refine lv_i2l hx hb dX4_isLetBy_72 rfl ?_
    refine t_lst C hV hT 9 3 rfl (vin_of (by decide)) (by decide) (tast_19 d a w_69.2 _ _) dX4_isLetBy_73 (fun t_73 H locs et hT => ?_)
    have hf := lett_e et hf
    refine lv_aload_n hx hb dX4_isLetBy_74 rfl (lv_at hl 1 rfl) ?_
    refine t_get C hV hT 19 (by decide) q1266 rfl dX4_isLetBy_75 ?_
    refine lv_iconst (v := 4) hx hb dX4_isLetBy_78 (by decide) ?_
    refine lv_iload_n hx hb dX4_isLetBy_79 rfl (lv_at hl 0 rfl) ?_
    refine lv_if_eq (tgt := 87) hx hb dX4_isLetBy_80 (by decide) (fun hc => ?_) (fun hc => ?_)
    · have hf := ite_t hc hf
      refine lv_lconst (v := 0) hx hb dX4_isLetBy_87 (by decide) ?_
      exact hJ88 t_73 x1 x2 (0 : Int64) (4 : Int32) _ _ _ hT (lv_sub hl [1, 2, 3] rfl) hf
    · have hf := ite_f hc hf
      refine lv_lconst (v := 1) hx hb dX4_isLetBy_83 (by decide) ?_
      refine lv_goto (tgt := 88) hx hb dX4_isLetBy_84 (by decide) ?_
      exact hJ88 t_73 x1 x2 (1 : Int64) (4 : Int32) _ _ _ hT (lv_sub hl [1, 2, 3] rfl) hf
  · have hf := ite_f hc hf
    refine lv_iload_n hx hb dX4_isLetBy_24 rfl (lv_at hl 0 rfl) ?_
    obtain ⟨hz, hf⟩ := ckz_e hf
    exact t_zret C hT hf hz hr hlocks dX4_isLetBy_25
def fX4_letIn_B16 (N : Nat) (K : TS → Int32 → Option (Int32 × TS)) (kb : TS → Int32 → Int32 → Option (Int32 × TS)) (t : TS) (x1 : Int32) (x2 : Int32) : Option (Int32 × TS) :=
  (if (t.2.1 20 3) ≤ x2 then (K t x1) else (ix ((72 : Int32) + x2) 121 (if ¬ ((t.2.1 20 (((72 : Int32) + x2)).toNatClampNeg) &&& x1) = 0 then (lett (x2 + (1 : Int32)) fun x2_55 => (kb t x1 x2_55)) else ((fX4_isLetBy N t x2 x1).bind fun w_43 => (if w_43.1 = 0 then (lett (x2 + (1 : Int32)) fun x2_55 => (kb w_43.2 x1 x2_55)) else (lett (x1 ||| ((1 : Int32) <<< (x2 &&& 31))) fun x1_54 => (lett (x2 + (1 : Int32)) fun x2_55 => (kb w_43.2 x1_54 x2_55))))))))
def fX4_letIn_L16 (N : Nat) (K : TS → Int32 → Option (Int32 × TS)) : Nat → TS → Int32 → Int32 → Option (Int32 × TS)
  | 0 => fun _ _ _ => none
  | n + 1 => fun t x1 x2 => fX4_letIn_B16 N K (fX4_letIn_L16 N K n) t x1 x2
def fX4_letIn (N : Nat) (t : TS) : Option (Int32 × TS) :=
  (if (t.1 24) < 0 then (fX4_letIn_L16 N (fun t x1 => (some (x1, t))) N t (0 : Int32) (0 : Int32)) else (some ((t.1 24), t)))
theorem hdX4_letIn : yX4_letIn.cls = RX4 ∧ yX4_letIn.cls ≠ "java/lang/invoke/MethodHandle" ∧ yX4_letIn.cls ≠ "java/lang/invoke/VarHandle" ∧ (parseMethodDescriptor yX4_letIn.desc).map (fun d => d.parameters.length) = some 0 := by decide +kernel
set_option maxHeartbeats 4000000 in
theorem mX4_letIn (l : Launch) (D : va_G) (d : Nat → ClassId) (a : Nat → Nat) (N : Nat) (t : TS) (w : Int32 × TS) (hf : fX4_letIn N t = some w) (sz : Nat) : Met l yX4_letIn (ws_ yX4_letIn cX4_letIn 3 (some .int)) (rm_ 4 100) (PcT D d a [] t sz) (QiT D d a w.1 w.2 sz) 0 0 (AT a sz) := by
  refine Met.ofW (cc := cX4_letIn) (maxL := 3) (ret := (some .int)) plX4 rfl ?_
  intro p e s m args below meth c s₁ B hml hv
  obtain ⟨C, hV, hT, hr, hlocks, hargs, rfl⟩ := t_enter B hml rfl hv
  have hx := C.1
  have hb := C.2.1
  show W p l e (rm_ 4 100) s m args below meth c s.heap [] 0 0 (MQ below (QiT D d a w.1 w.2 s.heap.size) args s 0 0 (AT a s.heap.size)) _
  have hL16 : ∀ (K : TS → Int32 → Option (Int32 × TS)), (∀ (t : TS) (x1 : Int32) (H : Heap) (locs : List Loc) (ls : Array Slot), TH D (AT a s.heap.size) s.heap (wT d a t) H locs → lv_has ls 3 [(1, .int x1)] → K t x1 = some w → W p l e (rm_ 4 100) s m args below meth c H locs 0 0 (MQ below (QiT D d a w.1 w.2 s.heap.size) args s 0 0 (AT a s.heap.size)) (F0 m 61 ls [])) → ∀ (n : Nat) (t : TS) (x1 : Int32) (x2 : Int32) (H : Heap) (locs : List Loc) (ls : Array Slot), TH D (AT a s.heap.size) s.heap (wT d a t) H locs → lv_has ls 3 [(0, .ref (a 42)), (1, .int x1), (2, .int x2)] → fX4_letIn_L16 N K n t x1 x2 = some w → W p l e (rm_ 4 100) s m args below meth c H locs 0 0 (MQ below (QiT D d a w.1 w.2 s.heap.size) args s 0 0 (AT a s.heap.size)) (F0 m 16 ls []) := by
    intro K hE n
    induction n with
    | zero =>
      intro t x1 x2 H locs ls hT hl hf
      cases hf
    | succ n ih =>
      intro t x1 x2 H locs ls hT hl hf
      replace hf : fX4_letIn_B16 N K (fX4_letIn_L16 N K n) t x1 x2 = some w := hf
      unfold fX4_letIn_B16 at hf
      refine lv_iload_n hx hb dX4_letIn_16 rfl (lv_at hl 2 rfl) ?_
      refine lv_aload_n hx hb dX4_letIn_17 rfl (lv_at hl 0 rfl) ?_
      refine t_get C hV hT 20 (by decide) q1267 rfl dX4_letIn_18 ?_
      refine lv_iconst (v := 3) hx hb dX4_letIn_21 (by decide) ?_
      refine g_ild C hV hT 10 3 rfl (vin_of (by decide)) (by decide) dX4_letIn_22 ?_
      refine lv_icmp_ge (tgt := 61) hx hb dX4_letIn_23 (by decide) (fun hc => ?_) (fun hc => ?_)
      · have hf := ite_t hc hf
        exact hE t x1 _ _ _ hT (lv_sub hl [1] rfl) hf
      · have hf := ite_f hc hf
        refine lv_aload_n hx hb dX4_letIn_26 rfl (lv_at hl 0 rfl) ?_
        refine t_get C hV hT 20 (by decide) q1267 rfl dX4_letIn_27 ?_
        refine lv_bipush (v := 72) hx hb dX4_letIn_30 (by decide) ?_
        refine lv_iload_n hx hb dX4_letIn_32 rfl (lv_at hl 2 rfl) ?_
        refine lv_iadd hx hb dX4_letIn_33 ?_
        obtain ⟨hi, hf⟩ := ix_e hf
        refine g_ild C hV hT 10 _ rfl hi rfl dX4_letIn_34 ?_
        refine lv_iload_n hx hb dX4_letIn_35 rfl (lv_at hl 1 rfl) ?_
        refine lv_iand hx hb dX4_letIn_36 ?_
        refine lv_if_ne (tgt := 55) hx hb dX4_letIn_37 (by decide) (fun hc => ?_) (fun hc => ?_)
        · have hf := ite_t hc hf
          obtain ⟨x2_55, ex⟩ : ∃ y : Int32, y = (x2 + (1 : Int32)) := ⟨_, rfl⟩
          have hf := lett_e ex hf
          refine lv_iinc (v := x2_55) (lv' := [(2, .int x2_55), (0, .ref (a 42)), (1, .int x1)]) hx hb dX4_letIn_55 hl (k := 2) rfl (by rw [ex]; rfl) (by decide) rfl (fun ls hl => ?_)
          refine lv_goto (tgt := 16) hx hb dX4_letIn_58 (by decide) ?_
          exact ih t x1 x2_55 _ _ _ hT (lv_sub hl [1, 2, 0] rfl) hf
        · have hf := ite_f (fun q => q hc) hf
          refine lv_aload_n hx hb dX4_letIn_40 rfl (lv_at hl 0 rfl) ?_
          refine lv_iload_n hx hb dX4_letIn_41 rfl (lv_at hl 2 rfl) ?_
          refine lv_iload_n hx hb dX4_letIn_42 rfl (lv_at hl 1 rfl) ?_
          obtain ⟨w_43, h_43, hf⟩ := bind_e hf
          refine t_calli (vs := [.int x2, .int x1]) (rest := []) C hV hT (fun sz => mX4_isLetBy l D d a N t x2 x1 _ h_43 sz) (cwV 2 C.2.2.2.2 (lw_V q1621 q1623 qs90 q129 q1624) rfl rfl rfl hdX4_isLetBy ⟨Nat.le_of_ble_eq_true rfl, Nat.le_of_ble_eq_true rfl⟩) rfl hl.1 rfl (Nat.le_of_ble_eq_true rfl) dX4_letIn_43 (fun H locs hT => ?_)
          refine lv_if_eq (tgt := 55) hx hb dX4_letIn_46 (by decide) (fun hc => ?_) (fun hc => ?_)
          · have hf := ite_t hc hf
            obtain ⟨x2_55, ex⟩ : ∃ y : Int32, y = (x2 + (1 : Int32)) := ⟨_, rfl⟩
            have hf := lett_e ex hf
            refine lv_iinc (v := x2_55) (lv' := [(2, .int x2_55), (0, .ref (a 42)), (1, .int x1)]) hx hb dX4_letIn_55 hl (k := 2) rfl (by rw [ex]; rfl) (by decide) rfl (fun ls hl => ?_)
            refine lv_goto (tgt := 16) hx hb dX4_letIn_58 (by decide) ?_
            exact ih w_43.2 x1 x2_55 _ _ _ hT (lv_sub hl [1, 2, 0] rfl) hf
          · have hf := ite_f hc hf
            refine lv_iload_n hx hb dX4_letIn_49 rfl (lv_at hl 1 rfl) ?_
            refine lv_iconst (v := 1) hx hb dX4_letIn_50 (by decide) ?_
            refine lv_iload_n hx hb dX4_letIn_51 rfl (lv_at hl 2 rfl) ?_
            refine lv_ishl hx hb dX4_letIn_52 ?_
            refine lv_ior hx hb dX4_letIn_53 ?_
            refine lv_topi (fun x1_54 ex => ?_)
            have hf := lett_e ex hf
            refine lv_istore_n (lv' := [(1, .int x1_54), (0, .ref (a 42)), (2, .int x2)]) hx hb dX4_letIn_54 rfl hl (by decide) rfl (fun ls hl => ?_)
            obtain ⟨x2_55, ex⟩ : ∃ y : Int32, y = (x2 + (1 : Int32)) := ⟨_, rfl⟩
            have hf := lett_e ex hf
            refine lv_iinc (v := x2_55) (lv' := [(2, .int x2_55), (1, .int x1_54), (0, .ref (a 42))]) hx hb dX4_letIn_55 hl (k := 2) rfl (by rw [ex]; rfl) (by decide) rfl (fun ls hl => ?_)
            refine lv_goto (tgt := 16) hx hb dX4_letIn_58 (by decide) ?_
            exact ih w_43.2 x1_54 x2_55 _ _ _ hT (lv_sub hl [2, 1, 0] rfl) hf
  refine W.eq (by rw [hargs]) (t_in (vs := [.ref (a 42)]) (n := 3) (Nat.le_of_ble_eq_true rfl) (fun ls hl => ?_))
  have hl : lv_has ls 3 [(0, .ref (a 42))] := hl
  unfold fX4_letIn at hf
  skip
  refine lv_aload_n hx hb dX4_letIn_0 rfl (lv_at hl 0 rfl) ?_
  refine t_get C hV hT 24 (by decide) q1271 rfl dX4_letIn_1 ?_
  refine lv_if_lt (tgt := 12) hx hb dX4_letIn_4 (by decide) (fun hc => ?_) (fun hc => ?_)
  · have hf := ite_t hc hf
    refine lv_iconst (v := 0) hx hb dX4_letIn_12 (by decide) ?_
    refine lv_istore_n (lv' := [(1, .int (0 : Int32)), (0, .ref (a 42))]) hx hb dX4_letIn_13 rfl hl (by decide) rfl (fun ls hl => ?_)
    refine lv_iconst (v := 0) hx hb dX4_letIn_14 (by decide) ?_
    refine lv_istore_n (lv' := [(2, .int (0 : Int32)), (1, .int (0 : Int32)), (0, .ref (a 42))]) hx hb dX4_letIn_15 rfl hl (by decide) rfl (fun ls hl => ?_)
    refine hL16 _ (fun t x1 H locs ls hT hl hf => ?_) N t (0 : Int32) (0 : Int32) _ _ _ hT (lv_sub hl [2, 1, 0] rfl) hf
    refine lv_iload_n hx hb dX4_letIn_61 rfl (lv_at hl 0 rfl) ?_
    exact t_iret C hT hf hr hlocks dX4_letIn_62
  · have hf := ite_f hc hf
    refine lv_aload_n hx hb dX4_letIn_7 rfl (lv_at hl 0 rfl) ?_
    refine t_get C hV hT 24 (by decide) q1271 rfl dX4_letIn_8 ?_
    exact t_iret C hT hf hr hlocks dX4_letIn_11
def fX4_goes_J28 (N : Nat) (t : TS) (x1 : Int32) (s0 : Int32) : Option (Int32 × TS) :=
  (ix ((11 : Int32) + ((5 : Int32) * x1)) 121 (ix ((11 : Int32) + ((5 : Int32) * x1)) 121 (lett (tsA t 20 (((11 : Int32) + ((5 : Int32) * x1))).toNatClampNeg ((t.2.1 20 (((11 : Int32) + ((5 : Int32) * x1))).toNatClampNeg) - s0)) fun t_43 => (ix (((11 : Int32) + ((5 : Int32) * x1)) + (2 : Int32)) 121 (ix (((11 : Int32) + ((5 : Int32) * x1)) + (2 : Int32)) 121 (lett (tsA t_43 20 ((((11 : Int32) + ((5 : Int32) * x1)) + (2 : Int32))).toNatClampNeg ((t_43.2.1 20 ((((11 : Int32) + ((5 : Int32) * x1)) + (2 : Int32))).toNatClampNeg) + s0)) fun t_60 => (some (s0, t_60))))))))
def fX4_goes (N : Nat) (t : TS) (x1 : Int32) : Option (Int32 × TS) :=
  ((fX4_waitOn N t x1).bind fun w_2 => (if (w_2.2.2.1 20 2) ≤ w_2.1 then (fX4_goes_J28 N w_2.2 x1 (w_2.2.2.1 20 2)) else ((fX4_waitOn N w_2.2 x1).bind fun w_16 => (fX4_goes_J28 N w_16.2 x1 w_16.1))))
theorem hdX4_goes : yX4_goes.cls = RX4 ∧ yX4_goes.cls ≠ "java/lang/invoke/MethodHandle" ∧ yX4_goes.cls ≠ "java/lang/invoke/VarHandle" ∧ (parseMethodDescriptor yX4_goes.desc).map (fun d => d.parameters.length) = some 1 := by decide +kernel
set_option maxHeartbeats 4000000 in
theorem mX4_goes (l : Launch) (D : va_G) (d : Nat → ClassId) (a : Nat → Nat) (N : Nat) (t : TS) (x1 : Int32) (w : Int32 × TS) (hf : fX4_goes N t x1 = some w) (sz : Nat) : Met l yX4_goes (ws_ yX4_goes cX4_goes 3 (some .int)) (rm_ 1 21) (PcT D d a [.int x1] t sz) (QiT D d a w.1 w.2 sz) 0 0 (AT a sz) := by
  refine Met.ofW (cc := cX4_goes) (maxL := 3) (ret := (some .int)) plX4 rfl ?_
  intro p e s m args below meth c s₁ B hml hv
  obtain ⟨C, hV, hT, hr, hlocks, hargs, rfl⟩ := t_enter B hml rfl hv
  have hx := C.1
  have hb := C.2.1
  show W p l e (rm_ 1 21) s m args below meth c s.heap [] 0 0 (MQ below (QiT D d a w.1 w.2 s.heap.size) args s 0 0 (AT a s.heap.size)) _
  have hJ28 : ∀ (t : TS) (x1 : Int32) (s0 : Int32) (H : Heap) (locs : List Loc) (ls : Array Slot), TH D (AT a s.heap.size) s.heap (wT d a t) H locs → lv_has ls 3 [(0, .ref (a 42)), (1, .int x1)] → fX4_goes_J28 N t x1 s0 = some w → W p l e (rm_ 1 21) s m args below meth c H locs 0 0 (MQ below (QiT D d a w.1 w.2 s.heap.size) args s 0 0 (AT a s.heap.size)) (F0 m 28 ls [.int s0]) := by
    intro t x1 s0 H locs ls hT hl hf
    unfold fX4_goes_J28 at hf
    refine lv_istore_n (lv' := [(2, .int s0), (0, .ref (a 42)), (1, .int x1)]) hx hb dX4_goes_28 rfl hl (by decide) rfl (fun ls hl => ?_)
    refine lv_aload_n hx hb dX4_goes_29 rfl (lv_at hl 1 rfl) ?_
    refine t_get C hV hT 20 (by decide) q1267 rfl dX4_goes_30 ?_
    refine lv_bipush (v := 11) hx hb dX4_goes_33 (by decide) ?_
    refine lv_iconst (v := 5) hx hb dX4_goes_35 (by decide) ?_
    refine lv_iload_n hx hb dX4_goes_36 rfl (lv_at hl 2 rfl) ?_
    refine lv_imul hx hb dX4_goes_37 ?_
    refine lv_iadd hx hb dX4_goes_38 ?_
    refine lv_dup2_11 hx hb dX4_goes_39 rfl rfl ?_
    obtain ⟨hi, hf⟩ := ix_e hf
    refine g_ild C hV hT 10 _ rfl hi rfl dX4_goes_40 ?_
    refine lv_iload_n hx hb dX4_goes_41 rfl (lv_at hl 0 rfl) ?_
    refine lv_isub hx hb dX4_goes_42 ?_
    obtain ⟨hi, hf⟩ := ix_e hf
    refine t_ist C hV hT 10 _ rfl hi rfl (tast_20 d a t _ _) dX4_goes_43 (fun t_43 H locs et hT => ?_)
    have hf := lett_e et hf
    refine lv_aload_n hx hb dX4_goes_44 rfl (lv_at hl 1 rfl) ?_
    refine t_get C hV hT 20 (by decide) q1267 rfl dX4_goes_45 ?_
    refine lv_bipush (v := 11) hx hb dX4_goes_48 (by decide) ?_
    refine lv_iconst (v := 5) hx hb dX4_goes_50 (by decide) ?_
    refine lv_iload_n hx hb dX4_goes_51 rfl (lv_at hl 2 rfl) ?_
    refine lv_imul hx hb dX4_goes_52 ?_
    refine lv_iadd hx hb dX4_goes_53 ?_
    refine lv_iconst (v := 2) hx hb dX4_goes_54 (by decide) ?_
    refine lv_iadd hx hb dX4_goes_55 ?_
    refine lv_dup2_11 hx hb dX4_goes_56 rfl rfl ?_
    obtain ⟨hi, hf⟩ := ix_e hf
    refine g_ild C hV hT 10 _ rfl hi rfl dX4_goes_57 ?_
    refine lv_iload_n hx hb dX4_goes_58 rfl (lv_at hl 0 rfl) ?_
    refine lv_iadd hx hb dX4_goes_59 ?_
    obtain ⟨hi, hf⟩ := ix_e hf
    refine t_ist C hV hT 10 _ rfl hi rfl (tast_20 d a t_43 _ _) dX4_goes_60 (fun t_60 H locs et hT => ?_)
    have hf := lett_e et hf
    refine lv_iload_n hx hb dX4_goes_61 rfl (lv_at hl 0 rfl) ?_
    exact t_iret C hT hf hr hlocks dX4_goes_62
  refine W.eq (by rw [hargs]) (t_in (vs := [.ref (a 42), .int x1]) (n := 3) (Nat.le_of_ble_eq_true rfl) (fun ls hl => ?_))
  have hl : lv_has ls 3 [(0, .ref (a 42)), (1, .int x1)] := hl
  unfold fX4_goes at hf
  skip
  refine lv_aload_n hx hb dX4_goes_0 rfl (lv_at hl 0 rfl) ?_
  refine lv_iload_n hx hb dX4_goes_1 rfl (lv_at hl 1 rfl) ?_
  obtain ⟨w_2, h_2, hf⟩ := bind_e hf
  refine t_calli (vs := [.int x1]) (rest := []) C hV hT (fun sz => mX4_waitOn l D d a N t x1 _ h_2 sz) (cwV 1 C.2.2.2.2 (lw_V q1565 q1567 qs79 q129 q1568) rfl rfl rfl hdX4_waitOn ⟨Nat.le_of_ble_eq_true rfl, Nat.le_of_ble_eq_true rfl⟩) rfl hl.1 rfl (Nat.le_of_ble_eq_true rfl) dX4_goes_2 (fun H locs hT => ?_)
  refine lv_aload_n hx hb dX4_goes_5 rfl (lv_at hl 0 rfl) ?_
  refine t_get C hV hT 20 (by decide) q1267 rfl dX4_goes_6 ?_
  refine lv_iconst (v := 2) hx hb dX4_goes_9 (by decide) ?_
  refine g_ild C hV hT 10 2 rfl (vin_of (by decide)) (by decide) dX4_goes_10 ?_
  refine lv_icmp_ge (tgt := 22) hx hb dX4_goes_11 (by decide) (fun hc => ?_) (fun hc => ?_)
  · have hf := ite_t hc hf
    refine lv_aload_n hx hb dX4_goes_22 rfl (lv_at hl 0 rfl) ?_
    refine t_get C hV hT 20 (by decide) q1267 rfl dX4_goes_23 ?_
    refine lv_iconst (v := 2) hx hb dX4_goes_26 (by decide) ?_
    refine g_ild C hV hT 10 2 rfl (vin_of (by decide)) (by decide) dX4_goes_27 ?_
    exact hJ28 w_2.2 x1 (w_2.2.2.1 20 2) _ _ _ hT hl hf
  · have hf := ite_f hc hf
    refine lv_aload_n hx hb dX4_goes_14 rfl (lv_at hl 0 rfl) ?_
    refine lv_iload_n hx hb dX4_goes_15 rfl (lv_at hl 1 rfl) ?_
    obtain ⟨w_16, h_16, hf⟩ := bind_e hf
    refine t_calli (vs := [.int x1]) (rest := []) C hV hT (fun sz => mX4_waitOn l D d a N w_2.2 x1 _ h_16 sz) (cwV 1 C.2.2.2.2 (lw_V q1565 q1567 qs79 q129 q1568) rfl rfl rfl hdX4_waitOn ⟨Nat.le_of_ble_eq_true rfl, Nat.le_of_ble_eq_true rfl⟩) rfl hl.1 rfl (Nat.le_of_ble_eq_true rfl) dX4_goes_16 (fun H locs hT => ?_)
    refine lv_goto (tgt := 28) hx hb dX4_goes_19 (by decide) ?_
    exact hJ28 w_16.2 x1 w_16.1 _ _ _ hT hl hf
def fX4_sounds_B4 (N : Nat) (K : TS → Int32 → Option (TS)) (kb : TS → Int32 → Int32 → Option (TS)) (t : TS) (x1 : Int32) (x2 : Int32) : Option (TS) :=
  (if (t.2.1 20 3) ≤ x2 then (K t x1) else (ix x2 6 (if (t.2.1 25 (x2).toNatClampNeg) ≤ 0 then (lett (x1 ||| (0 : Int32)) fun x1_32 => (lett (x2 + (1 : Int32)) fun x2_33 => (kb t x1_32 x2_33))) else (lett (x1 ||| ((1 : Int32) <<< (x2 &&& 31))) fun x1_32 => (lett (x2 + (1 : Int32)) fun x2_33 => (kb t x1_32 x2_33))))))
def fX4_sounds_L4 (N : Nat) (K : TS → Int32 → Option (TS)) : Nat → TS → Int32 → Int32 → Option (TS)
  | 0 => fun _ _ _ => none
  | n + 1 => fun t x1 x2 => fX4_sounds_B4 N K (fX4_sounds_L4 N K n) t x1 x2
def fX4_sounds_J86 (N : Nat) (t : TS) (s0 : Int32) (s1 : Int32) : Option (TS) :=
  (ix s1 121 (lett (tsA t 20 (s1).toNatClampNeg s0) fun t_86 => (some t_86)))
def fX4_sounds (N : Nat) (t : TS) : Option (TS) :=
  (fX4_sounds_L4 N (fun t x1 => ((fX4_soundOf N t x1).bind fun w_48 => (lett ((t.2.1 20 53) + w_48.1) fun x2_52 => (if x2_52 ≤ (9999 : Int32) then (if (-9999 : Int32) ≤ x2_52 then (fX4_sounds_J86 N w_48.2 x2_52 (53 : Int32)) else (fX4_sounds_J86 N w_48.2 (-9999 : Int32) (53 : Int32))) else (fX4_sounds_J86 N w_48.2 (9999 : Int32) (53 : Int32)))))) N t (0 : Int32) (0 : Int32))
theorem hdX4_sounds : yX4_sounds.cls = RX4 ∧ yX4_sounds.cls ≠ "java/lang/invoke/MethodHandle" ∧ yX4_sounds.cls ≠ "java/lang/invoke/VarHandle" ∧ (parseMethodDescriptor yX4_sounds.desc).map (fun d => d.parameters.length) = some 0 := by decide +kernel
set_option maxHeartbeats 4000000 in
theorem mX4_sounds (l : Launch) (D : va_G) (d : Nat → ClassId) (a : Nat → Nat) (N : Nat) (t : TS) (w : TS) (hf : fX4_sounds N t = some w) (sz : Nat) : Met l yX4_sounds (ws_ yX4_sounds cX4_sounds 3 none) (rm_ 2 46) (PcT D d a [] t sz) (QvT D d a w sz) 0 0 (AT a sz) := by
  refine Met.ofW (cc := cX4_sounds) (maxL := 3) (ret := none) plX4 rfl ?_
  intro p e s m args below meth c s₁ B hml hv
  obtain ⟨C, hV, hT, hr, hlocks, hargs, rfl⟩ := t_enter B hml rfl hv
  have hx := C.1
  have hb := C.2.1
  show W p l e (rm_ 2 46) s m args below meth c s.heap [] 0 0 (MQ below (QvT D d a w s.heap.size) args s 0 0 (AT a s.heap.size)) _
  have hL4 : ∀ (K : TS → Int32 → Option (TS)), (∀ (t : TS) (x1 : Int32) (H : Heap) (locs : List Loc) (ls : Array Slot), TH D (AT a s.heap.size) s.heap (wT d a t) H locs → lv_has ls 3 [(0, .ref (a 42)), (1, .int x1)] → K t x1 = some w → W p l e (rm_ 2 46) s m args below meth c H locs 0 0 (MQ below (QvT D d a w s.heap.size) args s 0 0 (AT a s.heap.size)) (F0 m 39 ls [])) → ∀ (n : Nat) (t : TS) (x1 : Int32) (x2 : Int32) (H : Heap) (locs : List Loc) (ls : Array Slot), TH D (AT a s.heap.size) s.heap (wT d a t) H locs → lv_has ls 3 [(0, .ref (a 42)), (1, .int x1), (2, .int x2)] → fX4_sounds_L4 N K n t x1 x2 = some w → W p l e (rm_ 2 46) s m args below meth c H locs 0 0 (MQ below (QvT D d a w s.heap.size) args s 0 0 (AT a s.heap.size)) (F0 m 4 ls []) := by
    intro K hE n
    induction n with
    | zero =>
      intro t x1 x2 H locs ls hT hl hf
      cases hf
    | succ n ih =>
      intro t x1 x2 H locs ls hT hl hf
      replace hf : fX4_sounds_B4 N K (fX4_sounds_L4 N K n) t x1 x2 = some w := hf
      unfold fX4_sounds_B4 at hf
      refine lv_iload_n hx hb dX4_sounds_4 rfl (lv_at hl 2 rfl) ?_
      refine lv_aload_n hx hb dX4_sounds_5 rfl (lv_at hl 0 rfl) ?_
      refine t_get C hV hT 20 (by decide) q1267 rfl dX4_sounds_6 ?_
      refine lv_iconst (v := 3) hx hb dX4_sounds_9 (by decide) ?_
      refine g_ild C hV hT 10 3 rfl (vin_of (by decide)) (by decide) dX4_sounds_10 ?_
      refine lv_icmp_ge (tgt := 39) hx hb dX4_sounds_11 (by decide) (fun hc => ?_) (fun hc => ?_)
      · have hf := ite_t hc hf
        exact hE t x1 _ _ _ hT (lv_sub hl [0, 1] rfl) hf
      · have hf := ite_f hc hf
        refine lv_iload_n hx hb dX4_sounds_14 rfl (lv_at hl 1 rfl) ?_
        refine lv_aload_n hx hb dX4_sounds_15 rfl (lv_at hl 0 rfl) ?_
        refine t_get C hV hT 25 (by decide) q1272 rfl dX4_sounds_16 ?_
        refine lv_iload_n hx hb dX4_sounds_19 rfl (lv_at hl 2 rfl) ?_
        obtain ⟨hi, hf⟩ := ix_e hf
        refine g_ild C hV hT 11 _ rfl hi rfl dX4_sounds_20 ?_
        refine lv_if_le (tgt := 30) hx hb dX4_sounds_21 (by decide) (fun hc => ?_) (fun hc => ?_)
        · have hf := ite_t hc hf
          refine lv_iconst (v := 0) hx hb dX4_sounds_30 (by decide) ?_
          refine lv_ior hx hb dX4_sounds_31 ?_
          refine lv_topi (fun x1_32 ex => ?_)
          have hf := lett_e ex hf
          refine lv_istore_n (lv' := [(1, .int x1_32), (0, .ref (a 42)), (2, .int x2)]) hx hb dX4_sounds_32 rfl hl (by decide) rfl (fun ls hl => ?_)
          obtain ⟨x2_33, ex⟩ : ∃ y : Int32, y = (x2 + (1 : Int32)) := ⟨_, rfl⟩
          have hf := lett_e ex hf
          refine lv_iinc (v := x2_33) (lv' := [(2, .int x2_33), (1, .int x1_32), (0, .ref (a 42))]) hx hb dX4_sounds_33 hl (k := 2) rfl (by rw [ex]; rfl) (by decide) rfl (fun ls hl => ?_)
          refine lv_goto (tgt := 4) hx hb dX4_sounds_36 (by decide) ?_
          exact ih t x1_32 x2_33 _ _ _ hT (lv_sub hl [2, 1, 0] rfl) hf
        · have hf := ite_f hc hf
          refine lv_iconst (v := 1) hx hb dX4_sounds_24 (by decide) ?_
          refine lv_iload_n hx hb dX4_sounds_25 rfl (lv_at hl 2 rfl) ?_
          refine lv_ishl hx hb dX4_sounds_26 ?_
          refine lv_goto (tgt := 31) hx hb dX4_sounds_27 (by decide) ?_
          refine lv_ior hx hb dX4_sounds_31 ?_
          refine lv_topi (fun x1_32 ex => ?_)
          have hf := lett_e ex hf
          refine lv_istore_n (lv' := [(1, .int x1_32), (0, .ref (a 42)), (2, .int x2)]) hx hb dX4_sounds_32 rfl hl (by decide) rfl (fun ls hl => ?_)
          obtain ⟨x2_33, ex⟩ : ∃ y : Int32, y = (x2 + (1 : Int32)) := ⟨_, rfl⟩
          have hf := lett_e ex hf
          refine lv_iinc (v := x2_33) (lv' := [(2, .int x2_33), (1, .int x1_32), (0, .ref (a 42))]) hx hb dX4_sounds_33 hl (k := 2) rfl (by rw [ex]; rfl) (by decide) rfl (fun ls hl => ?_)
          refine lv_goto (tgt := 4) hx hb dX4_sounds_36 (by decide) ?_
          exact ih t x1_32 x2_33 _ _ _ hT (lv_sub hl [2, 1, 0] rfl) hf
  have hJ86 : ∀ (t : TS) (s0 : Int32) (s1 : Int32) (H : Heap) (locs : List Loc) (ls : Array Slot), TH D (AT a s.heap.size) s.heap (wT d a t) H locs → lv_has ls 3 [] → fX4_sounds_J86 N t s0 s1 = some w → W p l e (rm_ 2 46) s m args below meth c H locs 0 0 (MQ below (QvT D d a w s.heap.size) args s 0 0 (AT a s.heap.size)) (F0 m 86 ls [.int s0, .int s1, .ref (a 20)]) := by
    intro t s0 s1 H locs ls hT hl hf
    unfold fX4_sounds_J86 at hf
    obtain ⟨hi, hf⟩ := ix_e hf
    refine t_ist C hV hT 10 _ rfl hi rfl (tast_20 d a t _ _) dX4_sounds_86 (fun t_86 H locs et hT => ?_)
    have hf := lett_e et hf
    exact t_vret C hT hf hr hlocks dX4_sounds_87
  refine W.eq (by rw [hargs]) (t_in (vs := [.ref (a 42)]) (n := 3) (Nat.le_of_ble_eq_true rfl) (fun ls hl => ?_))
  have hl : lv_has ls 3 [(0, .ref (a 42))] := hl
  unfold fX4_sounds at hf
  skip
  refine lv_iconst (v := 0) hx hb dX4_sounds_0 (by decide) ?_
  refine lv_istore_n (lv' := [(1, .int (0 : Int32)), (0, .ref (a 42))]) hx hb dX4_sounds_1 rfl hl (by decide) rfl (fun ls hl => ?_)
  refine lv_iconst (v := 0) hx hb dX4_sounds_2 (by decide) ?_
  refine lv_istore_n (lv' := [(2, .int (0 : Int32)), (1, .int (0 : Int32)), (0, .ref (a 42))]) hx hb dX4_sounds_3 rfl hl (by decide) rfl (fun ls hl => ?_)
  refine hL4 _ (fun t x1 H locs ls hT hl hf => ?_) N t (0 : Int32) (0 : Int32) _ _ _ hT (lv_sub hl [2, 1, 0] rfl) hf
  refine lv_aload_n hx hb dX4_sounds_39 rfl (lv_at hl 0 rfl) ?_
  refine t_get C hV hT 20 (by decide) q1267 rfl dX4_sounds_40 ?_
  refine lv_bipush (v := 53) hx hb dX4_sounds_43 (by decide) ?_
  refine g_ild C hV hT 10 53 rfl (vin_of (by decide)) (by decide) dX4_sounds_45 ?_
  refine lv_aload_n hx hb dX4_sounds_46 rfl (lv_at hl 0 rfl) ?_
  refine lv_iload_n hx hb dX4_sounds_47 rfl (lv_at hl 1 rfl) ?_
  obtain ⟨w_48, h_48, hf⟩ := bind_e hf
  refine t_calli (vs := [.int x1]) (rest := [.int (t.2.1 20 53)]) C hV hT (fun sz => mX4_soundOf l D d a N t x1 _ h_48 sz) (cwV 1 C.2.2.2.2 (lw_V q1635 q1637 qs92 q129 q1638) rfl rfl rfl hdX4_soundOf ⟨Nat.le_of_ble_eq_true rfl, Nat.le_of_ble_eq_true rfl⟩) rfl hl.1 rfl (Nat.le_of_ble_eq_true rfl) dX4_sounds_48 (fun H locs hT => ?_)
  refine lv_iadd hx hb dX4_sounds_51 ?_
  refine lv_topi (fun x2_52 ex => ?_)
  have hf := lett_e ex hf
  refine lv_istore_n (lv' := [(2, .int x2_52), (0, .ref (a 42)), (1, .int x1)]) hx hb dX4_sounds_52 rfl hl (by decide) rfl (fun ls hl => ?_)
  refine lv_aload_n hx hb dX4_sounds_53 rfl (lv_at hl 1 rfl) ?_
  refine t_get C hV hT 20 (by decide) q1267 rfl dX4_sounds_54 ?_
  refine lv_bipush (v := 53) hx hb dX4_sounds_57 (by decide) ?_
  refine lv_iload_n hx hb dX4_sounds_59 rfl (lv_at hl 0 rfl) ?_
  refine lv_sipush (v := 9999) hx hb dX4_sounds_60 (by decide) ?_
  refine lv_icmp_le (tgt := 72) hx hb dX4_sounds_63 (by decide) (fun hc => ?_) (fun hc => ?_)
  · have hf := ite_t hc hf
    refine lv_iload_n hx hb dX4_sounds_72 rfl (lv_at hl 0 rfl) ?_
    refine lv_sipush (v := -9999) hx hb dX4_sounds_73 (by decide) ?_
    refine lv_icmp_ge (tgt := 85) hx hb dX4_sounds_76 (by decide) (fun hc => ?_) (fun hc => ?_)
    · have hf := ite_t hc hf
      refine lv_iload_n hx hb dX4_sounds_85 rfl (lv_at hl 0 rfl) ?_
      exact hJ86 w_48.2 x2_52 (53 : Int32) _ _ _ hT (lv_sub hl [] rfl) hf
    · have hf := ite_f hc hf
      refine lv_sipush (v := -9999) hx hb dX4_sounds_79 (by decide) ?_
      refine lv_goto (tgt := 86) hx hb dX4_sounds_82 (by decide) ?_
      exact hJ86 w_48.2 (-9999 : Int32) (53 : Int32) _ _ _ hT (lv_sub hl [] rfl) hf
  · have hf := ite_f hc hf
    refine lv_sipush (v := 9999) hx hb dX4_sounds_66 (by decide) ?_
    refine lv_goto (tgt := 86) hx hb dX4_sounds_69 (by decide) ?_
    exact hJ86 w_48.2 (9999 : Int32) (53 : Int32) _ _ _ hT (lv_sub hl [] rfl) hf
def fX4_passes_B2 (N : Nat) (K : TS → Option (Int32 × TS)) (kb : TS → Int32 → Option (Int32 × TS)) (t : TS) (x1 : Int32) : Option (Int32 × TS) :=
  (if (t.2.1 20 3) ≤ x1 then (K t) else (if x1 = (t.1 23) then (lett (x1 + (1 : Int32)) fun x1_46 => (kb t x1_46)) else (ix ((54 : Int32) + x1) 121 (nz (t.2.1 20 (((54 : Int32) + x1)).toNatClampNeg) (if ¬ (irem (t.2.1 20 10) (t.2.1 20 (((54 : Int32) + x1)).toNatClampNeg)) = 0 then (lett (x1 + (1 : Int32)) fun x1_46 => (kb t x1_46)) else ((fX4_comes N t x1 (1 : Int32)).bind fun w_43 => (lett (x1 + (1 : Int32)) fun x1_46 => (kb w_43 x1_46))))))))
def fX4_passes_L2 (N : Nat) (K : TS → Option (Int32 × TS)) : Nat → TS → Int32 → Option (Int32 × TS)
  | 0 => fun _ _ => none
  | n + 1 => fun t x1 => fX4_passes_B2 N K (fX4_passes_L2 N K n) t x1
def fX4_passes_J91 (N : Nat) (K : TS → Int32 → Option (Int32 × TS)) (kb : TS → Int32 → Int32 → Option (Int32 × TS)) (t : TS) (x1 : Int32) (x2 : Int32) (s0 : Int32) (s1 : Int32) : Option (Int32 × TS) :=
  (ix s1 6 (lett (tsA t 25 (s1).toNatClampNeg s0) fun t_91 => ((fX4_isOf N x1 x2).bind fun w_94 => (if w_94 = 0 then (lett (x2 + (1 : Int32)) fun x2_120 => (kb t_91 x1 x2_120)) else (ix (((11 : Int32) + ((5 : Int32) * x2)) + (4 : Int32)) 121 (lett (tsA t_91 20 ((((11 : Int32) + ((5 : Int32) * x2)) + (4 : Int32))).toNatClampNeg (t_91.2.1 20 10)) fun t_119 => (lett (x2 + (1 : Int32)) fun x2_120 => (kb t_119 x1 x2_120))))))))
def fX4_passes_B59 (N : Nat) (K : TS → Int32 → Option (Int32 × TS)) (kb : TS → Int32 → Int32 → Option (Int32 × TS)) (t : TS) (x1 : Int32) (x2 : Int32) : Option (Int32 × TS) :=
  (if (t.2.1 20 3) ≤ x2 then (K t x1) else ((fX4_isOf N x1 x2).bind fun w_76 => (if w_76 = 0 then (fX4_passes_J91 N K kb t x1 x2 (0 : Int32) x2) else ((fX4_goes N t x2).bind fun w_84 => (fX4_passes_J91 N K kb w_84.2 x1 x2 w_84.1 x2)))))
def fX4_passes_L59 (N : Nat) (K : TS → Int32 → Option (Int32 × TS)) : Nat → TS → Int32 → Int32 → Option (Int32 × TS)
  | 0 => fun _ _ _ => none
  | n + 1 => fun t x1 x2 => fX4_passes_B59 N K (fX4_passes_L59 N K n) t x1 x2
def fX4_passes_J178 (N : Nat) (K : TS → Int32 → Option (Int32 × TS)) (kb : TS → Int32 → Int32 → Option (Int32 × TS)) (t : TS) (x1 : Int32) (x2 : Int32) (s0 : Int32) (s1 : Int32) : Option (Int32 × TS) :=
  (ix s1 121 (lett (tsA t 20 (s1).toNatClampNeg s0) fun t_178 => (lett (x2 + (1 : Int32)) fun x2_179 => (kb t_178 x1 x2_179))))
def fX4_passes_B132 (N : Nat) (K : TS → Int32 → Option (Int32 × TS)) (kb : TS → Int32 → Int32 → Option (Int32 × TS)) (t : TS) (x1 : Int32) (x2 : Int32) : Option (Int32 × TS) :=
  (if (t.2.1 20 3) ≤ x2 then (K t x1) else ((fX4_waitedOn N t x2).bind fun w_144 => ((fX4_waitOn N w_144.2 x2).bind fun w_149 => (lett (w_144.1 + w_149.1) fun x3_153 => (if x3_153 ≤ (99999 : Int32) then (fX4_passes_J178 N K kb w_149.2 x1 x2 x3_153 (((11 : Int32) + ((5 : Int32) * x2)) + (3 : Int32))) else (fX4_passes_J178 N K kb w_149.2 x1 x2 (99999 : Int32) (((11 : Int32) + ((5 : Int32) * x2)) + (3 : Int32))))))))
def fX4_passes_L132 (N : Nat) (K : TS → Int32 → Option (Int32 × TS)) : Nat → TS → Int32 → Int32 → Option (Int32 × TS)
  | 0 => fun _ _ _ => none
  | n + 1 => fun t x1 x2 => fX4_passes_B132 N K (fX4_passes_L132 N K n) t x1 x2
def fX4_passes (N : Nat) (t : TS) : Option (Int32 × TS) :=
  (fX4_passes_L2 N (fun t => ((fX4_letIn N t ).bind fun w_53 => (fX4_passes_L59 N (fun t x1 => ((fX4_sounds N t ).bind fun w_127 => (fX4_passes_L132 N (fun t x1 => (lett (tsA t 20 10 ((t.2.1 20 10) + (1 : Int32))) fun t_195 => (some (x1, t_195)))) N w_127 x1 (0 : Int32)))) N w_53.2 w_53.1 (0 : Int32)))) N t (0 : Int32))
theorem hdX4_passes : yX4_passes.cls = RX4 ∧ yX4_passes.cls ≠ "java/lang/invoke/MethodHandle" ∧ yX4_passes.cls ≠ "java/lang/invoke/VarHandle" ∧ (parseMethodDescriptor yX4_passes.desc).map (fun d => d.parameters.length) = some 0 := by decide +kernel
set_option maxHeartbeats 4000000 in
theorem mX4_passes (l : Launch) (D : va_G) (d : Nat → ClassId) (a : Nat → Nat) (N : Nat) (t : TS) (w : Int32 × TS) (hf : fX4_passes N t = some w) (sz : Nat) : Met l yX4_passes (ws_ yX4_passes cX4_passes 4 (some .int)) (rm_ 5 122) (PcT D d a [] t sz) (QiT D d a w.1 w.2 sz) 0 0 (AT a sz) := by
  refine Met.ofW (cc := cX4_passes) (maxL := 4) (ret := (some .int)) plX4 rfl ?_
  intro p e s m args below meth c s₁ B hml hv
  obtain ⟨C, hV, hT, hr, hlocks, hargs, rfl⟩ := t_enter B hml rfl hv
  have hx := C.1
  have hb := C.2.1
  show W p l e (rm_ 5 122) s m args below meth c s.heap [] 0 0 (MQ below (QiT D d a w.1 w.2 s.heap.size) args s 0 0 (AT a s.heap.size)) _
  have hL2 : ∀ (K : TS → Option (Int32 × TS)), (∀ (t : TS) (H : Heap) (locs : List Loc) (ls : Array Slot), TH D (AT a s.heap.size) s.heap (wT d a t) H locs → lv_has ls 4 [(0, .ref (a 42))] → K t = some w → W p l e (rm_ 5 122) s m args below meth c H locs 0 0 (MQ below (QiT D d a w.1 w.2 s.heap.size) args s 0 0 (AT a s.heap.size)) (F0 m 52 ls [])) → ∀ (n : Nat) (t : TS) (x1 : Int32) (H : Heap) (locs : List Loc) (ls : Array Slot), TH D (AT a s.heap.size) s.heap (wT d a t) H locs → lv_has ls 4 [(0, .ref (a 42)), (1, .int x1)] → fX4_passes_L2 N K n t x1 = some w → W p l e (rm_ 5 122) s m args below meth c H locs 0 0 (MQ below (QiT D d a w.1 w.2 s.heap.size) args s 0 0 (AT a s.heap.size)) (F0 m 2 ls []) := by
    intro K hE n
    induction n with
    | zero =>
      intro t x1 H locs ls hT hl hf
      cases hf
    | succ n ih =>
      intro t x1 H locs ls hT hl hf
      replace hf : fX4_passes_B2 N K (fX4_passes_L2 N K n) t x1 = some w := hf
      unfold fX4_passes_B2 at hf
      refine lv_iload_n hx hb dX4_passes_2 rfl (lv_at hl 1 rfl) ?_
      refine lv_aload_n hx hb dX4_passes_3 rfl (lv_at hl 0 rfl) ?_
      refine t_get C hV hT 20 (by decide) q1267 rfl dX4_passes_4 ?_
      refine lv_iconst (v := 3) hx hb dX4_passes_7 (by decide) ?_
      refine g_ild C hV hT 10 3 rfl (vin_of (by decide)) (by decide) dX4_passes_8 ?_
      refine lv_icmp_ge (tgt := 52) hx hb dX4_passes_9 (by decide) (fun hc => ?_) (fun hc => ?_)
      · have hf := ite_t hc hf
        exact hE t _ _ _ hT (lv_sub hl [0] rfl) hf
      · have hf := ite_f hc hf
        refine lv_iload_n hx hb dX4_passes_12 rfl (lv_at hl 1 rfl) ?_
        refine lv_aload_n hx hb dX4_passes_13 rfl (lv_at hl 0 rfl) ?_
        refine t_get C hV hT 23 (by decide) q1270 rfl dX4_passes_14 ?_
        refine lv_icmp_eq (tgt := 46) hx hb dX4_passes_17 (by decide) (fun hc => ?_) (fun hc => ?_)
        · have hf := ite_t hc hf
          obtain ⟨x1_46, ex⟩ : ∃ y : Int32, y = (x1 + (1 : Int32)) := ⟨_, rfl⟩
          have hf := lett_e ex hf
          refine lv_iinc (v := x1_46) (lv' := [(1, .int x1_46), (0, .ref (a 42))]) hx hb dX4_passes_46 hl (k := 1) rfl (by rw [ex]; rfl) (by decide) rfl (fun ls hl => ?_)
          refine lv_goto (tgt := 2) hx hb dX4_passes_49 (by decide) ?_
          exact ih t x1_46 _ _ _ hT (lv_sub hl [1, 0] rfl) hf
        · have hf := ite_f hc hf
          refine lv_aload_n hx hb dX4_passes_20 rfl (lv_at hl 0 rfl) ?_
          refine t_get C hV hT 20 (by decide) q1267 rfl dX4_passes_21 ?_
          refine lv_bipush (v := 10) hx hb dX4_passes_24 (by decide) ?_
          refine g_ild C hV hT 10 10 rfl (vin_of (by decide)) (by decide) dX4_passes_26 ?_
          refine lv_aload_n hx hb dX4_passes_27 rfl (lv_at hl 0 rfl) ?_
          refine t_get C hV hT 20 (by decide) q1267 rfl dX4_passes_28 ?_
          refine lv_bipush (v := 54) hx hb dX4_passes_31 (by decide) ?_
          refine lv_iload_n hx hb dX4_passes_33 rfl (lv_at hl 1 rfl) ?_
          refine lv_iadd hx hb dX4_passes_34 ?_
          obtain ⟨hi, hf⟩ := ix_e hf
          refine g_ild C hV hT 10 _ rfl hi rfl dX4_passes_35 ?_
          obtain ⟨hn, hf⟩ := nz_e hf
          refine g_irem hx hb dX4_passes_36 hn ?_
          refine lv_if_ne (tgt := 46) hx hb dX4_passes_37 (by decide) (fun hc => ?_) (fun hc => ?_)
          · have hf := ite_t hc hf
            obtain ⟨x1_46, ex⟩ : ∃ y : Int32, y = (x1 + (1 : Int32)) := ⟨_, rfl⟩
            have hf := lett_e ex hf
            refine lv_iinc (v := x1_46) (lv' := [(1, .int x1_46), (0, .ref (a 42))]) hx hb dX4_passes_46 hl (k := 1) rfl (by rw [ex]; rfl) (by decide) rfl (fun ls hl => ?_)
            refine lv_goto (tgt := 2) hx hb dX4_passes_49 (by decide) ?_
            exact ih t x1_46 _ _ _ hT (lv_sub hl [1, 0] rfl) hf
          · have hf := ite_f (fun q => q hc) hf
            refine lv_aload_n hx hb dX4_passes_40 rfl (lv_at hl 0 rfl) ?_
            refine lv_iload_n hx hb dX4_passes_41 rfl (lv_at hl 1 rfl) ?_
            refine lv_iconst (v := 1) hx hb dX4_passes_42 (by decide) ?_
            obtain ⟨w_43, h_43, hf⟩ := bind_e hf
            refine t_callv (vs := [.int x1, .int (1 : Int32)]) (rest := []) C hV hT (fun sz => mX4_comes l D d a N t x1 (1 : Int32) _ h_43 sz) (cwV 2 C.2.2.2.2 (lw_V q1613 q1615 qs88 q129 q1616) rfl rfl rfl hdX4_comes ⟨Nat.le_of_ble_eq_true rfl, Nat.le_of_ble_eq_true rfl⟩) rfl hl.1 rfl (Nat.le_of_ble_eq_true rfl) dX4_passes_43 (fun H locs hT => ?_)
            obtain ⟨x1_46, ex⟩ : ∃ y : Int32, y = (x1 + (1 : Int32)) := ⟨_, rfl⟩
            have hf := lett_e ex hf
            refine lv_iinc (v := x1_46) (lv' := [(1, .int x1_46), (0, .ref (a 42))]) hx hb dX4_passes_46 hl (k := 1) rfl (by rw [ex]; rfl) (by decide) rfl (fun ls hl => ?_)
            refine lv_goto (tgt := 2) hx hb dX4_passes_49 (by decide) ?_
            exact ih w_43 x1_46 _ _ _ hT (lv_sub hl [1, 0] rfl) hf
  have hL59 : ∀ (K : TS → Int32 → Option (Int32 × TS)), (∀ (t : TS) (x1 : Int32) (H : Heap) (locs : List Loc) (ls : Array Slot), TH D (AT a s.heap.size) s.heap (wT d a t) H locs → lv_has ls 4 [(0, .ref (a 42)), (1, .int x1)] → K t x1 = some w → W p l e (rm_ 5 122) s m args below meth c H locs 0 0 (MQ below (QiT D d a w.1 w.2 s.heap.size) args s 0 0 (AT a s.heap.size)) (F0 m 126 ls [])) → ∀ (n : Nat) (t : TS) (x1 : Int32) (x2 : Int32) (H : Heap) (locs : List Loc) (ls : Array Slot), TH D (AT a s.heap.size) s.heap (wT d a t) H locs → lv_has ls 4 [(0, .ref (a 42)), (1, .int x1), (2, .int x2)] → fX4_passes_L59 N K n t x1 x2 = some w → W p l e (rm_ 5 122) s m args below meth c H locs 0 0 (MQ below (QiT D d a w.1 w.2 s.heap.size) args s 0 0 (AT a s.heap.size)) (F0 m 59 ls []) := by
    intro K hE n
    induction n with
    | zero =>
      intro t x1 x2 H locs ls hT hl hf
      cases hf
    | succ n ih =>
      have hJ91 : ∀ (t : TS) (x1 : Int32) (x2 : Int32) (s0 : Int32) (s1 : Int32) (H : Heap) (locs : List Loc) (ls : Array Slot), TH D (AT a s.heap.size) s.heap (wT d a t) H locs → lv_has ls 4 [(0, .ref (a 42)), (1, .int x1), (2, .int x2)] → fX4_passes_J91 N K (fX4_passes_L59 N K n) t x1 x2 s0 s1 = some w → W p l e (rm_ 5 122) s m args below meth c H locs 0 0 (MQ below (QiT D d a w.1 w.2 s.heap.size) args s 0 0 (AT a s.heap.size)) (F0 m 91 ls [.int s0, .int s1, .ref (a 25)]) := by
        intro t x1 x2 s0 s1 H locs ls hT hl hf
        unfold fX4_passes_J91 at hf
        obtain ⟨hi, hf⟩ := ix_e hf
        refine t_ist C hV hT 11 _ rfl hi rfl (tast_25 d a t _ _) dX4_passes_91 (fun t_91 H locs et hT => ?_)
        have hf := lett_e et hf
        refine lv_iload_n hx hb dX4_passes_92 rfl (lv_at hl 1 rfl) ?_
        refine lv_iload_n hx hb dX4_passes_93 rfl (lv_at hl 2 rfl) ?_
        obtain ⟨w_94, h_94, hf⟩ := bind_e hf
        refine s_calli (vs := [.int x1, .int x2]) (rest := []) C (fun q h => Or.inr h) hT (fun sz => mX4_isOf l N x1 x2 _ h_94 sz) (va_cwS 2 C.2.2.2.2 (lw_S q1629 q1630 q129 q1631) rfl rfl rfl hdX4_isOf ⟨Nat.le_of_ble_eq_true rfl, Nat.le_of_ble_eq_true rfl⟩) rfl hl.1 rfl (Nat.le_of_ble_eq_true rfl) dX4_passes_94 ⟨Nat.zero_le _, Nat.zero_le _⟩ (fun H locs hT => ?_)
        refine lv_if_eq (tgt := 120) hx hb dX4_passes_97 (by decide) (fun hc => ?_) (fun hc => ?_)
        · have hf := ite_t hc hf
          obtain ⟨x2_120, ex⟩ : ∃ y : Int32, y = (x2 + (1 : Int32)) := ⟨_, rfl⟩
          have hf := lett_e ex hf
          refine lv_iinc (v := x2_120) (lv' := [(2, .int x2_120), (0, .ref (a 42)), (1, .int x1)]) hx hb dX4_passes_120 hl (k := 2) rfl (by rw [ex]; rfl) (by decide) rfl (fun ls hl => ?_)
          refine lv_goto (tgt := 59) hx hb dX4_passes_123 (by decide) ?_
          exact ih t_91 x1 x2_120 _ _ _ hT (lv_sub hl [1, 2, 0] rfl) hf
        · have hf := ite_f hc hf
          refine lv_aload_n hx hb dX4_passes_100 rfl (lv_at hl 0 rfl) ?_
          refine t_get C hV hT 20 (by decide) q1267 rfl dX4_passes_101 ?_
          refine lv_bipush (v := 11) hx hb dX4_passes_104 (by decide) ?_
          refine lv_iconst (v := 5) hx hb dX4_passes_106 (by decide) ?_
          refine lv_iload_n hx hb dX4_passes_107 rfl (lv_at hl 2 rfl) ?_
          refine lv_imul hx hb dX4_passes_108 ?_
          refine lv_iadd hx hb dX4_passes_109 ?_
          refine lv_iconst (v := 4) hx hb dX4_passes_110 (by decide) ?_
          refine lv_iadd hx hb dX4_passes_111 ?_
          refine lv_aload_n hx hb dX4_passes_112 rfl (lv_at hl 0 rfl) ?_
          refine t_get C hV hT 20 (by decide) q1267 rfl dX4_passes_113 ?_
          refine lv_bipush (v := 10) hx hb dX4_passes_116 (by decide) ?_
          refine g_ild C hV hT 10 10 rfl (vin_of (by decide)) (by decide) dX4_passes_118 ?_
          obtain ⟨hi, hf⟩ := ix_e hf
          refine t_ist C hV hT 10 _ rfl hi rfl (tast_20 d a t_91 _ _) dX4_passes_119 (fun t_119 H locs et hT => ?_)
          have hf := lett_e et hf
          obtain ⟨x2_120, ex⟩ : ∃ y : Int32, y = (x2 + (1 : Int32)) := ⟨_, rfl⟩
          have hf := lett_e ex hf
          refine lv_iinc (v := x2_120) (lv' := [(2, .int x2_120), (0, .ref (a 42)), (1, .int x1)]) hx hb dX4_passes_120 hl (k := 2) rfl (by rw [ex]; rfl) (by decide) rfl (fun ls hl => ?_)
          refine lv_goto (tgt := 59) hx hb dX4_passes_123 (by decide) ?_
          exact ih t_119 x1 x2_120 _ _ _ hT (lv_sub hl [1, 2, 0] rfl) hf
      intro t x1 x2 H locs ls hT hl hf
      replace hf : fX4_passes_B59 N K (fX4_passes_L59 N K n) t x1 x2 = some w := hf
      unfold fX4_passes_B59 at hf
      refine lv_iload_n hx hb dX4_passes_59 rfl (lv_at hl 2 rfl) ?_
      refine lv_aload_n hx hb dX4_passes_60 rfl (lv_at hl 0 rfl) ?_
      refine t_get C hV hT 20 (by decide) q1267 rfl dX4_passes_61 ?_
      refine lv_iconst (v := 3) hx hb dX4_passes_64 (by decide) ?_
      refine g_ild C hV hT 10 3 rfl (vin_of (by decide)) (by decide) dX4_passes_65 ?_
      refine lv_icmp_ge (tgt := 126) hx hb dX4_passes_66 (by decide) (fun hc => ?_) (fun hc => ?_)
      · have hf := ite_t hc hf
        exact hE t x1 _ _ _ hT (lv_sub hl [0, 1] rfl) hf
      · have hf := ite_f hc hf
        refine lv_aload_n hx hb dX4_passes_69 rfl (lv_at hl 0 rfl) ?_
        refine t_get C hV hT 25 (by decide) q1272 rfl dX4_passes_70 ?_
        refine lv_iload_n hx hb dX4_passes_73 rfl (lv_at hl 2 rfl) ?_
        refine lv_iload_n hx hb dX4_passes_74 rfl (lv_at hl 1 rfl) ?_
        refine lv_iload_n hx hb dX4_passes_75 rfl (lv_at hl 2 rfl) ?_
        obtain ⟨w_76, h_76, hf⟩ := bind_e hf
        refine s_calli (vs := [.int x1, .int x2]) (rest := [.int x2, .ref (a 25)]) C (fun q h => Or.inr h) hT (fun sz => mX4_isOf l N x1 x2 _ h_76 sz) (va_cwS 2 C.2.2.2.2 (lw_S q1629 q1630 q129 q1631) rfl rfl rfl hdX4_isOf ⟨Nat.le_of_ble_eq_true rfl, Nat.le_of_ble_eq_true rfl⟩) rfl hl.1 rfl (Nat.le_of_ble_eq_true rfl) dX4_passes_76 ⟨Nat.zero_le _, Nat.zero_le _⟩ (fun H locs hT => ?_)
        refine lv_if_eq (tgt := 90) hx hb dX4_passes_79 (by decide) (fun hc => ?_) (fun hc => ?_)
        · have hf := ite_t hc hf
          refine lv_iconst (v := 0) hx hb dX4_passes_90 (by decide) ?_
          exact hJ91 t x1 x2 (0 : Int32) x2 _ _ _ hT hl hf
        · have hf := ite_f hc hf
          refine lv_aload_n hx hb dX4_passes_82 rfl (lv_at hl 0 rfl) ?_
          refine lv_iload_n hx hb dX4_passes_83 rfl (lv_at hl 2 rfl) ?_
          obtain ⟨w_84, h_84, hf⟩ := bind_e hf
          refine t_calli (vs := [.int x2]) (rest := [.int x2, .ref (a 25)]) C hV hT (fun sz => mX4_goes l D d a N t x2 _ h_84 sz) (cwV 1 C.2.2.2.2 (lw_V q1665 q1667 qs98 q129 q1668) rfl rfl rfl hdX4_goes ⟨Nat.le_of_ble_eq_true rfl, Nat.le_of_ble_eq_true rfl⟩) rfl hl.1 rfl (Nat.le_of_ble_eq_true rfl) dX4_passes_84 (fun H locs hT => ?_)
          refine lv_goto (tgt := 91) hx hb dX4_passes_87 (by decide) ?_
          exact hJ91 w_84.2 x1 x2 w_84.1 x2 _ _ _ hT hl hf
  have hL132 : ∀ (K : TS → Int32 → Option (Int32 × TS)), (∀ (t : TS) (x1 : Int32) (H : Heap) (locs : List Loc) (ls : Array Slot), TH D (AT a s.heap.size) s.heap (wT d a t) H locs → lv_has ls 4 [(0, .ref (a 42)), (1, .int x1)] → K t x1 = some w → W p l e (rm_ 5 122) s m args below meth c H locs 0 0 (MQ below (QiT D d a w.1 w.2 s.heap.size) args s 0 0 (AT a s.heap.size)) (F0 m 185 ls [])) → ∀ (n : Nat) (t : TS) (x1 : Int32) (x2 : Int32) (H : Heap) (locs : List Loc) (ls : Array Slot), TH D (AT a s.heap.size) s.heap (wT d a t) H locs → lv_has ls 4 [(0, .ref (a 42)), (1, .int x1), (2, .int x2)] → fX4_passes_L132 N K n t x1 x2 = some w → W p l e (rm_ 5 122) s m args below meth c H locs 0 0 (MQ below (QiT D d a w.1 w.2 s.heap.size) args s 0 0 (AT a s.heap.size)) (F0 m 132 ls []) := by
    intro K hE n
    induction n with
    | zero =>
      intro t x1 x2 H locs ls hT hl hf
      cases hf
    | succ n ih =>
      have hJ178 : ∀ (t : TS) (x1 : Int32) (x2 : Int32) (s0 : Int32) (s1 : Int32) (H : Heap) (locs : List Loc) (ls : Array Slot), TH D (AT a s.heap.size) s.heap (wT d a t) H locs → lv_has ls 4 [(0, .ref (a 42)), (1, .int x1), (2, .int x2)] → fX4_passes_J178 N K (fX4_passes_L132 N K n) t x1 x2 s0 s1 = some w → W p l e (rm_ 5 122) s m args below meth c H locs 0 0 (MQ below (QiT D d a w.1 w.2 s.heap.size) args s 0 0 (AT a s.heap.size)) (F0 m 178 ls [.int s0, .int s1, .ref (a 20)]) := by
        intro t x1 x2 s0 s1 H locs ls hT hl hf
        unfold fX4_passes_J178 at hf
        obtain ⟨hi, hf⟩ := ix_e hf
        refine t_ist C hV hT 10 _ rfl hi rfl (tast_20 d a t _ _) dX4_passes_178 (fun t_178 H locs et hT => ?_)
        have hf := lett_e et hf
        obtain ⟨x2_179, ex⟩ : ∃ y : Int32, y = (x2 + (1 : Int32)) := ⟨_, rfl⟩
        have hf := lett_e ex hf
        refine lv_iinc (v := x2_179) (lv' := [(2, .int x2_179), (0, .ref (a 42)), (1, .int x1)]) hx hb dX4_passes_179 hl (k := 2) rfl (by rw [ex]; rfl) (by decide) rfl (fun ls hl => ?_)
        refine lv_goto (tgt := 132) hx hb dX4_passes_182 (by decide) ?_
        exact ih t_178 x1 x2_179 _ _ _ hT (lv_sub hl [1, 2, 0] rfl) hf
      intro t x1 x2 H locs ls hT hl hf
      replace hf : fX4_passes_B132 N K (fX4_passes_L132 N K n) t x1 x2 = some w := hf
      unfold fX4_passes_B132 at hf
      refine lv_iload_n hx hb dX4_passes_132 rfl (lv_at hl 2 rfl) ?_
      refine lv_aload_n hx hb dX4_passes_133 rfl (lv_at hl 0 rfl) ?_
      refine t_get C hV hT 20 (by decide) q1267 rfl dX4_passes_134 ?_
      refine lv_iconst (v := 3) hx hb dX4_passes_137 (by decide) ?_
      refine g_ild C hV hT 10 3 rfl (vin_of (by decide)) (by decide) dX4_passes_138 ?_
      refine lv_icmp_ge (tgt := 185) hx hb dX4_passes_139 (by decide) (fun hc => ?_) (fun hc => ?_)
      · have hf := ite_t hc hf
        exact hE t x1 _ _ _ hT (lv_sub hl [0, 1] rfl) hf
      · have hf := ite_f hc hf
        refine lv_aload_n hx hb dX4_passes_142 rfl (lv_at hl 0 rfl) ?_
        refine lv_iload_n hx hb dX4_passes_143 rfl (lv_at hl 2 rfl) ?_
        obtain ⟨w_144, h_144, hf⟩ := bind_e hf
        refine t_calli (vs := [.int x2]) (rest := []) C hV hT (fun sz => mX4_waitedOn l D d a N t x2 _ h_144 sz) (cwV 1 C.2.2.2.2 (lw_V q1577 q1579 qs82 q129 q1580) rfl rfl rfl hdX4_waitedOn ⟨Nat.le_of_ble_eq_true rfl, Nat.le_of_ble_eq_true rfl⟩) rfl hl.1 rfl (Nat.le_of_ble_eq_true rfl) dX4_passes_144 (fun H locs hT => ?_)
        refine lv_aload_n hx hb dX4_passes_147 rfl (lv_at hl 0 rfl) ?_
        refine lv_iload_n hx hb dX4_passes_148 rfl (lv_at hl 2 rfl) ?_
        obtain ⟨w_149, h_149, hf⟩ := bind_e hf
        refine t_calli (vs := [.int x2]) (rest := [.int w_144.1]) C hV hT (fun sz => mX4_waitOn l D d a N w_144.2 x2 _ h_149 sz) (cwV 1 C.2.2.2.2 (lw_V q1565 q1567 qs79 q129 q1568) rfl rfl rfl hdX4_waitOn ⟨Nat.le_of_ble_eq_true rfl, Nat.le_of_ble_eq_true rfl⟩) rfl hl.1 rfl (Nat.le_of_ble_eq_true rfl) dX4_passes_149 (fun H locs hT => ?_)
        refine lv_iadd hx hb dX4_passes_152 ?_
        refine lv_topi (fun x3_153 ex => ?_)
        have hf := lett_e ex hf
        refine lv_istore_n (lv' := [(3, .int x3_153), (0, .ref (a 42)), (1, .int x1), (2, .int x2)]) hx hb dX4_passes_153 rfl hl (by decide) rfl (fun ls hl => ?_)
        refine lv_aload_n hx hb dX4_passes_154 rfl (lv_at hl 1 rfl) ?_
        refine t_get C hV hT 20 (by decide) q1267 rfl dX4_passes_155 ?_
        refine lv_bipush (v := 11) hx hb dX4_passes_158 (by decide) ?_
        refine lv_iconst (v := 5) hx hb dX4_passes_160 (by decide) ?_
        refine lv_iload_n hx hb dX4_passes_161 rfl (lv_at hl 3 rfl) ?_
        refine lv_imul hx hb dX4_passes_162 ?_
        refine lv_iadd hx hb dX4_passes_163 ?_
        refine lv_iconst (v := 3) hx hb dX4_passes_164 (by decide) ?_
        refine lv_iadd hx hb dX4_passes_165 ?_
        refine lv_iload_n hx hb dX4_passes_166 rfl (lv_at hl 0 rfl) ?_
        refine g_ldc (v := 99999) C q1479 dX4_passes_167 ?_
        refine lv_icmp_le (tgt := 177) hx hb dX4_passes_169 (by decide) (fun hc => ?_) (fun hc => ?_)
        · have hf := ite_t hc hf
          refine lv_iload_n hx hb dX4_passes_177 rfl (lv_at hl 0 rfl) ?_
          exact hJ178 w_149.2 x1 x2 x3_153 (((11 : Int32) + ((5 : Int32) * x2)) + (3 : Int32)) _ _ _ hT (lv_sub hl [1, 2, 3] rfl) hf
        · have hf := ite_f hc hf
          refine g_ldc (v := 99999) C q1479 dX4_passes_172 ?_
          refine lv_goto (tgt := 178) hx hb dX4_passes_174 (by decide) ?_
          exact hJ178 w_149.2 x1 x2 (99999 : Int32) (((11 : Int32) + ((5 : Int32) * x2)) + (3 : Int32)) _ _ _ hT (lv_sub hl [1, 2, 3] rfl) hf
  refine W.eq (by rw [hargs]) (t_in (vs := [.ref (a 42)]) (n := 4) (Nat.le_of_ble_eq_true rfl) (fun ls hl => ?_))
  have hl : lv_has ls 4 [(0, .ref (a 42))] := hl
  unfold fX4_passes at hf
  skip
  refine lv_iconst (v := 0) hx hb dX4_passes_0 (by decide) ?_
  refine lv_istore_n (lv' := [(1, .int (0 : Int32)), (0, .ref (a 42))]) hx hb dX4_passes_1 rfl hl (by decide) rfl (fun ls hl => ?_)
  refine hL2 _ (fun t H locs ls hT hl hf => ?_) N t (0 : Int32) _ _ _ hT (lv_sub hl [1, 0] rfl) hf
  refine lv_aload_n hx hb dX4_passes_52 rfl (lv_at hl 0 rfl) ?_
  obtain ⟨w_53, h_53, hf⟩ := bind_e hf
  refine t_calli (vs := []) (rest := []) C hV hT (fun sz => mX4_letIn l D d a N t  _ h_53 sz) (cwV 0 C.2.2.2.2 (lw_V q1617 q1619 qs89 q129 q1620) rfl rfl rfl hdX4_letIn ⟨Nat.le_of_ble_eq_true rfl, Nat.le_of_ble_eq_true rfl⟩) rfl hl.1 rfl (Nat.le_of_ble_eq_true rfl) dX4_passes_53 (fun H locs hT => ?_)
  refine lv_istore_n (lv' := [(1, .int w_53.1), (0, .ref (a 42))]) hx hb dX4_passes_56 rfl hl (by decide) rfl (fun ls hl => ?_)
  refine lv_iconst (v := 0) hx hb dX4_passes_57 (by decide) ?_
  refine lv_istore_n (lv' := [(2, .int (0 : Int32)), (1, .int w_53.1), (0, .ref (a 42))]) hx hb dX4_passes_58 rfl hl (by decide) rfl (fun ls hl => ?_)
  refine hL59 _ (fun t x1 H locs ls hT hl hf => ?_) N w_53.2 w_53.1 (0 : Int32) _ _ _ hT (lv_sub hl [2, 1, 0] rfl) hf
  refine lv_aload_n hx hb dX4_passes_126 rfl (lv_at hl 0 rfl) ?_
  obtain ⟨w_127, h_127, hf⟩ := bind_e hf
  refine t_callv (vs := []) (rest := []) C hV hT (fun sz => mX4_sounds l D d a N t  _ h_127 sz) (cwV 0 C.2.2.2.2 (lw_V q1669 q1671 qs99 q129 q1672) rfl rfl rfl hdX4_sounds ⟨Nat.le_of_ble_eq_true rfl, Nat.le_of_ble_eq_true rfl⟩) rfl hl.1 rfl (Nat.le_of_ble_eq_true rfl) dX4_passes_127 (fun H locs hT => ?_)
  refine lv_iconst (v := 0) hx hb dX4_passes_130 (by decide) ?_
  refine lv_istore_n (lv' := [(2, .int (0 : Int32)), (0, .ref (a 42)), (1, .int x1)]) hx hb dX4_passes_131 rfl hl (by decide) rfl (fun ls hl => ?_)
  refine hL132 _ (fun t x1 H locs ls hT hl hf => ?_) N w_127 x1 (0 : Int32) _ _ _ hT (lv_sub hl [1, 2, 0] rfl) hf
  refine lv_aload_n hx hb dX4_passes_185 rfl (lv_at hl 0 rfl) ?_
  refine t_get C hV hT 20 (by decide) q1267 rfl dX4_passes_186 ?_
  refine lv_bipush (v := 10) hx hb dX4_passes_189 (by decide) ?_
  refine lv_dup2_11 hx hb dX4_passes_191 rfl rfl ?_
  refine g_ild C hV hT 10 10 rfl (vin_of (by decide)) (by decide) dX4_passes_192 ?_
  refine lv_iconst (v := 1) hx hb dX4_passes_193 (by decide) ?_
  refine lv_iadd hx hb dX4_passes_194 ?_
  refine t_ist C hV hT 10 10 rfl (vin_of (by decide)) (by decide) (tast_20 d a t _ _) dX4_passes_195 (fun t_195 H locs et hT => ?_)
  have hf := lett_e et hf
  refine lv_iload_n hx hb dX4_passes_196 rfl (lv_at hl 1 rfl) ?_
  exact t_iret C hT hf hr hlocks dX4_passes_197
def fX4_beat (N : Nat) (t : TS) : Option (Int32 × TS) :=
  ((fX4_isJunction N t ).bind fun w_1 => (if w_1.1 = 0 then (some ((-1 : Int32), w_1.2)) else (if ¬ (w_1.2.2.1 20 10) = (999 : Int32) then ((fX4_keepsAct N w_1.2 ).bind fun w_23 => ((fX4_passes N w_23 ).bind fun w_27 => (some (w_27.1, w_27.2)))) else (some ((-1 : Int32), w_1.2)))))
theorem hdX4_beat : yX4_beat.cls = RX4 ∧ yX4_beat.cls ≠ "java/lang/invoke/MethodHandle" ∧ yX4_beat.cls ≠ "java/lang/invoke/VarHandle" ∧ (parseMethodDescriptor yX4_beat.desc).map (fun d => d.parameters.length) = some 0 := by decide +kernel
set_option maxHeartbeats 4000000 in
theorem mX4_beat (l : Launch) (D : va_G) (d : Nat → ClassId) (a : Nat → Nat) (N : Nat) (t : TS) (w : Int32 × TS) (hf : fX4_beat N t = some w) (sz : Nat) : Met l yX4_beat (ws_ yX4_beat cX4_beat 1 (some .int)) (rm_ 6 145) (PcT D d a [] t sz) (QiT D d a w.1 w.2 sz) 0 0 (AT a sz) := by
  refine Met.ofW (cc := cX4_beat) (maxL := 1) (ret := (some .int)) plX4 rfl ?_
  intro p e s m args below meth c s₁ B hml hv
  obtain ⟨C, hV, hT, hr, hlocks, hargs, rfl⟩ := t_enter B hml rfl hv
  have hx := C.1
  have hb := C.2.1
  show W p l e (rm_ 6 145) s m args below meth c s.heap [] 0 0 (MQ below (QiT D d a w.1 w.2 s.heap.size) args s 0 0 (AT a s.heap.size)) _
  refine W.eq (by rw [hargs]) (t_in (vs := [.ref (a 42)]) (n := 1) (Nat.le_of_ble_eq_true rfl) (fun ls hl => ?_))
  have hl : lv_has ls 1 [(0, .ref (a 42))] := hl
  unfold fX4_beat at hf
  skip
  refine lv_aload_n hx hb dX4_beat_0 rfl (lv_at hl 0 rfl) ?_
  obtain ⟨w_1, h_1, hf⟩ := bind_e hf
  refine t_calli (vs := []) (rest := []) C hV hT (fun sz => mX4_isJunction l D d a N t  _ h_1 sz) (cwV 0 C.2.2.2.2 (lw_V q1593 q1595 qs85 q129 q1596) rfl rfl rfl hdX4_isJunction ⟨Nat.le_of_ble_eq_true rfl, Nat.le_of_ble_eq_true rfl⟩) rfl hl.1 rfl (Nat.le_of_ble_eq_true rfl) dX4_beat_1 (fun H locs hT => ?_)
  refine lv_if_eq (tgt := 20) hx hb dX4_beat_4 (by decide) (fun hc => ?_) (fun hc => ?_)
  · have hf := ite_t hc hf
    refine lv_iconst (v := -1) hx hb dX4_beat_20 (by decide) ?_
    exact t_iret C hT hf hr hlocks dX4_beat_21
  · have hf := ite_f hc hf
    refine lv_aload_n hx hb dX4_beat_7 rfl (lv_at hl 0 rfl) ?_
    refine t_get C hV hT 20 (by decide) q1267 rfl dX4_beat_8 ?_
    refine lv_bipush (v := 10) hx hb dX4_beat_11 (by decide) ?_
    refine g_ild C hV hT 10 10 rfl (vin_of (by decide)) (by decide) dX4_beat_13 ?_
    refine lv_sipush (v := 999) hx hb dX4_beat_14 (by decide) ?_
    refine lv_icmp_ne (tgt := 22) hx hb dX4_beat_17 (by decide) (fun hc => ?_) (fun hc => ?_)
    · have hf := ite_t hc hf
      refine lv_aload_n hx hb dX4_beat_22 rfl (lv_at hl 0 rfl) ?_
      obtain ⟨w_23, h_23, hf⟩ := bind_e hf
      refine t_callv (vs := []) (rest := []) C hV hT (fun sz => mX4_keepsAct l D d a N w_1.2  _ h_23 sz) (cwV 0 C.2.2.2.2 (lw_V q1605 q1607 qs86 q129 q1608) rfl rfl rfl hdX4_keepsAct ⟨Nat.le_of_ble_eq_true rfl, Nat.le_of_ble_eq_true rfl⟩) rfl hl.1 rfl (Nat.le_of_ble_eq_true rfl) dX4_beat_23 (fun H locs hT => ?_)
      refine lv_aload_n hx hb dX4_beat_26 rfl (lv_at hl 0 rfl) ?_
      obtain ⟨w_27, h_27, hf⟩ := bind_e hf
      refine t_calli (vs := []) (rest := []) C hV hT (fun sz => mX4_passes l D d a N w_23  _ h_27 sz) (cwV 0 C.2.2.2.2 (lw_V q1609 q1611 qs87 q129 q1612) rfl rfl rfl hdX4_passes ⟨Nat.le_of_ble_eq_true rfl, Nat.le_of_ble_eq_true rfl⟩) rfl hl.1 rfl (Nat.le_of_ble_eq_true rfl) dX4_beat_27 (fun H locs hT => ?_)
      exact t_iret C hT hf hr hlocks dX4_beat_30
    · have hf := ite_f (fun q => q hc) hf
      refine lv_iconst (v := -1) hx hb dX4_beat_20 (by decide) ?_
      exact t_iret C hT hf hr hlocks dX4_beat_21
def fX4_come (N : Nat) (t : TS) (x1 : Int32) (x2 : Int32) : Option (Int32 × TS) :=
  ((fX4_isRoad N t x1).bind fun w_2 => (if w_2.1 = 0 then (some ((-1 : Int32), w_2.2)) else ((fX4_in N (x2).toInt64 (1 : Int64) (20 : Int64)).bind fun w_14 => (if ¬ w_14 = 0 then ((fX4_keepsAct N w_2.2 ).bind fun w_23 => ((fX4_comes N w_23 x1 x2).bind fun w_29 => ((fX4_waitOn N w_29 x1).bind fun w_34 => (some (w_34.1, w_34.2))))) else (some ((-1 : Int32), w_2.2))))))
theorem hdX4_come : yX4_come.cls = RX4 ∧ yX4_come.cls ≠ "java/lang/invoke/MethodHandle" ∧ yX4_come.cls ≠ "java/lang/invoke/VarHandle" ∧ (parseMethodDescriptor yX4_come.desc).map (fun d => d.parameters.length) = some 2 := by decide +kernel
set_option maxHeartbeats 4000000 in
theorem mX4_come (l : Launch) (D : va_G) (d : Nat → ClassId) (a : Nat → Nat) (N : Nat) (t : TS) (x1 : Int32) (x2 : Int32) (w : Int32 × TS) (hf : fX4_come N t x1 x2 = some w) (sz : Nat) : Met l yX4_come (ws_ yX4_come cX4_come 3 (some .int)) (rm_ 2 44) (PcT D d a [.int x1, .int x2] t sz) (QiT D d a w.1 w.2 sz) 0 0 (AT a sz) := by
  refine Met.ofW (cc := cX4_come) (maxL := 3) (ret := (some .int)) plX4 rfl ?_
  intro p e s m args below meth c s₁ B hml hv
  obtain ⟨C, hV, hT, hr, hlocks, hargs, rfl⟩ := t_enter B hml rfl hv
  have hx := C.1
  have hb := C.2.1
  show W p l e (rm_ 2 44) s m args below meth c s.heap [] 0 0 (MQ below (QiT D d a w.1 w.2 s.heap.size) args s 0 0 (AT a s.heap.size)) _
  refine W.eq (by rw [hargs]) (t_in (vs := [.ref (a 42), .int x1, .int x2]) (n := 3) (Nat.le_of_ble_eq_true rfl) (fun ls hl => ?_))
  have hl : lv_has ls 3 [(0, .ref (a 42)), (1, .int x1), (2, .int x2)] := hl
  unfold fX4_come at hf
  skip
  refine lv_aload_n hx hb dX4_come_0 rfl (lv_at hl 0 rfl) ?_
  refine lv_iload_n hx hb dX4_come_1 rfl (lv_at hl 1 rfl) ?_
  obtain ⟨w_2, h_2, hf⟩ := bind_e hf
  refine t_calli (vs := [.int x1]) (rest := []) C hV hT (fun sz => mX4_isRoad l D d a N t x1 _ h_2 sz) (cwV 1 C.2.2.2.2 (lw_V q1561 q1563 qs78 q129 q1564) rfl rfl rfl hdX4_isRoad ⟨Nat.le_of_ble_eq_true rfl, Nat.le_of_ble_eq_true rfl⟩) rfl hl.1 rfl (Nat.le_of_ble_eq_true rfl) dX4_come_2 (fun H locs hT => ?_)
  refine lv_if_eq (tgt := 20) hx hb dX4_come_5 (by decide) (fun hc => ?_) (fun hc => ?_)
  · have hf := ite_t hc hf
    refine lv_iconst (v := -1) hx hb dX4_come_20 (by decide) ?_
    exact t_iret C hT hf hr hlocks dX4_come_21
  · have hf := ite_f hc hf
    refine lv_iload_n hx hb dX4_come_8 rfl (lv_at hl 2 rfl) ?_
    refine lv_i2l hx hb dX4_come_9 rfl ?_
    refine lv_lconst (v := 1) hx hb dX4_come_10 (by decide) ?_
    refine g_ldc2 (v := 20) C q1677 dX4_come_11 ?_
    obtain ⟨w_14, h_14, hf⟩ := bind_e hf
    refine s_calli (vs := [.long (x2).toInt64, .long (1 : Int64), .long (20 : Int64)]) (rest := []) C (fun q h => Or.inr h) hT (fun sz => mX4_in l N (x2).toInt64 (1 : Int64) (20 : Int64) _ h_14 sz) (va_cwS 3 C.2.2.2.2 (lw_S q1448 q1449 q129 q1450) rfl rfl rfl hdX4_in ⟨Nat.le_of_ble_eq_true rfl, Nat.le_of_ble_eq_true rfl⟩) rfl hl.1 rfl (Nat.le_of_ble_eq_true rfl) dX4_come_14 ⟨Nat.zero_le _, Nat.zero_le _⟩ (fun H locs hT => ?_)
    refine lv_if_ne (tgt := 22) hx hb dX4_come_17 (by decide) (fun hc => ?_) (fun hc => ?_)
    · have hf := ite_t hc hf
      refine lv_aload_n hx hb dX4_come_22 rfl (lv_at hl 0 rfl) ?_
      obtain ⟨w_23, h_23, hf⟩ := bind_e hf
      refine t_callv (vs := []) (rest := []) C hV hT (fun sz => mX4_keepsAct l D d a N w_2.2  _ h_23 sz) (cwV 0 C.2.2.2.2 (lw_V q1605 q1607 qs86 q129 q1608) rfl rfl rfl hdX4_keepsAct ⟨Nat.le_of_ble_eq_true rfl, Nat.le_of_ble_eq_true rfl⟩) rfl hl.1 rfl (Nat.le_of_ble_eq_true rfl) dX4_come_23 (fun H locs hT => ?_)
      refine lv_aload_n hx hb dX4_come_26 rfl (lv_at hl 0 rfl) ?_
      refine lv_iload_n hx hb dX4_come_27 rfl (lv_at hl 1 rfl) ?_
      refine lv_iload_n hx hb dX4_come_28 rfl (lv_at hl 2 rfl) ?_
      obtain ⟨w_29, h_29, hf⟩ := bind_e hf
      refine t_callv (vs := [.int x1, .int x2]) (rest := []) C hV hT (fun sz => mX4_comes l D d a N w_23 x1 x2 _ h_29 sz) (cwV 2 C.2.2.2.2 (lw_V q1613 q1615 qs88 q129 q1616) rfl rfl rfl hdX4_comes ⟨Nat.le_of_ble_eq_true rfl, Nat.le_of_ble_eq_true rfl⟩) rfl hl.1 rfl (Nat.le_of_ble_eq_true rfl) dX4_come_29 (fun H locs hT => ?_)
      refine lv_aload_n hx hb dX4_come_32 rfl (lv_at hl 0 rfl) ?_
      refine lv_iload_n hx hb dX4_come_33 rfl (lv_at hl 1 rfl) ?_
      obtain ⟨w_34, h_34, hf⟩ := bind_e hf
      refine t_calli (vs := [.int x1]) (rest := []) C hV hT (fun sz => mX4_waitOn l D d a N w_29 x1 _ h_34 sz) (cwV 1 C.2.2.2.2 (lw_V q1565 q1567 qs79 q129 q1568) rfl rfl rfl hdX4_waitOn ⟨Nat.le_of_ble_eq_true rfl, Nat.le_of_ble_eq_true rfl⟩) rfl hl.1 rfl (Nat.le_of_ble_eq_true rfl) dX4_come_34 (fun H locs hT => ?_)
      exact t_iret C hT hf hr hlocks dX4_come_37
    · have hf := ite_f (fun q => q hc) hf
      refine lv_iconst (v := -1) hx hb dX4_come_20 (by decide) ?_
      exact t_iret C hT hf hr hlocks dX4_come_21
def fX4_wave (N : Nat) (t : TS) (x1 : Int32) : Option (Int32 × TS) :=
  ((fX4_isRoad N t x1).bind fun w_2 => (if w_2.1 = 0 then (some ((-1 : Int32), w_2.2)) else ((fX4_waitOn N w_2.2 x1).bind fun w_10 => (if ¬ w_10.1 = 0 then ((fX4_keepsAct N w_10.2 ).bind fun w_19 => ((fX4_goes N w_19 x1).bind fun w_24 => (some (w_24.1, w_24.2)))) else (some ((-1 : Int32), w_10.2))))))
theorem hdX4_wave : yX4_wave.cls = RX4 ∧ yX4_wave.cls ≠ "java/lang/invoke/MethodHandle" ∧ yX4_wave.cls ≠ "java/lang/invoke/VarHandle" ∧ (parseMethodDescriptor yX4_wave.desc).map (fun d => d.parameters.length) = some 1 := by decide +kernel
set_option maxHeartbeats 4000000 in
theorem mX4_wave (l : Launch) (D : va_G) (d : Nat → ClassId) (a : Nat → Nat) (N : Nat) (t : TS) (x1 : Int32) (w : Int32 × TS) (hf : fX4_wave N t x1 = some w) (sz : Nat) : Met l yX4_wave (ws_ yX4_wave cX4_wave 2 (some .int)) (rm_ 2 43) (PcT D d a [.int x1] t sz) (QiT D d a w.1 w.2 sz) 0 0 (AT a sz) := by
  refine Met.ofW (cc := cX4_wave) (maxL := 2) (ret := (some .int)) plX4 rfl ?_
  intro p e s m args below meth c s₁ B hml hv
  obtain ⟨C, hV, hT, hr, hlocks, hargs, rfl⟩ := t_enter B hml rfl hv
  have hx := C.1
  have hb := C.2.1
  show W p l e (rm_ 2 43) s m args below meth c s.heap [] 0 0 (MQ below (QiT D d a w.1 w.2 s.heap.size) args s 0 0 (AT a s.heap.size)) _
  refine W.eq (by rw [hargs]) (t_in (vs := [.ref (a 42), .int x1]) (n := 2) (Nat.le_of_ble_eq_true rfl) (fun ls hl => ?_))
  have hl : lv_has ls 2 [(0, .ref (a 42)), (1, .int x1)] := hl
  unfold fX4_wave at hf
  skip
  refine lv_aload_n hx hb dX4_wave_0 rfl (lv_at hl 0 rfl) ?_
  refine lv_iload_n hx hb dX4_wave_1 rfl (lv_at hl 1 rfl) ?_
  obtain ⟨w_2, h_2, hf⟩ := bind_e hf
  refine t_calli (vs := [.int x1]) (rest := []) C hV hT (fun sz => mX4_isRoad l D d a N t x1 _ h_2 sz) (cwV 1 C.2.2.2.2 (lw_V q1561 q1563 qs78 q129 q1564) rfl rfl rfl hdX4_isRoad ⟨Nat.le_of_ble_eq_true rfl, Nat.le_of_ble_eq_true rfl⟩) rfl hl.1 rfl (Nat.le_of_ble_eq_true rfl) dX4_wave_2 (fun H locs hT => ?_)
  refine lv_if_eq (tgt := 16) hx hb dX4_wave_5 (by decide) (fun hc => ?_) (fun hc => ?_)
  · have hf := ite_t hc hf
    refine lv_iconst (v := -1) hx hb dX4_wave_16 (by decide) ?_
    exact t_iret C hT hf hr hlocks dX4_wave_17
  · have hf := ite_f hc hf
    refine lv_aload_n hx hb dX4_wave_8 rfl (lv_at hl 0 rfl) ?_
    refine lv_iload_n hx hb dX4_wave_9 rfl (lv_at hl 1 rfl) ?_
    obtain ⟨w_10, h_10, hf⟩ := bind_e hf
    refine t_calli (vs := [.int x1]) (rest := []) C hV hT (fun sz => mX4_waitOn l D d a N w_2.2 x1 _ h_10 sz) (cwV 1 C.2.2.2.2 (lw_V q1565 q1567 qs79 q129 q1568) rfl rfl rfl hdX4_waitOn ⟨Nat.le_of_ble_eq_true rfl, Nat.le_of_ble_eq_true rfl⟩) rfl hl.1 rfl (Nat.le_of_ble_eq_true rfl) dX4_wave_10 (fun H locs hT => ?_)
    refine lv_if_ne (tgt := 18) hx hb dX4_wave_13 (by decide) (fun hc => ?_) (fun hc => ?_)
    · have hf := ite_t hc hf
      refine lv_aload_n hx hb dX4_wave_18 rfl (lv_at hl 0 rfl) ?_
      obtain ⟨w_19, h_19, hf⟩ := bind_e hf
      refine t_callv (vs := []) (rest := []) C hV hT (fun sz => mX4_keepsAct l D d a N w_10.2  _ h_19 sz) (cwV 0 C.2.2.2.2 (lw_V q1605 q1607 qs86 q129 q1608) rfl rfl rfl hdX4_keepsAct ⟨Nat.le_of_ble_eq_true rfl, Nat.le_of_ble_eq_true rfl⟩) rfl hl.1 rfl (Nat.le_of_ble_eq_true rfl) dX4_wave_19 (fun H locs hT => ?_)
      refine lv_aload_n hx hb dX4_wave_22 rfl (lv_at hl 0 rfl) ?_
      refine lv_iload_n hx hb dX4_wave_23 rfl (lv_at hl 1 rfl) ?_
      obtain ⟨w_24, h_24, hf⟩ := bind_e hf
      refine t_calli (vs := [.int x1]) (rest := []) C hV hT (fun sz => mX4_goes l D d a N w_19 x1 _ h_24 sz) (cwV 1 C.2.2.2.2 (lw_V q1665 q1667 qs98 q129 q1668) rfl rfl rfl hdX4_goes ⟨Nat.le_of_ble_eq_true rfl, Nat.le_of_ble_eq_true rfl⟩) rfl hl.1 rfl (Nat.le_of_ble_eq_true rfl) dX4_wave_24 (fun H locs hT => ?_)
      exact t_iret C hT hf hr hlocks dX4_wave_27
    · have hf := ite_f (fun q => q hc) hf
      refine lv_iconst (v := -1) hx hb dX4_wave_16 (by decide) ?_
      exact t_iret C hT hf hr hlocks dX4_wave_17
def fX4_score (N : Nat) (t : TS) (x1 : Int32) (x2 : Int32) : Option (Int32 × TS) :=
  ((fX4_isBeat N t x1).bind fun w_2 => (if w_2.1 = 0 then (some ((-1 : Int32), w_2.2)) else ((fX4_isRoad N w_2.2 x2).bind fun w_10 => (if ¬ w_10.1 = 0 then ((fX4_keepsAct N w_10.2 ).bind fun w_19 => (ix ((41 : Int32) + x1) 121 (ix ((41 : Int32) + x1) 121 (lett (tsA w_19 20 (((41 : Int32) + x1)).toNatClampNeg ((w_19.2.1 20 (((41 : Int32) + x1)).toNatClampNeg) ^^^ ((1 : Int32) <<< (x2 &&& 31)))) fun t_36 => (ix ((41 : Int32) + x1) 121 (some ((((t_36.2.1 20 (((41 : Int32) + x1)).toNatClampNeg) >>> (x2 &&& 31)) &&& (1 : Int32)), t_36))))))) else (some ((-1 : Int32), w_10.2))))))
theorem hdX4_score : yX4_score.cls = RX4 ∧ yX4_score.cls ≠ "java/lang/invoke/MethodHandle" ∧ yX4_score.cls ≠ "java/lang/invoke/VarHandle" ∧ (parseMethodDescriptor yX4_score.desc).map (fun d => d.parameters.length) = some 2 := by decide +kernel
set_option maxHeartbeats 4000000 in
theorem mX4_score (l : Launch) (D : va_G) (d : Nat → ClassId) (a : Nat → Nat) (N : Nat) (t : TS) (x1 : Int32) (x2 : Int32) (w : Int32 × TS) (hf : fX4_score N t x1 x2 = some w) (sz : Nat) : Met l yX4_score (ws_ yX4_score cX4_score 3 (some .int)) (rm_ 2 41) (PcT D d a [.int x1, .int x2] t sz) (QiT D d a w.1 w.2 sz) 0 0 (AT a sz) := by
  refine Met.ofW (cc := cX4_score) (maxL := 3) (ret := (some .int)) plX4 rfl ?_
  intro p e s m args below meth c s₁ B hml hv
  obtain ⟨C, hV, hT, hr, hlocks, hargs, rfl⟩ := t_enter B hml rfl hv
  have hx := C.1
  have hb := C.2.1
  show W p l e (rm_ 2 41) s m args below meth c s.heap [] 0 0 (MQ below (QiT D d a w.1 w.2 s.heap.size) args s 0 0 (AT a s.heap.size)) _
  refine W.eq (by rw [hargs]) (t_in (vs := [.ref (a 42), .int x1, .int x2]) (n := 3) (Nat.le_of_ble_eq_true rfl) (fun ls hl => ?_))
  have hl : lv_has ls 3 [(0, .ref (a 42)), (1, .int x1), (2, .int x2)] := hl
  unfold fX4_score at hf
  skip
  refine lv_aload_n hx hb dX4_score_0 rfl (lv_at hl 0 rfl) ?_
  refine lv_iload_n hx hb dX4_score_1 rfl (lv_at hl 1 rfl) ?_
  obtain ⟨w_2, h_2, hf⟩ := bind_e hf
  refine t_calli (vs := [.int x1]) (rest := []) C hV hT (fun sz => mX4_isBeat l D d a N t x1 _ h_2 sz) (cwV 1 C.2.2.2.2 (lw_V q1589 q1591 qs84 q129 q1592) rfl rfl rfl hdX4_isBeat ⟨Nat.le_of_ble_eq_true rfl, Nat.le_of_ble_eq_true rfl⟩) rfl hl.1 rfl (Nat.le_of_ble_eq_true rfl) dX4_score_2 (fun H locs hT => ?_)
  refine lv_if_eq (tgt := 16) hx hb dX4_score_5 (by decide) (fun hc => ?_) (fun hc => ?_)
  · have hf := ite_t hc hf
    refine lv_iconst (v := -1) hx hb dX4_score_16 (by decide) ?_
    exact t_iret C hT hf hr hlocks dX4_score_17
  · have hf := ite_f hc hf
    refine lv_aload_n hx hb dX4_score_8 rfl (lv_at hl 0 rfl) ?_
    refine lv_iload_n hx hb dX4_score_9 rfl (lv_at hl 2 rfl) ?_
    obtain ⟨w_10, h_10, hf⟩ := bind_e hf
    refine t_calli (vs := [.int x2]) (rest := []) C hV hT (fun sz => mX4_isRoad l D d a N w_2.2 x2 _ h_10 sz) (cwV 1 C.2.2.2.2 (lw_V q1561 q1563 qs78 q129 q1564) rfl rfl rfl hdX4_isRoad ⟨Nat.le_of_ble_eq_true rfl, Nat.le_of_ble_eq_true rfl⟩) rfl hl.1 rfl (Nat.le_of_ble_eq_true rfl) dX4_score_10 (fun H locs hT => ?_)
    refine lv_if_ne (tgt := 18) hx hb dX4_score_13 (by decide) (fun hc => ?_) (fun hc => ?_)
    · have hf := ite_t hc hf
      refine lv_aload_n hx hb dX4_score_18 rfl (lv_at hl 0 rfl) ?_
      obtain ⟨w_19, h_19, hf⟩ := bind_e hf
      refine t_callv (vs := []) (rest := []) C hV hT (fun sz => mX4_keepsAct l D d a N w_10.2  _ h_19 sz) (cwV 0 C.2.2.2.2 (lw_V q1605 q1607 qs86 q129 q1608) rfl rfl rfl hdX4_keepsAct ⟨Nat.le_of_ble_eq_true rfl, Nat.le_of_ble_eq_true rfl⟩) rfl hl.1 rfl (Nat.le_of_ble_eq_true rfl) dX4_score_19 (fun H locs hT => ?_)
      refine lv_aload_n hx hb dX4_score_22 rfl (lv_at hl 0 rfl) ?_
      refine t_get C hV hT 20 (by decide) q1267 rfl dX4_score_23 ?_
      refine lv_bipush (v := 41) hx hb dX4_score_26 (by decide) ?_
      refine lv_iload_n hx hb dX4_score_28 rfl (lv_at hl 1 rfl) ?_
      refine lv_iadd hx hb dX4_score_29 ?_
      refine lv_dup2_11 hx hb dX4_score_30 rfl rfl ?_
      obtain ⟨hi, hf⟩ := ix_e hf
      refine g_ild C hV hT 10 _ rfl hi rfl dX4_score_31 ?_
      refine lv_iconst (v := 1) hx hb dX4_score_32 (by decide) ?_
      refine lv_iload_n hx hb dX4_score_33 rfl (lv_at hl 2 rfl) ?_
      refine lv_ishl hx hb dX4_score_34 ?_
      refine lv_ixor hx hb dX4_score_35 ?_
      obtain ⟨hi, hf⟩ := ix_e hf
      refine t_ist C hV hT 10 _ rfl hi rfl (tast_20 d a w_19 _ _) dX4_score_36 (fun t_36 H locs et hT => ?_)
      have hf := lett_e et hf
      refine lv_aload_n hx hb dX4_score_37 rfl (lv_at hl 0 rfl) ?_
      refine t_get C hV hT 20 (by decide) q1267 rfl dX4_score_38 ?_
      refine lv_bipush (v := 41) hx hb dX4_score_41 (by decide) ?_
      refine lv_iload_n hx hb dX4_score_43 rfl (lv_at hl 1 rfl) ?_
      refine lv_iadd hx hb dX4_score_44 ?_
      obtain ⟨hi, hf⟩ := ix_e hf
      refine g_ild C hV hT 10 _ rfl hi rfl dX4_score_45 ?_
      refine lv_iload_n hx hb dX4_score_46 rfl (lv_at hl 2 rfl) ?_
      refine lv_ishr hx hb dX4_score_47 ?_
      refine lv_iconst (v := 1) hx hb dX4_score_48 (by decide) ?_
      refine lv_iand hx hb dX4_score_49 ?_
      exact t_iret C hT hf hr hlocks dX4_score_50
    · have hf := ite_f (fun q => q hc) hf
      refine lv_iconst (v := -1) hx hb dX4_score_16 (by decide) ?_
      exact t_iret C hT hf hr hlocks dX4_score_17
def fX4_tune (N : Nat) (t : TS) (x1 : Int32) (x2 : Int32) : Option (Int32 × TS) :=
  ((fX4_isRoad N t x1).bind fun w_2 => (if w_2.1 = 0 then (some ((-1 : Int32), w_2.2)) else ((fX4_in N (x2).toInt64 (0 : Int64) (11 : Int64)).bind fun w_14 => (if w_14 = 0 then (some ((-1 : Int32), w_2.2)) else ((fX4_partOf N w_2.2 x1).bind fun w_22 => (if ¬ w_22.1 = x2 then ((fX4_keepsAct N w_22.2 ).bind fun w_32 => ((fX4_partOf N w_32 x1).bind fun w_37 => (ix (((11 : Int32) + ((5 : Int32) * x1)) + (1 : Int32)) 121 (lett (tsA w_37.2 20 ((((11 : Int32) + ((5 : Int32) * x1)) + (1 : Int32))).toNatClampNeg x2) fun t_54 => (some (w_37.1, t_54)))))) else (some ((-1 : Int32), w_22.2))))))))
theorem hdX4_tune : yX4_tune.cls = RX4 ∧ yX4_tune.cls ≠ "java/lang/invoke/MethodHandle" ∧ yX4_tune.cls ≠ "java/lang/invoke/VarHandle" ∧ (parseMethodDescriptor yX4_tune.desc).map (fun d => d.parameters.length) = some 2 := by decide +kernel
set_option maxHeartbeats 4000000 in
theorem mX4_tune (l : Launch) (D : va_G) (d : Nat → ClassId) (a : Nat → Nat) (N : Nat) (t : TS) (x1 : Int32) (x2 : Int32) (w : Int32 × TS) (hf : fX4_tune N t x1 x2 = some w) (sz : Nat) : Met l yX4_tune (ws_ yX4_tune cX4_tune 4 (some .int)) (rm_ 1 25) (PcT D d a [.int x1, .int x2] t sz) (QiT D d a w.1 w.2 sz) 0 0 (AT a sz) := by
  refine Met.ofW (cc := cX4_tune) (maxL := 4) (ret := (some .int)) plX4 rfl ?_
  intro p e s m args below meth c s₁ B hml hv
  obtain ⟨C, hV, hT, hr, hlocks, hargs, rfl⟩ := t_enter B hml rfl hv
  have hx := C.1
  have hb := C.2.1
  show W p l e (rm_ 1 25) s m args below meth c s.heap [] 0 0 (MQ below (QiT D d a w.1 w.2 s.heap.size) args s 0 0 (AT a s.heap.size)) _
  refine W.eq (by rw [hargs]) (t_in (vs := [.ref (a 42), .int x1, .int x2]) (n := 4) (Nat.le_of_ble_eq_true rfl) (fun ls hl => ?_))
  have hl : lv_has ls 4 [(0, .ref (a 42)), (1, .int x1), (2, .int x2)] := hl
  unfold fX4_tune at hf
  skip
  refine lv_aload_n hx hb dX4_tune_0 rfl (lv_at hl 0 rfl) ?_
  refine lv_iload_n hx hb dX4_tune_1 rfl (lv_at hl 1 rfl) ?_
  obtain ⟨w_2, h_2, hf⟩ := bind_e hf
  refine t_calli (vs := [.int x1]) (rest := []) C hV hT (fun sz => mX4_isRoad l D d a N t x1 _ h_2 sz) (cwV 1 C.2.2.2.2 (lw_V q1561 q1563 qs78 q129 q1564) rfl rfl rfl hdX4_isRoad ⟨Nat.le_of_ble_eq_true rfl, Nat.le_of_ble_eq_true rfl⟩) rfl hl.1 rfl (Nat.le_of_ble_eq_true rfl) dX4_tune_2 (fun H locs hT => ?_)
  refine lv_if_eq (tgt := 29) hx hb dX4_tune_5 (by decide) (fun hc => ?_) (fun hc => ?_)
  · have hf := ite_t hc hf
    refine lv_iconst (v := -1) hx hb dX4_tune_29 (by decide) ?_
    exact t_iret C hT hf hr hlocks dX4_tune_30
  · have hf := ite_f hc hf
    refine lv_iload_n hx hb dX4_tune_8 rfl (lv_at hl 2 rfl) ?_
    refine lv_i2l hx hb dX4_tune_9 rfl ?_
    refine lv_lconst (v := 0) hx hb dX4_tune_10 (by decide) ?_
    refine g_ldc2 (v := 11) C q1690 dX4_tune_11 ?_
    obtain ⟨w_14, h_14, hf⟩ := bind_e hf
    refine s_calli (vs := [.long (x2).toInt64, .long (0 : Int64), .long (11 : Int64)]) (rest := []) C (fun q h => Or.inr h) hT (fun sz => mX4_in l N (x2).toInt64 (0 : Int64) (11 : Int64) _ h_14 sz) (va_cwS 3 C.2.2.2.2 (lw_S q1448 q1449 q129 q1450) rfl rfl rfl hdX4_in ⟨Nat.le_of_ble_eq_true rfl, Nat.le_of_ble_eq_true rfl⟩) rfl hl.1 rfl (Nat.le_of_ble_eq_true rfl) dX4_tune_14 ⟨Nat.zero_le _, Nat.zero_le _⟩ (fun H locs hT => ?_)
    refine lv_if_eq (tgt := 29) hx hb dX4_tune_17 (by decide) (fun hc => ?_) (fun hc => ?_)
    · have hf := ite_t hc hf
      refine lv_iconst (v := -1) hx hb dX4_tune_29 (by decide) ?_
      exact t_iret C hT hf hr hlocks dX4_tune_30
    · have hf := ite_f hc hf
      refine lv_aload_n hx hb dX4_tune_20 rfl (lv_at hl 0 rfl) ?_
      refine lv_iload_n hx hb dX4_tune_21 rfl (lv_at hl 1 rfl) ?_
      obtain ⟨w_22, h_22, hf⟩ := bind_e hf
      refine t_calli (vs := [.int x1]) (rest := []) C hV hT (fun sz => mX4_partOf l D d a N w_2.2 x1 _ h_22 sz) (cwV 1 C.2.2.2.2 (lw_V q1569 q1571 qs80 q129 q1572) rfl rfl rfl hdX4_partOf ⟨Nat.le_of_ble_eq_true rfl, Nat.le_of_ble_eq_true rfl⟩) rfl hl.1 rfl (Nat.le_of_ble_eq_true rfl) dX4_tune_22 (fun H locs hT => ?_)
      refine lv_iload_n hx hb dX4_tune_25 rfl (lv_at hl 2 rfl) ?_
      refine lv_icmp_ne (tgt := 31) hx hb dX4_tune_26 (by decide) (fun hc => ?_) (fun hc => ?_)
      · have hf := ite_t hc hf
        refine lv_aload_n hx hb dX4_tune_31 rfl (lv_at hl 0 rfl) ?_
        obtain ⟨w_32, h_32, hf⟩ := bind_e hf
        refine t_callv (vs := []) (rest := []) C hV hT (fun sz => mX4_keepsAct l D d a N w_22.2  _ h_32 sz) (cwV 0 C.2.2.2.2 (lw_V q1605 q1607 qs86 q129 q1608) rfl rfl rfl hdX4_keepsAct ⟨Nat.le_of_ble_eq_true rfl, Nat.le_of_ble_eq_true rfl⟩) rfl hl.1 rfl (Nat.le_of_ble_eq_true rfl) dX4_tune_32 (fun H locs hT => ?_)
        refine lv_aload_n hx hb dX4_tune_35 rfl (lv_at hl 0 rfl) ?_
        refine lv_iload_n hx hb dX4_tune_36 rfl (lv_at hl 1 rfl) ?_
        obtain ⟨w_37, h_37, hf⟩ := bind_e hf
        refine t_calli (vs := [.int x1]) (rest := []) C hV hT (fun sz => mX4_partOf l D d a N w_32 x1 _ h_37 sz) (cwV 1 C.2.2.2.2 (lw_V q1569 q1571 qs80 q129 q1572) rfl rfl rfl hdX4_partOf ⟨Nat.le_of_ble_eq_true rfl, Nat.le_of_ble_eq_true rfl⟩) rfl hl.1 rfl (Nat.le_of_ble_eq_true rfl) dX4_tune_37 (fun H locs hT => ?_)
        refine lv_istore_n (lv' := [(3, .int w_37.1), (0, .ref (a 42)), (1, .int x1), (2, .int x2)]) hx hb dX4_tune_40 rfl hl (by decide) rfl (fun ls hl => ?_)
        refine lv_aload_n hx hb dX4_tune_41 rfl (lv_at hl 1 rfl) ?_
        refine t_get C hV hT 20 (by decide) q1267 rfl dX4_tune_42 ?_
        refine lv_bipush (v := 11) hx hb dX4_tune_45 (by decide) ?_
        refine lv_iconst (v := 5) hx hb dX4_tune_47 (by decide) ?_
        refine lv_iload_n hx hb dX4_tune_48 rfl (lv_at hl 2 rfl) ?_
        refine lv_imul hx hb dX4_tune_49 ?_
        refine lv_iadd hx hb dX4_tune_50 ?_
        refine lv_iconst (v := 1) hx hb dX4_tune_51 (by decide) ?_
        refine lv_iadd hx hb dX4_tune_52 ?_
        refine lv_iload_n hx hb dX4_tune_53 rfl (lv_at hl 3 rfl) ?_
        obtain ⟨hi, hf⟩ := ix_e hf
        refine t_ist C hV hT 10 _ rfl hi rfl (tast_20 d a w_37.2 _ _) dX4_tune_54 (fun t_54 H locs et hT => ?_)
        have hf := lett_e et hf
        refine lv_iload_n hx hb dX4_tune_55 rfl (lv_at hl 0 rfl) ?_
        exact t_iret C hT hf hr hlocks dX4_tune_56
      · have hf := ite_f (fun q => q hc) hf
        refine lv_iconst (v := -1) hx hb dX4_tune_29 (by decide) ?_
        exact t_iret C hT hf hr hlocks dX4_tune_30
def fX4_heard (N : Nat) (t : TS) : Option (Int32 × TS) :=
  (some ((t.2.1 20 53), t))
theorem hdX4_heard : yX4_heard.cls = RX4 ∧ yX4_heard.cls ≠ "java/lang/invoke/MethodHandle" ∧ yX4_heard.cls ≠ "java/lang/invoke/VarHandle" ∧ (parseMethodDescriptor yX4_heard.desc).map (fun d => d.parameters.length) = some 0 := by decide +kernel
set_option maxHeartbeats 4000000 in
theorem mX4_heard (l : Launch) (D : va_G) (d : Nat → ClassId) (a : Nat → Nat) (N : Nat) (t : TS) (w : Int32 × TS) (hf : fX4_heard N t = some w) (sz : Nat) : Met l yX4_heard (ws_ yX4_heard cX4_heard 1 (some .int)) (rm_ 0 0) (PcT D d a [] t sz) (QiT D d a w.1 w.2 sz) 0 0 (AT a sz) := by
  refine Met.ofW (cc := cX4_heard) (maxL := 1) (ret := (some .int)) plX4 rfl ?_
  intro p e s m args below meth c s₁ B hml hv
  obtain ⟨C, hV, hT, hr, hlocks, hargs, rfl⟩ := t_enter B hml rfl hv
  have hx := C.1
  have hb := C.2.1
  show W p l e (rm_ 0 0) s m args below meth c s.heap [] 0 0 (MQ below (QiT D d a w.1 w.2 s.heap.size) args s 0 0 (AT a s.heap.size)) _
  refine W.eq (by rw [hargs]) (t_in (vs := [.ref (a 42)]) (n := 1) (Nat.le_of_ble_eq_true rfl) (fun ls hl => ?_))
  have hl : lv_has ls 1 [(0, .ref (a 42))] := hl
  unfold fX4_heard at hf
  skip
  refine lv_aload_n hx hb dX4_heard_0 rfl (lv_at hl 0 rfl) ?_
  refine t_get C hV hT 20 (by decide) q1267 rfl dX4_heard_1 ?_
  refine lv_bipush (v := 53) hx hb dX4_heard_4 (by decide) ?_
  refine g_ild C hV hT 10 53 rfl (vin_of (by decide)) (by decide) dX4_heard_6 ?_
  exact t_iret C hT hf hr hlocks dX4_heard_7
def fX4_keeps_B2 (N : Nat) (K : TS → Option (TS)) (kb : TS → Int32 → Option (TS)) (t : TS) (x1 : Int32) : Option (TS) :=
  (if (44 : Int32) ≤ x1 then (K t) else (ix ((10 : Int32) + x1) 121 (ix x1 44 (lett (tsA t 28 (x1).toNatClampNeg (t.2.1 20 (((10 : Int32) + x1)).toNatClampNeg)) fun t_22 => (lett (x1 + (1 : Int32)) fun x1_23 => (kb t_22 x1_23))))))
def fX4_keeps_L2 (N : Nat) (K : TS → Option (TS)) : Nat → TS → Int32 → Option (TS)
  | 0 => fun _ _ => none
  | n + 1 => fun t x1 => fX4_keeps_B2 N K (fX4_keeps_L2 N K n) t x1
def fX4_keeps (N : Nat) (t : TS) : Option (TS) :=
  (fX4_keeps_L2 N (fun t => (some t)) N t (0 : Int32))
theorem hdX4_keeps : yX4_keeps.cls = RX4 ∧ yX4_keeps.cls ≠ "java/lang/invoke/MethodHandle" ∧ yX4_keeps.cls ≠ "java/lang/invoke/VarHandle" ∧ (parseMethodDescriptor yX4_keeps.desc).map (fun d => d.parameters.length) = some 0 := by decide +kernel
set_option maxHeartbeats 4000000 in
theorem mX4_keeps (l : Launch) (D : va_G) (d : Nat → ClassId) (a : Nat → Nat) (N : Nat) (t : TS) (w : TS) (hf : fX4_keeps N t = some w) (sz : Nat) : Met l yX4_keeps (ws_ yX4_keeps cX4_keeps 2 none) (rm_ 0 0) (PcT D d a [] t sz) (QvT D d a w sz) 0 0 (AT a sz) := by
  refine Met.ofW (cc := cX4_keeps) (maxL := 2) (ret := none) plX4 rfl ?_
  intro p e s m args below meth c s₁ B hml hv
  obtain ⟨C, hV, hT, hr, hlocks, hargs, rfl⟩ := t_enter B hml rfl hv
  have hx := C.1
  have hb := C.2.1
  show W p l e (rm_ 0 0) s m args below meth c s.heap [] 0 0 (MQ below (QvT D d a w s.heap.size) args s 0 0 (AT a s.heap.size)) _
  have hL2 : ∀ (K : TS → Option (TS)), (∀ (t : TS) (H : Heap) (locs : List Loc) (ls : Array Slot), TH D (AT a s.heap.size) s.heap (wT d a t) H locs → lv_has ls 2 [] → K t = some w → W p l e (rm_ 0 0) s m args below meth c H locs 0 0 (MQ below (QvT D d a w s.heap.size) args s 0 0 (AT a s.heap.size)) (F0 m 29 ls [])) → ∀ (n : Nat) (t : TS) (x1 : Int32) (H : Heap) (locs : List Loc) (ls : Array Slot), TH D (AT a s.heap.size) s.heap (wT d a t) H locs → lv_has ls 2 [(0, .ref (a 42)), (1, .int x1)] → fX4_keeps_L2 N K n t x1 = some w → W p l e (rm_ 0 0) s m args below meth c H locs 0 0 (MQ below (QvT D d a w s.heap.size) args s 0 0 (AT a s.heap.size)) (F0 m 2 ls []) := by
    intro K hE n
    induction n with
    | zero =>
      intro t x1 H locs ls hT hl hf
      cases hf
    | succ n ih =>
      intro t x1 H locs ls hT hl hf
      replace hf : fX4_keeps_B2 N K (fX4_keeps_L2 N K n) t x1 = some w := hf
      unfold fX4_keeps_B2 at hf
      refine lv_iload_n hx hb dX4_keeps_2 rfl (lv_at hl 1 rfl) ?_
      refine lv_bipush (v := 44) hx hb dX4_keeps_3 (by decide) ?_
      refine lv_icmp_ge (tgt := 29) hx hb dX4_keeps_5 (by decide) (fun hc => ?_) (fun hc => ?_)
      · have hf := ite_t hc hf
        exact hE t _ _ _ hT (lv_sub hl [] rfl) hf
      · have hf := ite_f hc hf
        refine lv_aload_n hx hb dX4_keeps_8 rfl (lv_at hl 0 rfl) ?_
        refine t_get C hV hT 28 (by decide) q1275 rfl dX4_keeps_9 ?_
        refine lv_iload_n hx hb dX4_keeps_12 rfl (lv_at hl 1 rfl) ?_
        refine lv_aload_n hx hb dX4_keeps_13 rfl (lv_at hl 0 rfl) ?_
        refine t_get C hV hT 20 (by decide) q1267 rfl dX4_keeps_14 ?_
        refine lv_bipush (v := 10) hx hb dX4_keeps_17 (by decide) ?_
        refine lv_iload_n hx hb dX4_keeps_19 rfl (lv_at hl 1 rfl) ?_
        refine lv_iadd hx hb dX4_keeps_20 ?_
        obtain ⟨hi, hf⟩ := ix_e hf
        refine g_ild C hV hT 10 _ rfl hi rfl dX4_keeps_21 ?_
        obtain ⟨hi, hf⟩ := ix_e hf
        refine t_ist C hV hT 13 _ rfl hi rfl (tast_28 d a t _ _) dX4_keeps_22 (fun t_22 H locs et hT => ?_)
        have hf := lett_e et hf
        obtain ⟨x1_23, ex⟩ : ∃ y : Int32, y = (x1 + (1 : Int32)) := ⟨_, rfl⟩
        have hf := lett_e ex hf
        refine lv_iinc (v := x1_23) (lv' := [(1, .int x1_23), (0, .ref (a 42))]) hx hb dX4_keeps_23 hl (k := 1) rfl (by rw [ex]; rfl) (by decide) rfl (fun ls hl => ?_)
        refine lv_goto (tgt := 2) hx hb dX4_keeps_26 (by decide) ?_
        exact ih t_22 x1_23 _ _ _ hT (lv_sub hl [1, 0] rfl) hf
  refine W.eq (by rw [hargs]) (t_in (vs := [.ref (a 42)]) (n := 2) (Nat.le_of_ble_eq_true rfl) (fun ls hl => ?_))
  have hl : lv_has ls 2 [(0, .ref (a 42))] := hl
  unfold fX4_keeps at hf
  skip
  refine lv_iconst (v := 0) hx hb dX4_keeps_0 (by decide) ?_
  refine lv_istore_n (lv' := [(1, .int (0 : Int32)), (0, .ref (a 42))]) hx hb dX4_keeps_1 rfl hl (by decide) rfl (fun ls hl => ?_)
  refine hL2 _ (fun t H locs ls hT hl hf => ?_) N t (0 : Int32) _ _ _ hT (lv_sub hl [1, 0] rfl) hf
  exact t_vret C hT hf hr hlocks dX4_keeps_29
def fX4_passesAll_B2 (N : Nat) (K : TS → Option (TS)) (kb : TS → Int32 → Int32 → Option (TS)) (t : TS) (x1 : Int32) (x2 : Int32) : Option (TS) :=
  (if x1 ≤ x2 then (K t) else ((fX4_passes N t ).bind fun w_8 => (lett (x2 + (1 : Int32)) fun x2_12 => (kb w_8.2 x1 x2_12))))
def fX4_passesAll_L2 (N : Nat) (K : TS → Option (TS)) : Nat → TS → Int32 → Int32 → Option (TS)
  | 0 => fun _ _ _ => none
  | n + 1 => fun t x1 x2 => fX4_passesAll_B2 N K (fX4_passesAll_L2 N K n) t x1 x2
def fX4_passesAll (N : Nat) (t : TS) (x1 : Int32) : Option (TS) :=
  (fX4_passesAll_L2 N (fun t => (some t)) N t x1 (0 : Int32))
theorem hdX4_passesAll : yX4_passesAll.cls = RX4 ∧ yX4_passesAll.cls ≠ "java/lang/invoke/MethodHandle" ∧ yX4_passesAll.cls ≠ "java/lang/invoke/VarHandle" ∧ (parseMethodDescriptor yX4_passesAll.desc).map (fun d => d.parameters.length) = some 1 := by decide +kernel
set_option maxHeartbeats 4000000 in
theorem mX4_passesAll (l : Launch) (D : va_G) (d : Nat → ClassId) (a : Nat → Nat) (N : Nat) (t : TS) (x1 : Int32) (w : TS) (hf : fX4_passesAll N t x1 = some w) (sz : Nat) : Met l yX4_passesAll (ws_ yX4_passesAll cX4_passesAll 3 none) (rm_ 6 145) (PcT D d a [.int x1] t sz) (QvT D d a w sz) 0 0 (AT a sz) := by
  refine Met.ofW (cc := cX4_passesAll) (maxL := 3) (ret := none) plX4 rfl ?_
  intro p e s m args below meth c s₁ B hml hv
  obtain ⟨C, hV, hT, hr, hlocks, hargs, rfl⟩ := t_enter B hml rfl hv
  have hx := C.1
  have hb := C.2.1
  show W p l e (rm_ 6 145) s m args below meth c s.heap [] 0 0 (MQ below (QvT D d a w s.heap.size) args s 0 0 (AT a s.heap.size)) _
  have hL2 : ∀ (K : TS → Option (TS)), (∀ (t : TS) (H : Heap) (locs : List Loc) (ls : Array Slot), TH D (AT a s.heap.size) s.heap (wT d a t) H locs → lv_has ls 3 [] → K t = some w → W p l e (rm_ 6 145) s m args below meth c H locs 0 0 (MQ below (QvT D d a w s.heap.size) args s 0 0 (AT a s.heap.size)) (F0 m 18 ls [])) → ∀ (n : Nat) (t : TS) (x1 : Int32) (x2 : Int32) (H : Heap) (locs : List Loc) (ls : Array Slot), TH D (AT a s.heap.size) s.heap (wT d a t) H locs → lv_has ls 3 [(0, .ref (a 42)), (1, .int x1), (2, .int x2)] → fX4_passesAll_L2 N K n t x1 x2 = some w → W p l e (rm_ 6 145) s m args below meth c H locs 0 0 (MQ below (QvT D d a w s.heap.size) args s 0 0 (AT a s.heap.size)) (F0 m 2 ls []) := by
    intro K hE n
    induction n with
    | zero =>
      intro t x1 x2 H locs ls hT hl hf
      cases hf
    | succ n ih =>
      intro t x1 x2 H locs ls hT hl hf
      replace hf : fX4_passesAll_B2 N K (fX4_passesAll_L2 N K n) t x1 x2 = some w := hf
      unfold fX4_passesAll_B2 at hf
      refine lv_iload_n hx hb dX4_passesAll_2 rfl (lv_at hl 2 rfl) ?_
      refine lv_iload_n hx hb dX4_passesAll_3 rfl (lv_at hl 1 rfl) ?_
      refine lv_icmp_ge (tgt := 18) hx hb dX4_passesAll_4 (by decide) (fun hc => ?_) (fun hc => ?_)
      · have hf := ite_t hc hf
        exact hE t _ _ _ hT (lv_sub hl [] rfl) hf
      · have hf := ite_f hc hf
        refine lv_aload_n hx hb dX4_passesAll_7 rfl (lv_at hl 0 rfl) ?_
        obtain ⟨w_8, h_8, hf⟩ := bind_e hf
        refine t_calli (vs := []) (rest := []) C hV hT (fun sz => mX4_passes l D d a N t  _ h_8 sz) (cwV 0 C.2.2.2.2 (lw_V q1609 q1611 qs87 q129 q1612) rfl rfl rfl hdX4_passes ⟨Nat.le_of_ble_eq_true rfl, Nat.le_of_ble_eq_true rfl⟩) rfl hl.1 rfl (Nat.le_of_ble_eq_true rfl) dX4_passesAll_8 (fun H locs hT => ?_)
        refine lv_pop hx hb dX4_passesAll_11 rfl ?_
        obtain ⟨x2_12, ex⟩ : ∃ y : Int32, y = (x2 + (1 : Int32)) := ⟨_, rfl⟩
        have hf := lett_e ex hf
        refine lv_iinc (v := x2_12) (lv' := [(2, .int x2_12), (0, .ref (a 42)), (1, .int x1)]) hx hb dX4_passesAll_12 hl (k := 2) rfl (by rw [ex]; rfl) (by decide) rfl (fun ls hl => ?_)
        refine lv_goto (tgt := 2) hx hb dX4_passesAll_15 (by decide) ?_
        exact ih w_8.2 x1 x2_12 _ _ _ hT (lv_sub hl [1, 2, 0] rfl) hf
  refine W.eq (by rw [hargs]) (t_in (vs := [.ref (a 42), .int x1]) (n := 3) (Nat.le_of_ble_eq_true rfl) (fun ls hl => ?_))
  have hl : lv_has ls 3 [(0, .ref (a 42)), (1, .int x1)] := hl
  unfold fX4_passesAll at hf
  skip
  refine lv_iconst (v := 0) hx hb dX4_passesAll_0 (by decide) ?_
  refine lv_istore_n (lv' := [(2, .int (0 : Int32)), (0, .ref (a 42)), (1, .int x1)]) hx hb dX4_passesAll_1 rfl hl (by decide) rfl (fun ls hl => ?_)
  refine hL2 _ (fun t H locs ls hT hl hf => ?_) N t x1 (0 : Int32) _ _ _ hT (lv_sub hl [1, 2, 0] rfl) hf
  exact t_vret C hT hf hr hlocks dX4_passesAll_18
def fX4_laysBack_B2 (N : Nat) (K : TS → Option (TS)) (kb : TS → Int32 → Option (TS)) (t : TS) (x1 : Int32) : Option (TS) :=
  (if (44 : Int32) ≤ x1 then (K t) else (ix x1 44 (ix ((10 : Int32) + x1) 121 (lett (tsA t 20 (((10 : Int32) + x1)).toNatClampNeg (t.2.1 28 (x1).toNatClampNeg)) fun t_22 => (lett (x1 + (1 : Int32)) fun x1_23 => (kb t_22 x1_23))))))
def fX4_laysBack_L2 (N : Nat) (K : TS → Option (TS)) : Nat → TS → Int32 → Option (TS)
  | 0 => fun _ _ => none
  | n + 1 => fun t x1 => fX4_laysBack_B2 N K (fX4_laysBack_L2 N K n) t x1
def fX4_laysBack (N : Nat) (t : TS) : Option (TS) :=
  (fX4_laysBack_L2 N (fun t => (some t)) N t (0 : Int32))
theorem hdX4_laysBack : yX4_laysBack.cls = RX4 ∧ yX4_laysBack.cls ≠ "java/lang/invoke/MethodHandle" ∧ yX4_laysBack.cls ≠ "java/lang/invoke/VarHandle" ∧ (parseMethodDescriptor yX4_laysBack.desc).map (fun d => d.parameters.length) = some 0 := by decide +kernel
set_option maxHeartbeats 4000000 in
theorem mX4_laysBack (l : Launch) (D : va_G) (d : Nat → ClassId) (a : Nat → Nat) (N : Nat) (t : TS) (w : TS) (hf : fX4_laysBack N t = some w) (sz : Nat) : Met l yX4_laysBack (ws_ yX4_laysBack cX4_laysBack 2 none) (rm_ 0 0) (PcT D d a [] t sz) (QvT D d a w sz) 0 0 (AT a sz) := by
  refine Met.ofW (cc := cX4_laysBack) (maxL := 2) (ret := none) plX4 rfl ?_
  intro p e s m args below meth c s₁ B hml hv
  obtain ⟨C, hV, hT, hr, hlocks, hargs, rfl⟩ := t_enter B hml rfl hv
  have hx := C.1
  have hb := C.2.1
  show W p l e (rm_ 0 0) s m args below meth c s.heap [] 0 0 (MQ below (QvT D d a w s.heap.size) args s 0 0 (AT a s.heap.size)) _
  have hL2 : ∀ (K : TS → Option (TS)), (∀ (t : TS) (H : Heap) (locs : List Loc) (ls : Array Slot), TH D (AT a s.heap.size) s.heap (wT d a t) H locs → lv_has ls 2 [] → K t = some w → W p l e (rm_ 0 0) s m args below meth c H locs 0 0 (MQ below (QvT D d a w s.heap.size) args s 0 0 (AT a s.heap.size)) (F0 m 29 ls [])) → ∀ (n : Nat) (t : TS) (x1 : Int32) (H : Heap) (locs : List Loc) (ls : Array Slot), TH D (AT a s.heap.size) s.heap (wT d a t) H locs → lv_has ls 2 [(0, .ref (a 42)), (1, .int x1)] → fX4_laysBack_L2 N K n t x1 = some w → W p l e (rm_ 0 0) s m args below meth c H locs 0 0 (MQ below (QvT D d a w s.heap.size) args s 0 0 (AT a s.heap.size)) (F0 m 2 ls []) := by
    intro K hE n
    induction n with
    | zero =>
      intro t x1 H locs ls hT hl hf
      cases hf
    | succ n ih =>
      intro t x1 H locs ls hT hl hf
      replace hf : fX4_laysBack_B2 N K (fX4_laysBack_L2 N K n) t x1 = some w := hf
      unfold fX4_laysBack_B2 at hf
      refine lv_iload_n hx hb dX4_laysBack_2 rfl (lv_at hl 1 rfl) ?_
      refine lv_bipush (v := 44) hx hb dX4_laysBack_3 (by decide) ?_
      refine lv_icmp_ge (tgt := 29) hx hb dX4_laysBack_5 (by decide) (fun hc => ?_) (fun hc => ?_)
      · have hf := ite_t hc hf
        exact hE t _ _ _ hT (lv_sub hl [] rfl) hf
      · have hf := ite_f hc hf
        refine lv_aload_n hx hb dX4_laysBack_8 rfl (lv_at hl 0 rfl) ?_
        refine t_get C hV hT 20 (by decide) q1267 rfl dX4_laysBack_9 ?_
        refine lv_bipush (v := 10) hx hb dX4_laysBack_12 (by decide) ?_
        refine lv_iload_n hx hb dX4_laysBack_14 rfl (lv_at hl 1 rfl) ?_
        refine lv_iadd hx hb dX4_laysBack_15 ?_
        refine lv_aload_n hx hb dX4_laysBack_16 rfl (lv_at hl 0 rfl) ?_
        refine t_get C hV hT 28 (by decide) q1275 rfl dX4_laysBack_17 ?_
        refine lv_iload_n hx hb dX4_laysBack_20 rfl (lv_at hl 1 rfl) ?_
        obtain ⟨hi, hf⟩ := ix_e hf
        refine g_ild C hV hT 13 _ rfl hi rfl dX4_laysBack_21 ?_
        obtain ⟨hi, hf⟩ := ix_e hf
        refine t_ist C hV hT 10 _ rfl hi rfl (tast_20 d a t _ _) dX4_laysBack_22 (fun t_22 H locs et hT => ?_)
        have hf := lett_e et hf
        obtain ⟨x1_23, ex⟩ : ∃ y : Int32, y = (x1 + (1 : Int32)) := ⟨_, rfl⟩
        have hf := lett_e ex hf
        refine lv_iinc (v := x1_23) (lv' := [(1, .int x1_23), (0, .ref (a 42))]) hx hb dX4_laysBack_23 hl (k := 1) rfl (by rw [ex]; rfl) (by decide) rfl (fun ls hl => ?_)
        refine lv_goto (tgt := 2) hx hb dX4_laysBack_26 (by decide) ?_
        exact ih t_22 x1_23 _ _ _ hT (lv_sub hl [1, 0] rfl) hf
  refine W.eq (by rw [hargs]) (t_in (vs := [.ref (a 42)]) (n := 2) (Nat.le_of_ble_eq_true rfl) (fun ls hl => ?_))
  have hl : lv_has ls 2 [(0, .ref (a 42))] := hl
  unfold fX4_laysBack at hf
  skip
  refine lv_iconst (v := 0) hx hb dX4_laysBack_0 (by decide) ?_
  refine lv_istore_n (lv' := [(1, .int (0 : Int32)), (0, .ref (a 42))]) hx hb dX4_laysBack_1 rfl hl (by decide) rfl (fun ls hl => ?_)
  refine hL2 _ (fun t H locs ls hT hl hf => ?_) N t (0 : Int32) _ _ _ hT (lv_sub hl [1, 0] rfl) hf
  exact t_vret C hT hf hr hlocks dX4_laysBack_29
def fX4_ahead_J89 (N : Nat) (t : TS) (s0 : Int32) : Option (Int32 × TS) :=
  ((fX4_laysBack N t ).bind fun w_92 => (some (s0, w_92)))
def fX4_ahead_J48 (N : Nat) (t : TS) (x1 : Int32) (x2 : Int32) (x3 : Int32) : Option (Int32 × TS) :=
  ((fX4_keeps N t ).bind fun w_49 => ((fX4_passesAll N w_49 x2).bind fun w_54 => (if ¬ x3 = 0 then (if ¬ x3 = (1 : Int32) then (fX4_ahead_J89 N w_54 (w_54.2.1 20 53)) else ((fX4_wentFrom N w_54 x1).bind fun w_76 => (fX4_ahead_J89 N w_76.2 w_76.1))) else ((fX4_waitOn N w_54 x1).bind fun w_63 => (fX4_ahead_J89 N w_63.2 w_63.1)))))
def fX4_ahead (N : Nat) (t : TS) (x1 : Int32) (x2 : Int32) (x3 : Int32) : Option (Int32 × TS) :=
  ((fX4_isJunction N t ).bind fun w_1 => (if w_1.1 = 0 then (some ((-10000 : Int32), w_1.2)) else ((fX4_in N (x2).toInt64 (0 : Int64) (100 : Int64)).bind fun w_13 => (if w_13 = 0 then (some ((-10000 : Int32), w_1.2)) else ((fX4_in N (x3).toInt64 (0 : Int64) (2 : Int64)).bind fun w_25 => (if w_25 = 0 then (some ((-10000 : Int32), w_1.2)) else (if (2 : Int32) ≤ x3 then (fX4_ahead_J48 N w_1.2 x1 x2 x3) else ((fX4_isRoad N w_1.2 x1).bind fun w_38 => (if ¬ w_38.1 = 0 then (fX4_ahead_J48 N w_38.2 x1 x2 x3) else (some ((-10000 : Int32), w_38.2)))))))))))
theorem hdX4_ahead : yX4_ahead.cls = RX4 ∧ yX4_ahead.cls ≠ "java/lang/invoke/MethodHandle" ∧ yX4_ahead.cls ≠ "java/lang/invoke/VarHandle" ∧ (parseMethodDescriptor yX4_ahead.desc).map (fun d => d.parameters.length) = some 3 := by decide +kernel
set_option maxHeartbeats 4000000 in
theorem mX4_ahead (l : Launch) (D : va_G) (d : Nat → ClassId) (a : Nat → Nat) (N : Nat) (t : TS) (x1 : Int32) (x2 : Int32) (x3 : Int32) (w : Int32 × TS) (hf : fX4_ahead N t x1 x2 x3 = some w) (sz : Nat) : Met l yX4_ahead (ws_ yX4_ahead cX4_ahead 5 (some .int)) (rm_ 7 167) (PcT D d a [.int x1, .int x2, .int x3] t sz) (QiT D d a w.1 w.2 sz) 0 0 (AT a sz) := by
  refine Met.ofW (cc := cX4_ahead) (maxL := 5) (ret := (some .int)) plX4 rfl ?_
  intro p e s m args below meth c s₁ B hml hv
  obtain ⟨C, hV, hT, hr, hlocks, hargs, rfl⟩ := t_enter B hml rfl hv
  have hx := C.1
  have hb := C.2.1
  show W p l e (rm_ 7 167) s m args below meth c s.heap [] 0 0 (MQ below (QiT D d a w.1 w.2 s.heap.size) args s 0 0 (AT a s.heap.size)) _
  have hJ89 : ∀ (t : TS) (s0 : Int32) (H : Heap) (locs : List Loc) (ls : Array Slot), TH D (AT a s.heap.size) s.heap (wT d a t) H locs → lv_has ls 5 [(0, .ref (a 42))] → fX4_ahead_J89 N t s0 = some w → W p l e (rm_ 7 167) s m args below meth c H locs 0 0 (MQ below (QiT D d a w.1 w.2 s.heap.size) args s 0 0 (AT a s.heap.size)) (F0 m 89 ls [.int s0]) := by
    intro t s0 H locs ls hT hl hf
    unfold fX4_ahead_J89 at hf
    refine lv_istore (lv' := [(4, .int s0), (0, .ref (a 42))]) hx hb dX4_ahead_89 hl (by decide) rfl (fun ls hl => ?_)
    refine lv_aload_n hx hb dX4_ahead_91 rfl (lv_at hl 1 rfl) ?_
    obtain ⟨w_92, h_92, hf⟩ := bind_e hf
    refine t_callv (vs := []) (rest := []) C hV hT (fun sz => mX4_laysBack l D d a N t  _ h_92 sz) (cwV 0 C.2.2.2.2 (lw_V q1709 q1711 qs102 q129 q1712) rfl rfl rfl hdX4_laysBack ⟨Nat.le_of_ble_eq_true rfl, Nat.le_of_ble_eq_true rfl⟩) rfl hl.1 rfl (Nat.le_of_ble_eq_true rfl) dX4_ahead_92 (fun H locs hT => ?_)
    refine lv_iload hx hb dX4_ahead_95 (lv_at hl 0 rfl) ?_
    exact t_iret C hT hf hr hlocks dX4_ahead_97
  have hJ48 : ∀ (t : TS) (x1 : Int32) (x2 : Int32) (x3 : Int32) (H : Heap) (locs : List Loc) (ls : Array Slot), TH D (AT a s.heap.size) s.heap (wT d a t) H locs → lv_has ls 5 [(0, .ref (a 42)), (1, .int x1), (2, .int x2), (3, .int x3)] → fX4_ahead_J48 N t x1 x2 x3 = some w → W p l e (rm_ 7 167) s m args below meth c H locs 0 0 (MQ below (QiT D d a w.1 w.2 s.heap.size) args s 0 0 (AT a s.heap.size)) (F0 m 48 ls []) := by
    intro t x1 x2 x3 H locs ls hT hl hf
    unfold fX4_ahead_J48 at hf
    refine lv_aload_n hx hb dX4_ahead_48 rfl (lv_at hl 0 rfl) ?_
    obtain ⟨w_49, h_49, hf⟩ := bind_e hf
    refine t_callv (vs := []) (rest := []) C hV hT (fun sz => mX4_keeps l D d a N t  _ h_49 sz) (cwV 0 C.2.2.2.2 (lw_V q1701 q1703 qs100 q129 q1704) rfl rfl rfl hdX4_keeps ⟨Nat.le_of_ble_eq_true rfl, Nat.le_of_ble_eq_true rfl⟩) rfl hl.1 rfl (Nat.le_of_ble_eq_true rfl) dX4_ahead_49 (fun H locs hT => ?_)
    refine lv_aload_n hx hb dX4_ahead_52 rfl (lv_at hl 0 rfl) ?_
    refine lv_iload_n hx hb dX4_ahead_53 rfl (lv_at hl 2 rfl) ?_
    obtain ⟨w_54, h_54, hf⟩ := bind_e hf
    refine t_callv (vs := [.int x2]) (rest := []) C hV hT (fun sz => mX4_passesAll l D d a N w_49 x2 _ h_54 sz) (cwV 1 C.2.2.2.2 (lw_V q1705 q1707 qs101 q129 q1708) rfl rfl rfl hdX4_passesAll ⟨Nat.le_of_ble_eq_true rfl, Nat.le_of_ble_eq_true rfl⟩) rfl hl.1 rfl (Nat.le_of_ble_eq_true rfl) dX4_ahead_54 (fun H locs hT => ?_)
    refine lv_iload_n hx hb dX4_ahead_57 rfl (lv_at hl 3 rfl) ?_
    refine lv_if_ne (tgt := 69) hx hb dX4_ahead_58 (by decide) (fun hc => ?_) (fun hc => ?_)
    · have hf := ite_t hc hf
      refine lv_iload_n hx hb dX4_ahead_69 rfl (lv_at hl 3 rfl) ?_
      refine lv_iconst (v := 1) hx hb dX4_ahead_70 (by decide) ?_
      refine lv_icmp_ne (tgt := 82) hx hb dX4_ahead_71 (by decide) (fun hc => ?_) (fun hc => ?_)
      · have hf := ite_t hc hf
        refine lv_aload_n hx hb dX4_ahead_82 rfl (lv_at hl 0 rfl) ?_
        refine t_get C hV hT 20 (by decide) q1267 rfl dX4_ahead_83 ?_
        refine lv_bipush (v := 53) hx hb dX4_ahead_86 (by decide) ?_
        refine g_ild C hV hT 10 53 rfl (vin_of (by decide)) (by decide) dX4_ahead_88 ?_
        exact hJ89 w_54 (w_54.2.1 20 53) _ _ _ hT (lv_sub hl [0] rfl) hf
      · have hf := ite_f (fun q => q hc) hf
        refine lv_aload_n hx hb dX4_ahead_74 rfl (lv_at hl 0 rfl) ?_
        refine lv_iload_n hx hb dX4_ahead_75 rfl (lv_at hl 1 rfl) ?_
        obtain ⟨w_76, h_76, hf⟩ := bind_e hf
        refine t_calli (vs := [.int x1]) (rest := []) C hV hT (fun sz => mX4_wentFrom l D d a N w_54 x1 _ h_76 sz) (cwV 1 C.2.2.2.2 (lw_V q1573 q1575 qs81 q129 q1576) rfl rfl rfl hdX4_wentFrom ⟨Nat.le_of_ble_eq_true rfl, Nat.le_of_ble_eq_true rfl⟩) rfl hl.1 rfl (Nat.le_of_ble_eq_true rfl) dX4_ahead_76 (fun H locs hT => ?_)
        refine lv_goto (tgt := 89) hx hb dX4_ahead_79 (by decide) ?_
        exact hJ89 w_76.2 w_76.1 _ _ _ hT (lv_sub hl [0] rfl) hf
    · have hf := ite_f (fun q => q hc) hf
      refine lv_aload_n hx hb dX4_ahead_61 rfl (lv_at hl 0 rfl) ?_
      refine lv_iload_n hx hb dX4_ahead_62 rfl (lv_at hl 1 rfl) ?_
      obtain ⟨w_63, h_63, hf⟩ := bind_e hf
      refine t_calli (vs := [.int x1]) (rest := []) C hV hT (fun sz => mX4_waitOn l D d a N w_54 x1 _ h_63 sz) (cwV 1 C.2.2.2.2 (lw_V q1565 q1567 qs79 q129 q1568) rfl rfl rfl hdX4_waitOn ⟨Nat.le_of_ble_eq_true rfl, Nat.le_of_ble_eq_true rfl⟩) rfl hl.1 rfl (Nat.le_of_ble_eq_true rfl) dX4_ahead_63 (fun H locs hT => ?_)
      refine lv_goto (tgt := 89) hx hb dX4_ahead_66 (by decide) ?_
      exact hJ89 w_63.2 w_63.1 _ _ _ hT (lv_sub hl [0] rfl) hf
  refine W.eq (by rw [hargs]) (t_in (vs := [.ref (a 42), .int x1, .int x2, .int x3]) (n := 5) (Nat.le_of_ble_eq_true rfl) (fun ls hl => ?_))
  have hl : lv_has ls 5 [(0, .ref (a 42)), (1, .int x1), (2, .int x2), (3, .int x3)] := hl
  unfold fX4_ahead at hf
  skip
  refine lv_aload_n hx hb dX4_ahead_0 rfl (lv_at hl 0 rfl) ?_
  obtain ⟨w_1, h_1, hf⟩ := bind_e hf
  refine t_calli (vs := []) (rest := []) C hV hT (fun sz => mX4_isJunction l D d a N t  _ h_1 sz) (cwV 0 C.2.2.2.2 (lw_V q1593 q1595 qs85 q129 q1596) rfl rfl rfl hdX4_isJunction ⟨Nat.le_of_ble_eq_true rfl, Nat.le_of_ble_eq_true rfl⟩) rfl hl.1 rfl (Nat.le_of_ble_eq_true rfl) dX4_ahead_1 (fun H locs hT => ?_)
  refine lv_if_eq (tgt := 44) hx hb dX4_ahead_4 (by decide) (fun hc => ?_) (fun hc => ?_)
  · have hf := ite_t hc hf
    refine lv_sipush (v := -10000) hx hb dX4_ahead_44 (by decide) ?_
    exact t_iret C hT hf hr hlocks dX4_ahead_47
  · have hf := ite_f hc hf
    refine lv_iload_n hx hb dX4_ahead_7 rfl (lv_at hl 2 rfl) ?_
    refine lv_i2l hx hb dX4_ahead_8 rfl ?_
    refine lv_lconst (v := 0) hx hb dX4_ahead_9 (by decide) ?_
    refine g_ldc2 (v := 100) C q1699 dX4_ahead_10 ?_
    obtain ⟨w_13, h_13, hf⟩ := bind_e hf
    refine s_calli (vs := [.long (x2).toInt64, .long (0 : Int64), .long (100 : Int64)]) (rest := []) C (fun q h => Or.inr h) hT (fun sz => mX4_in l N (x2).toInt64 (0 : Int64) (100 : Int64) _ h_13 sz) (va_cwS 3 C.2.2.2.2 (lw_S q1448 q1449 q129 q1450) rfl rfl rfl hdX4_in ⟨Nat.le_of_ble_eq_true rfl, Nat.le_of_ble_eq_true rfl⟩) rfl hl.1 rfl (Nat.le_of_ble_eq_true rfl) dX4_ahead_13 ⟨Nat.zero_le _, Nat.zero_le _⟩ (fun H locs hT => ?_)
    refine lv_if_eq (tgt := 44) hx hb dX4_ahead_16 (by decide) (fun hc => ?_) (fun hc => ?_)
    · have hf := ite_t hc hf
      refine lv_sipush (v := -10000) hx hb dX4_ahead_44 (by decide) ?_
      exact t_iret C hT hf hr hlocks dX4_ahead_47
    · have hf := ite_f hc hf
      refine lv_iload_n hx hb dX4_ahead_19 rfl (lv_at hl 3 rfl) ?_
      refine lv_i2l hx hb dX4_ahead_20 rfl ?_
      refine lv_lconst (v := 0) hx hb dX4_ahead_21 (by decide) ?_
      refine g_ldc2 (v := 2) C q1700 dX4_ahead_22 ?_
      obtain ⟨w_25, h_25, hf⟩ := bind_e hf
      refine s_calli (vs := [.long (x3).toInt64, .long (0 : Int64), .long (2 : Int64)]) (rest := []) C (fun q h => Or.inr h) hT (fun sz => mX4_in l N (x3).toInt64 (0 : Int64) (2 : Int64) _ h_25 sz) (va_cwS 3 C.2.2.2.2 (lw_S q1448 q1449 q129 q1450) rfl rfl rfl hdX4_in ⟨Nat.le_of_ble_eq_true rfl, Nat.le_of_ble_eq_true rfl⟩) rfl hl.1 rfl (Nat.le_of_ble_eq_true rfl) dX4_ahead_25 ⟨Nat.zero_le _, Nat.zero_le _⟩ (fun H locs hT => ?_)
      refine lv_if_eq (tgt := 44) hx hb dX4_ahead_28 (by decide) (fun hc => ?_) (fun hc => ?_)
      · have hf := ite_t hc hf
        refine lv_sipush (v := -10000) hx hb dX4_ahead_44 (by decide) ?_
        exact t_iret C hT hf hr hlocks dX4_ahead_47
      · have hf := ite_f hc hf
        refine lv_iload_n hx hb dX4_ahead_31 rfl (lv_at hl 3 rfl) ?_
        refine lv_iconst (v := 2) hx hb dX4_ahead_32 (by decide) ?_
        refine lv_icmp_ge (tgt := 48) hx hb dX4_ahead_33 (by decide) (fun hc => ?_) (fun hc => ?_)
        · have hf := ite_t hc hf
          exact hJ48 w_1.2 x1 x2 x3 _ _ _ hT hl hf
        · have hf := ite_f hc hf
          refine lv_aload_n hx hb dX4_ahead_36 rfl (lv_at hl 0 rfl) ?_
          refine lv_iload_n hx hb dX4_ahead_37 rfl (lv_at hl 1 rfl) ?_
          obtain ⟨w_38, h_38, hf⟩ := bind_e hf
          refine t_calli (vs := [.int x1]) (rest := []) C hV hT (fun sz => mX4_isRoad l D d a N w_1.2 x1 _ h_38 sz) (cwV 1 C.2.2.2.2 (lw_V q1561 q1563 qs78 q129 q1564) rfl rfl rfl hdX4_isRoad ⟨Nat.le_of_ble_eq_true rfl, Nat.le_of_ble_eq_true rfl⟩) rfl hl.1 rfl (Nat.le_of_ble_eq_true rfl) dX4_ahead_38 (fun H locs hT => ?_)
          refine lv_if_ne (tgt := 48) hx hb dX4_ahead_41 (by decide) (fun hc => ?_) (fun hc => ?_)
          · have hf := ite_t hc hf
            exact hJ48 w_38.2 x1 x2 x3 _ _ _ hT hl hf
          · have hf := ite_f (fun q => q hc) hf
            refine lv_sipush (v := -10000) hx hb dX4_ahead_44 (by decide) ?_
            exact t_iret C hT hf hr hlocks dX4_ahead_47
def fX4_clear_B19 (N : Nat) (K : TS → Int32 → Option (Int32 × TS)) (kb : TS → Int32 → Int32 → Int32 → Option (Int32 × TS)) (t : TS) (x1 : Int32) (x2 : Int32) (x3 : Int32) : Option (Int32 × TS) :=
  (if (200 : Int32) ≤ x3 then (K t x2) else (if 0 ≤ x2 then (K t x2) else ((fX4_passes N t ).bind fun w_31 => ((fX4_waitOn N w_31.2 x1).bind fun w_37 => (if ¬ w_37.1 = 0 then (lett (x3 + (1 : Int32)) fun x3_53 => (kb w_37.2 x1 x2 x3_53)) else (lett ((w_37.2.2.1 20 10) - (1 : Int32)) fun x2_52 => (lett (x3 + (1 : Int32)) fun x3_53 => (kb w_37.2 x1 x2_52 x3_53))))))))
def fX4_clear_L19 (N : Nat) (K : TS → Int32 → Option (Int32 × TS)) : Nat → TS → Int32 → Int32 → Int32 → Option (Int32 × TS)
  | 0 => fun _ _ _ _ => none
  | n + 1 => fun t x1 x2 x3 => fX4_clear_B19 N K (fX4_clear_L19 N K n) t x1 x2 x3
def fX4_clear_J59 (N : Nat) (t : TS) (x2 : Int32) : Option (Int32 × TS) :=
  ((fX4_laysBack N t ).bind fun w_60 => (some (x2, w_60)))
def fX4_clear (N : Nat) (t : TS) (x1 : Int32) : Option (Int32 × TS) :=
  ((fX4_isRoad N t x1).bind fun w_2 => (if ¬ w_2.1 = 0 then ((fX4_keeps N w_2.2 ).bind fun w_14 => (fX4_clear_L19 N (fun t x2 => (fX4_clear_J59 N t x2)) N w_14 x1 (-2 : Int32) (0 : Int32))) else (some ((-1 : Int32), w_2.2))))
theorem hdX4_clear : yX4_clear.cls = RX4 ∧ yX4_clear.cls ≠ "java/lang/invoke/MethodHandle" ∧ yX4_clear.cls ≠ "java/lang/invoke/VarHandle" ∧ (parseMethodDescriptor yX4_clear.desc).map (fun d => d.parameters.length) = some 1 := by decide +kernel
set_option maxHeartbeats 4000000 in
theorem mX4_clear (l : Launch) (D : va_G) (d : Nat → ClassId) (a : Nat → Nat) (N : Nat) (t : TS) (x1 : Int32) (w : Int32 × TS) (hf : fX4_clear N t x1 = some w) (sz : Nat) : Met l yX4_clear (ws_ yX4_clear cX4_clear 4 (some .int)) (rm_ 6 145) (PcT D d a [.int x1] t sz) (QiT D d a w.1 w.2 sz) 0 0 (AT a sz) := by
  refine Met.ofW (cc := cX4_clear) (maxL := 4) (ret := (some .int)) plX4 rfl ?_
  intro p e s m args below meth c s₁ B hml hv
  obtain ⟨C, hV, hT, hr, hlocks, hargs, rfl⟩ := t_enter B hml rfl hv
  have hx := C.1
  have hb := C.2.1
  show W p l e (rm_ 6 145) s m args below meth c s.heap [] 0 0 (MQ below (QiT D d a w.1 w.2 s.heap.size) args s 0 0 (AT a s.heap.size)) _
  have hL19 : ∀ (K : TS → Int32 → Option (Int32 × TS)), (∀ (t : TS) (x2 : Int32) (H : Heap) (locs : List Loc) (ls : Array Slot), TH D (AT a s.heap.size) s.heap (wT d a t) H locs → lv_has ls 4 [(0, .ref (a 42)), (2, .int x2)] → K t x2 = some w → W p l e (rm_ 6 145) s m args below meth c H locs 0 0 (MQ below (QiT D d a w.1 w.2 s.heap.size) args s 0 0 (AT a s.heap.size)) (F0 m 59 ls [])) → ∀ (n : Nat) (t : TS) (x1 : Int32) (x2 : Int32) (x3 : Int32) (H : Heap) (locs : List Loc) (ls : Array Slot), TH D (AT a s.heap.size) s.heap (wT d a t) H locs → lv_has ls 4 [(0, .ref (a 42)), (1, .int x1), (2, .int x2), (3, .int x3)] → fX4_clear_L19 N K n t x1 x2 x3 = some w → W p l e (rm_ 6 145) s m args below meth c H locs 0 0 (MQ below (QiT D d a w.1 w.2 s.heap.size) args s 0 0 (AT a s.heap.size)) (F0 m 19 ls []) := by
    intro K hE n
    induction n with
    | zero =>
      intro t x1 x2 x3 H locs ls hT hl hf
      cases hf
    | succ n ih =>
      intro t x1 x2 x3 H locs ls hT hl hf
      replace hf : fX4_clear_B19 N K (fX4_clear_L19 N K n) t x1 x2 x3 = some w := hf
      unfold fX4_clear_B19 at hf
      refine lv_iload_n hx hb dX4_clear_19 rfl (lv_at hl 3 rfl) ?_
      refine lv_sipush (v := 200) hx hb dX4_clear_20 (by decide) ?_
      refine lv_icmp_ge (tgt := 59) hx hb dX4_clear_23 (by decide) (fun hc => ?_) (fun hc => ?_)
      · have hf := ite_t hc hf
        exact hE t x2 _ _ _ hT (lv_sub hl [0, 2] rfl) hf
      · have hf := ite_f hc hf
        refine lv_iload_n hx hb dX4_clear_26 rfl (lv_at hl 2 rfl) ?_
        refine lv_if_ge (tgt := 59) hx hb dX4_clear_27 (by decide) (fun hc => ?_) (fun hc => ?_)
        · have hf := ite_t hc hf
          exact hE t x2 _ _ _ hT (lv_sub hl [0, 2] rfl) hf
        · have hf := ite_f hc hf
          refine lv_aload_n hx hb dX4_clear_30 rfl (lv_at hl 0 rfl) ?_
          obtain ⟨w_31, h_31, hf⟩ := bind_e hf
          refine t_calli (vs := []) (rest := []) C hV hT (fun sz => mX4_passes l D d a N t  _ h_31 sz) (cwV 0 C.2.2.2.2 (lw_V q1609 q1611 qs87 q129 q1612) rfl rfl rfl hdX4_passes ⟨Nat.le_of_ble_eq_true rfl, Nat.le_of_ble_eq_true rfl⟩) rfl hl.1 rfl (Nat.le_of_ble_eq_true rfl) dX4_clear_31 (fun H locs hT => ?_)
          refine lv_pop hx hb dX4_clear_34 rfl ?_
          refine lv_aload_n hx hb dX4_clear_35 rfl (lv_at hl 0 rfl) ?_
          refine lv_iload_n hx hb dX4_clear_36 rfl (lv_at hl 1 rfl) ?_
          obtain ⟨w_37, h_37, hf⟩ := bind_e hf
          refine t_calli (vs := [.int x1]) (rest := []) C hV hT (fun sz => mX4_waitOn l D d a N w_31.2 x1 _ h_37 sz) (cwV 1 C.2.2.2.2 (lw_V q1565 q1567 qs79 q129 q1568) rfl rfl rfl hdX4_waitOn ⟨Nat.le_of_ble_eq_true rfl, Nat.le_of_ble_eq_true rfl⟩) rfl hl.1 rfl (Nat.le_of_ble_eq_true rfl) dX4_clear_37 (fun H locs hT => ?_)
          refine lv_if_ne (tgt := 53) hx hb dX4_clear_40 (by decide) (fun hc => ?_) (fun hc => ?_)
          · have hf := ite_t hc hf
            obtain ⟨x3_53, ex⟩ : ∃ y : Int32, y = (x3 + (1 : Int32)) := ⟨_, rfl⟩
            have hf := lett_e ex hf
            refine lv_iinc (v := x3_53) (lv' := [(3, .int x3_53), (0, .ref (a 42)), (1, .int x1), (2, .int x2)]) hx hb dX4_clear_53 hl (k := 3) rfl (by rw [ex]; rfl) (by decide) rfl (fun ls hl => ?_)
            refine lv_goto (tgt := 19) hx hb dX4_clear_56 (by decide) ?_
            exact ih w_37.2 x1 x2 x3_53 _ _ _ hT (lv_sub hl [1, 2, 3, 0] rfl) hf
          · have hf := ite_f (fun q => q hc) hf
            refine lv_aload_n hx hb dX4_clear_43 rfl (lv_at hl 0 rfl) ?_
            refine t_get C hV hT 20 (by decide) q1267 rfl dX4_clear_44 ?_
            refine lv_bipush (v := 10) hx hb dX4_clear_47 (by decide) ?_
            refine g_ild C hV hT 10 10 rfl (vin_of (by decide)) (by decide) dX4_clear_49 ?_
            refine lv_iconst (v := 1) hx hb dX4_clear_50 (by decide) ?_
            refine lv_isub hx hb dX4_clear_51 ?_
            refine lv_topi (fun x2_52 ex => ?_)
            have hf := lett_e ex hf
            refine lv_istore_n (lv' := [(2, .int x2_52), (0, .ref (a 42)), (1, .int x1), (3, .int x3)]) hx hb dX4_clear_52 rfl hl (by decide) rfl (fun ls hl => ?_)
            obtain ⟨x3_53, ex⟩ : ∃ y : Int32, y = (x3 + (1 : Int32)) := ⟨_, rfl⟩
            have hf := lett_e ex hf
            refine lv_iinc (v := x3_53) (lv' := [(3, .int x3_53), (2, .int x2_52), (0, .ref (a 42)), (1, .int x1)]) hx hb dX4_clear_53 hl (k := 3) rfl (by rw [ex]; rfl) (by decide) rfl (fun ls hl => ?_)
            refine lv_goto (tgt := 19) hx hb dX4_clear_56 (by decide) ?_
            exact ih w_37.2 x1 x2_52 x3_53 _ _ _ hT (lv_sub hl [2, 3, 1, 0] rfl) hf
  have hJ59 : ∀ (t : TS) (x2 : Int32) (H : Heap) (locs : List Loc) (ls : Array Slot), TH D (AT a s.heap.size) s.heap (wT d a t) H locs → lv_has ls 4 [(0, .ref (a 42)), (2, .int x2)] → fX4_clear_J59 N t x2 = some w → W p l e (rm_ 6 145) s m args below meth c H locs 0 0 (MQ below (QiT D d a w.1 w.2 s.heap.size) args s 0 0 (AT a s.heap.size)) (F0 m 59 ls []) := by
    intro t x2 H locs ls hT hl hf
    unfold fX4_clear_J59 at hf
    refine lv_aload_n hx hb dX4_clear_59 rfl (lv_at hl 0 rfl) ?_
    obtain ⟨w_60, h_60, hf⟩ := bind_e hf
    refine t_callv (vs := []) (rest := []) C hV hT (fun sz => mX4_laysBack l D d a N t  _ h_60 sz) (cwV 0 C.2.2.2.2 (lw_V q1709 q1711 qs102 q129 q1712) rfl rfl rfl hdX4_laysBack ⟨Nat.le_of_ble_eq_true rfl, Nat.le_of_ble_eq_true rfl⟩) rfl hl.1 rfl (Nat.le_of_ble_eq_true rfl) dX4_clear_60 (fun H locs hT => ?_)
    refine lv_iload_n hx hb dX4_clear_63 rfl (lv_at hl 1 rfl) ?_
    exact t_iret C hT hf hr hlocks dX4_clear_64
  refine W.eq (by rw [hargs]) (t_in (vs := [.ref (a 42), .int x1]) (n := 4) (Nat.le_of_ble_eq_true rfl) (fun ls hl => ?_))
  have hl : lv_has ls 4 [(0, .ref (a 42)), (1, .int x1)] := hl
  unfold fX4_clear at hf
  skip
  refine lv_aload_n hx hb dX4_clear_0 rfl (lv_at hl 0 rfl) ?_
  refine lv_iload_n hx hb dX4_clear_1 rfl (lv_at hl 1 rfl) ?_
  obtain ⟨w_2, h_2, hf⟩ := bind_e hf
  refine t_calli (vs := [.int x1]) (rest := []) C hV hT (fun sz => mX4_isRoad l D d a N t x1 _ h_2 sz) (cwV 1 C.2.2.2.2 (lw_V q1561 q1563 qs78 q129 q1564) rfl rfl rfl hdX4_isRoad ⟨Nat.le_of_ble_eq_true rfl, Nat.le_of_ble_eq_true rfl⟩) rfl hl.1 rfl (Nat.le_of_ble_eq_true rfl) dX4_clear_2 (fun H locs hT => ?_)
  refine lv_if_ne (tgt := 10) hx hb dX4_clear_5 (by decide) (fun hc => ?_) (fun hc => ?_)
  · have hf := ite_t hc hf
    refine lv_bipush (v := -2) hx hb dX4_clear_10 (by decide) ?_
    refine lv_istore_n (lv' := [(2, .int (-2 : Int32)), (0, .ref (a 42)), (1, .int x1)]) hx hb dX4_clear_12 rfl hl (by decide) rfl (fun ls hl => ?_)
    refine lv_aload_n hx hb dX4_clear_13 rfl (lv_at hl 1 rfl) ?_
    obtain ⟨w_14, h_14, hf⟩ := bind_e hf
    refine t_callv (vs := []) (rest := []) C hV hT (fun sz => mX4_keeps l D d a N w_2.2  _ h_14 sz) (cwV 0 C.2.2.2.2 (lw_V q1701 q1703 qs100 q129 q1704) rfl rfl rfl hdX4_keeps ⟨Nat.le_of_ble_eq_true rfl, Nat.le_of_ble_eq_true rfl⟩) rfl hl.1 rfl (Nat.le_of_ble_eq_true rfl) dX4_clear_14 (fun H locs hT => ?_)
    refine lv_iconst (v := 0) hx hb dX4_clear_17 (by decide) ?_
    refine lv_istore_n (lv' := [(3, .int (0 : Int32)), (2, .int (-2 : Int32)), (0, .ref (a 42)), (1, .int x1)]) hx hb dX4_clear_18 rfl hl (by decide) rfl (fun ls hl => ?_)
    refine hL19 _ (fun t x2 H locs ls hT hl hf => ?_) N w_14 x1 (-2 : Int32) (0 : Int32) _ _ _ hT (lv_sub hl [2, 3, 1, 0] rfl) hf
    exact hJ59 t x2 _ _ _ hT hl hf
  · have hf := ite_f (fun q => q hc) hf
    refine lv_iconst (v := -1) hx hb dX4_clear_8 (by decide) ?_
    exact t_iret C hT hf hr hlocks dX4_clear_9
def fX4_isPeace_B2 (N : Nat) (K : TS → Option (Int32 × TS)) (kb : TS → Int32 → Int32 → Option (Int32 × TS)) (t : TS) (x1 : Int32) (x2 : Int32) : Option (Int32 × TS) :=
  (if (t.2.1 20 3) ≤ x2 then (K t) else ((fX4_isOf N x1 x2).bind fun w_14 => (if w_14 = 0 then (lett (x2 + (1 : Int32)) fun x2_36 => (kb t x1 x2_36)) else (ix ((72 : Int32) + x2) 121 (if ((t.2.1 20 (((72 : Int32) + x2)).toNatClampNeg) &&& x1) = 0 then (lett (x2 + (1 : Int32)) fun x2_36 => (kb t x1 x2_36)) else (some ((0 : Int32), t)))))))
def fX4_isPeace_L2 (N : Nat) (K : TS → Option (Int32 × TS)) : Nat → TS → Int32 → Int32 → Option (Int32 × TS)
  | 0 => fun _ _ _ => none
  | n + 1 => fun t x1 x2 => fX4_isPeace_B2 N K (fX4_isPeace_L2 N K n) t x1 x2
def fX4_isPeace (N : Nat) (t : TS) (x1 : Int32) : Option (Int32 × TS) :=
  (fX4_isPeace_L2 N (fun t => (some ((1 : Int32), t))) N t x1 (0 : Int32))
theorem hdX4_isPeace : yX4_isPeace.cls = RX4 ∧ yX4_isPeace.cls ≠ "java/lang/invoke/MethodHandle" ∧ yX4_isPeace.cls ≠ "java/lang/invoke/VarHandle" ∧ (parseMethodDescriptor yX4_isPeace.desc).map (fun d => d.parameters.length) = some 1 := by decide +kernel
set_option maxHeartbeats 4000000 in
theorem mX4_isPeace (l : Launch) (D : va_G) (d : Nat → ClassId) (a : Nat → Nat) (N : Nat) (t : TS) (x1 : Int32) (w : Int32 × TS) (hf : fX4_isPeace N t x1 = some w) (sz : Nat) : Met l yX4_isPeace (ws_ yX4_isPeace cX4_isPeace 3 (some .boolean)) (rm_ 1 21) (PcT D d a [.int x1] t sz) (QiT D d a w.1 w.2 sz) 0 0 (AT a sz) := by
  refine Met.ofW (cc := cX4_isPeace) (maxL := 3) (ret := (some .boolean)) plX4 rfl ?_
  intro p e s m args below meth c s₁ B hml hv
  obtain ⟨C, hV, hT, hr, hlocks, hargs, rfl⟩ := t_enter B hml rfl hv
  have hx := C.1
  have hb := C.2.1
  show W p l e (rm_ 1 21) s m args below meth c s.heap [] 0 0 (MQ below (QiT D d a w.1 w.2 s.heap.size) args s 0 0 (AT a s.heap.size)) _
  have hL2 : ∀ (K : TS → Option (Int32 × TS)), (∀ (t : TS) (H : Heap) (locs : List Loc) (ls : Array Slot), TH D (AT a s.heap.size) s.heap (wT d a t) H locs → lv_has ls 3 [] → K t = some w → W p l e (rm_ 1 21) s m args below meth c H locs 0 0 (MQ below (QiT D d a w.1 w.2 s.heap.size) args s 0 0 (AT a s.heap.size)) (F0 m 42 ls [])) → ∀ (n : Nat) (t : TS) (x1 : Int32) (x2 : Int32) (H : Heap) (locs : List Loc) (ls : Array Slot), TH D (AT a s.heap.size) s.heap (wT d a t) H locs → lv_has ls 3 [(0, .ref (a 42)), (1, .int x1), (2, .int x2)] → fX4_isPeace_L2 N K n t x1 x2 = some w → W p l e (rm_ 1 21) s m args below meth c H locs 0 0 (MQ below (QiT D d a w.1 w.2 s.heap.size) args s 0 0 (AT a s.heap.size)) (F0 m 2 ls []) := by
    intro K hE n
    induction n with
    | zero =>
      intro t x1 x2 H locs ls hT hl hf
      cases hf
    | succ n ih =>
      intro t x1 x2 H locs ls hT hl hf
      replace hf : fX4_isPeace_B2 N K (fX4_isPeace_L2 N K n) t x1 x2 = some w := hf
      unfold fX4_isPeace_B2 at hf
      refine lv_iload_n hx hb dX4_isPeace_2 rfl (lv_at hl 2 rfl) ?_
      refine lv_aload_n hx hb dX4_isPeace_3 rfl (lv_at hl 0 rfl) ?_
      refine t_get C hV hT 20 (by decide) q1267 rfl dX4_isPeace_4 ?_
      refine lv_iconst (v := 3) hx hb dX4_isPeace_7 (by decide) ?_
      refine g_ild C hV hT 10 3 rfl (vin_of (by decide)) (by decide) dX4_isPeace_8 ?_
      refine lv_icmp_ge (tgt := 42) hx hb dX4_isPeace_9 (by decide) (fun hc => ?_) (fun hc => ?_)
      · have hf := ite_t hc hf
        exact hE t _ _ _ hT (lv_sub hl [] rfl) hf
      · have hf := ite_f hc hf
        refine lv_iload_n hx hb dX4_isPeace_12 rfl (lv_at hl 1 rfl) ?_
        refine lv_iload_n hx hb dX4_isPeace_13 rfl (lv_at hl 2 rfl) ?_
        obtain ⟨w_14, h_14, hf⟩ := bind_e hf
        refine s_calli (vs := [.int x1, .int x2]) (rest := []) C (fun q h => Or.inr h) hT (fun sz => mX4_isOf l N x1 x2 _ h_14 sz) (va_cwS 2 C.2.2.2.2 (lw_S q1629 q1630 q129 q1631) rfl rfl rfl hdX4_isOf ⟨Nat.le_of_ble_eq_true rfl, Nat.le_of_ble_eq_true rfl⟩) rfl hl.1 rfl (Nat.le_of_ble_eq_true rfl) dX4_isPeace_14 ⟨Nat.zero_le _, Nat.zero_le _⟩ (fun H locs hT => ?_)
        refine lv_if_eq (tgt := 36) hx hb dX4_isPeace_17 (by decide) (fun hc => ?_) (fun hc => ?_)
        · have hf := ite_t hc hf
          obtain ⟨x2_36, ex⟩ : ∃ y : Int32, y = (x2 + (1 : Int32)) := ⟨_, rfl⟩
          have hf := lett_e ex hf
          refine lv_iinc (v := x2_36) (lv' := [(2, .int x2_36), (0, .ref (a 42)), (1, .int x1)]) hx hb dX4_isPeace_36 hl (k := 2) rfl (by rw [ex]; rfl) (by decide) rfl (fun ls hl => ?_)
          refine lv_goto (tgt := 2) hx hb dX4_isPeace_39 (by decide) ?_
          exact ih t x1 x2_36 _ _ _ hT (lv_sub hl [1, 2, 0] rfl) hf
        · have hf := ite_f hc hf
          refine lv_aload_n hx hb dX4_isPeace_20 rfl (lv_at hl 0 rfl) ?_
          refine t_get C hV hT 20 (by decide) q1267 rfl dX4_isPeace_21 ?_
          refine lv_bipush (v := 72) hx hb dX4_isPeace_24 (by decide) ?_
          refine lv_iload_n hx hb dX4_isPeace_26 rfl (lv_at hl 2 rfl) ?_
          refine lv_iadd hx hb dX4_isPeace_27 ?_
          obtain ⟨hi, hf⟩ := ix_e hf
          refine g_ild C hV hT 10 _ rfl hi rfl dX4_isPeace_28 ?_
          refine lv_iload_n hx hb dX4_isPeace_29 rfl (lv_at hl 1 rfl) ?_
          refine lv_iand hx hb dX4_isPeace_30 ?_
          refine lv_if_eq (tgt := 36) hx hb dX4_isPeace_31 (by decide) (fun hc => ?_) (fun hc => ?_)
          · have hf := ite_t hc hf
            obtain ⟨x2_36, ex⟩ : ∃ y : Int32, y = (x2 + (1 : Int32)) := ⟨_, rfl⟩
            have hf := lett_e ex hf
            refine lv_iinc (v := x2_36) (lv' := [(2, .int x2_36), (0, .ref (a 42)), (1, .int x1)]) hx hb dX4_isPeace_36 hl (k := 2) rfl (by rw [ex]; rfl) (by decide) rfl (fun ls hl => ?_)
            refine lv_goto (tgt := 2) hx hb dX4_isPeace_39 (by decide) ?_
            exact ih t x1 x2_36 _ _ _ hT (lv_sub hl [1, 2, 0] rfl) hf
          · have hf := ite_f hc hf
            refine lv_iconst (v := 0) hx hb dX4_isPeace_34 (by decide) ?_
            exact t_zret C hT hf (Or.inl rfl) hr hlocks dX4_isPeace_35
  refine W.eq (by rw [hargs]) (t_in (vs := [.ref (a 42), .int x1]) (n := 3) (Nat.le_of_ble_eq_true rfl) (fun ls hl => ?_))
  have hl : lv_has ls 3 [(0, .ref (a 42)), (1, .int x1)] := hl
  unfold fX4_isPeace at hf
  skip
  refine lv_iconst (v := 0) hx hb dX4_isPeace_0 (by decide) ?_
  refine lv_istore_n (lv' := [(2, .int (0 : Int32)), (0, .ref (a 42)), (1, .int x1)]) hx hb dX4_isPeace_1 rfl hl (by decide) rfl (fun ls hl => ?_)
  refine hL2 _ (fun t H locs ls hT hl hf => ?_) N t x1 (0 : Int32) _ _ _ hT (lv_sub hl [1, 2, 0] rfl) hf
  refine lv_iconst (v := 1) hx hb dX4_isPeace_42 (by decide) ?_
  exact t_zret C hT hf (Or.inr rfl) hr hlocks dX4_isPeace_43
def fX4_chord_B23 (N : Nat) (K : TS → Int32 → Int32 → Option (Int32 × TS)) (kb : TS → Int32 → Int32 → Int32 → Option (Int32 × TS)) (t : TS) (x1 : Int32) (x2 : Int32) (x3 : Int32) : Option (Int32 × TS) :=
  (if ((1 : Int32) <<< ((t.2.1 20 3) &&& 31)) ≤ x3 then (K t x1 x2) else ((fX4_soundOf N t x3).bind fun w_37 => ((fX4_soundOf N w_37.2 x2).bind fun w_42 => (lett (w_37.1 - w_42.1) fun x4_46 => ((fX4_isPeace N w_42.2 x3).bind fun w_50 => (if w_50.1 = 0 then (lett (x3 + (1 : Int32)) fun x3_79 => (kb w_50.2 x1 x2 x3_79)) else (if 0 < x4_46 then (lett (x3 + (1 : Int32)) fun x3_79 => (kb w_50.2 x1 x3 x3_79)) else (if ¬ x4_46 = 0 then (lett (x3 + (1 : Int32)) fun x3_79 => (kb w_50.2 x1 x2 x3_79)) else ((fX4_bits N x3).bind fun w_67 => ((fX4_bits N x2).bind fun w_71 => (if w_71 ≤ w_67 then (lett (x3 + (1 : Int32)) fun x3_79 => (kb w_50.2 x1 x2 x3_79)) else (lett (x3 + (1 : Int32)) fun x3_79 => (kb w_50.2 x1 x3 x3_79)))))))))))))
def fX4_chord_L23 (N : Nat) (K : TS → Int32 → Int32 → Option (Int32 × TS)) : Nat → TS → Int32 → Int32 → Int32 → Option (Int32 × TS)
  | 0 => fun _ _ _ _ => none
  | n + 1 => fun t x1 x2 x3 => fX4_chord_B23 N K (fX4_chord_L23 N K n) t x1 x2 x3
def fX4_chord (N : Nat) (t : TS) (x1 : Int32) : Option (Int32 × TS) :=
  ((fX4_isJunction N t ).bind fun w_1 => (if w_1.1 = 0 then (some ((-1 : Int32), w_1.2)) else ((fX4_in N (x1).toInt64 (0 : Int64) (1 : Int64)).bind fun w_11 => (if ¬ w_11 = 0 then (fX4_chord_L23 N (fun t x1 x2 => (if ¬ x1 = 0 then (some (x2, t)) else ((fX4_soundOf N t x2).bind fun w_91 => (some (w_91.1, w_91.2))))) N w_1.2 x1 (0 : Int32) (1 : Int32)) else (some ((-1 : Int32), w_1.2))))))
theorem hdX4_chord : yX4_chord.cls = RX4 ∧ yX4_chord.cls ≠ "java/lang/invoke/MethodHandle" ∧ yX4_chord.cls ≠ "java/lang/invoke/VarHandle" ∧ (parseMethodDescriptor yX4_chord.desc).map (fun d => d.parameters.length) = some 1 := by decide +kernel
set_option maxHeartbeats 4000000 in
theorem mX4_chord (l : Launch) (D : va_G) (d : Nat → ClassId) (a : Nat → Nat) (N : Nat) (t : TS) (x1 : Int32) (w : Int32 × TS) (hf : fX4_chord N t x1 = some w) (sz : Nat) : Met l yX4_chord (ws_ yX4_chord cX4_chord 5 (some .int)) (rm_ 2 46) (PcT D d a [.int x1] t sz) (QiT D d a w.1 w.2 sz) 0 0 (AT a sz) := by
  refine Met.ofW (cc := cX4_chord) (maxL := 5) (ret := (some .int)) plX4 rfl ?_
  intro p e s m args below meth c s₁ B hml hv
  obtain ⟨C, hV, hT, hr, hlocks, hargs, rfl⟩ := t_enter B hml rfl hv
  have hx := C.1
  have hb := C.2.1
  show W p l e (rm_ 2 46) s m args below meth c s.heap [] 0 0 (MQ below (QiT D d a w.1 w.2 s.heap.size) args s 0 0 (AT a s.heap.size)) _
  have hL23 : ∀ (K : TS → Int32 → Int32 → Option (Int32 × TS)), (∀ (t : TS) (x1 : Int32) (x2 : Int32) (H : Heap) (locs : List Loc) (ls : Array Slot), TH D (AT a s.heap.size) s.heap (wT d a t) H locs → lv_has ls 5 [(0, .ref (a 42)), (1, .int x1), (2, .int x2)] → K t x1 x2 = some w → W p l e (rm_ 2 46) s m args below meth c H locs 0 0 (MQ below (QiT D d a w.1 w.2 s.heap.size) args s 0 0 (AT a s.heap.size)) (F0 m 85 ls [])) → ∀ (n : Nat) (t : TS) (x1 : Int32) (x2 : Int32) (x3 : Int32) (H : Heap) (locs : List Loc) (ls : Array Slot), TH D (AT a s.heap.size) s.heap (wT d a t) H locs → lv_has ls 5 [(0, .ref (a 42)), (1, .int x1), (2, .int x2), (3, .int x3)] → fX4_chord_L23 N K n t x1 x2 x3 = some w → W p l e (rm_ 2 46) s m args below meth c H locs 0 0 (MQ below (QiT D d a w.1 w.2 s.heap.size) args s 0 0 (AT a s.heap.size)) (F0 m 23 ls []) := by
    intro K hE n
    induction n with
    | zero =>
      intro t x1 x2 x3 H locs ls hT hl hf
      cases hf
    | succ n ih =>
      intro t x1 x2 x3 H locs ls hT hl hf
      replace hf : fX4_chord_B23 N K (fX4_chord_L23 N K n) t x1 x2 x3 = some w := hf
      unfold fX4_chord_B23 at hf
      refine lv_iload_n hx hb dX4_chord_23 rfl (lv_at hl 3 rfl) ?_
      refine lv_iconst (v := 1) hx hb dX4_chord_24 (by decide) ?_
      refine lv_aload_n hx hb dX4_chord_25 rfl (lv_at hl 0 rfl) ?_
      refine t_get C hV hT 20 (by decide) q1267 rfl dX4_chord_26 ?_
      refine lv_iconst (v := 3) hx hb dX4_chord_29 (by decide) ?_
      refine g_ild C hV hT 10 3 rfl (vin_of (by decide)) (by decide) dX4_chord_30 ?_
      refine lv_ishl hx hb dX4_chord_31 ?_
      refine lv_icmp_ge (tgt := 85) hx hb dX4_chord_32 (by decide) (fun hc => ?_) (fun hc => ?_)
      · have hf := ite_t hc hf
        exact hE t x1 x2 _ _ _ hT (lv_sub hl [0, 1, 2] rfl) hf
      · have hf := ite_f hc hf
        refine lv_aload_n hx hb dX4_chord_35 rfl (lv_at hl 0 rfl) ?_
        refine lv_iload_n hx hb dX4_chord_36 rfl (lv_at hl 3 rfl) ?_
        obtain ⟨w_37, h_37, hf⟩ := bind_e hf
        refine t_calli (vs := [.int x3]) (rest := []) C hV hT (fun sz => mX4_soundOf l D d a N t x3 _ h_37 sz) (cwV 1 C.2.2.2.2 (lw_V q1635 q1637 qs92 q129 q1638) rfl rfl rfl hdX4_soundOf ⟨Nat.le_of_ble_eq_true rfl, Nat.le_of_ble_eq_true rfl⟩) rfl hl.1 rfl (Nat.le_of_ble_eq_true rfl) dX4_chord_37 (fun H locs hT => ?_)
        refine lv_aload_n hx hb dX4_chord_40 rfl (lv_at hl 0 rfl) ?_
        refine lv_iload_n hx hb dX4_chord_41 rfl (lv_at hl 2 rfl) ?_
        obtain ⟨w_42, h_42, hf⟩ := bind_e hf
        refine t_calli (vs := [.int x2]) (rest := [.int w_37.1]) C hV hT (fun sz => mX4_soundOf l D d a N w_37.2 x2 _ h_42 sz) (cwV 1 C.2.2.2.2 (lw_V q1635 q1637 qs92 q129 q1638) rfl rfl rfl hdX4_soundOf ⟨Nat.le_of_ble_eq_true rfl, Nat.le_of_ble_eq_true rfl⟩) rfl hl.1 rfl (Nat.le_of_ble_eq_true rfl) dX4_chord_42 (fun H locs hT => ?_)
        refine lv_isub hx hb dX4_chord_45 ?_
        refine lv_topi (fun x4_46 ex => ?_)
        have hf := lett_e ex hf
        refine lv_istore (lv' := [(4, .int x4_46), (0, .ref (a 42)), (1, .int x1), (2, .int x2), (3, .int x3)]) hx hb dX4_chord_46 hl (by decide) rfl (fun ls hl => ?_)
        refine lv_aload_n hx hb dX4_chord_48 rfl (lv_at hl 1 rfl) ?_
        refine lv_iload_n hx hb dX4_chord_49 rfl (lv_at hl 4 rfl) ?_
        obtain ⟨w_50, h_50, hf⟩ := bind_e hf
        refine t_calli (vs := [.int x3]) (rest := []) C hV hT (fun sz => mX4_isPeace l D d a N w_42.2 x3 _ h_50 sz) (cwV 1 C.2.2.2.2 (lw_V q1721 q1723 qs103 q129 q1724) rfl rfl rfl hdX4_isPeace ⟨Nat.le_of_ble_eq_true rfl, Nat.le_of_ble_eq_true rfl⟩) rfl hl.1 rfl (Nat.le_of_ble_eq_true rfl) dX4_chord_50 (fun H locs hT => ?_)
        refine lv_if_eq (tgt := 79) hx hb dX4_chord_53 (by decide) (fun hc => ?_) (fun hc => ?_)
        · have hf := ite_t hc hf
          obtain ⟨x3_79, ex⟩ : ∃ y : Int32, y = (x3 + (1 : Int32)) := ⟨_, rfl⟩
          have hf := lett_e ex hf
          refine lv_iinc (v := x3_79) (lv' := [(3, .int x3_79), (4, .int x4_46), (0, .ref (a 42)), (1, .int x1), (2, .int x2)]) hx hb dX4_chord_79 hl (k := 4) rfl (by rw [ex]; rfl) (by decide) rfl (fun ls hl => ?_)
          refine lv_goto (tgt := 23) hx hb dX4_chord_82 (by decide) ?_
          exact ih w_50.2 x1 x2 x3_79 _ _ _ hT (lv_sub hl [2, 3, 4, 0] rfl) hf
        · have hf := ite_f hc hf
          refine lv_iload hx hb dX4_chord_56 (lv_at hl 0 rfl) ?_
          refine lv_if_gt (tgt := 77) hx hb dX4_chord_58 (by decide) (fun hc => ?_) (fun hc => ?_)
          · have hf := ite_t hc hf
            refine lv_iload_n hx hb dX4_chord_77 rfl (lv_at hl 4 rfl) ?_
            refine lv_istore_n (lv' := [(2, .int x3), (4, .int x4_46), (0, .ref (a 42)), (1, .int x1), (3, .int x3)]) hx hb dX4_chord_78 rfl hl (by decide) rfl (fun ls hl => ?_)
            obtain ⟨x3_79, ex⟩ : ∃ y : Int32, y = (x3 + (1 : Int32)) := ⟨_, rfl⟩
            have hf := lett_e ex hf
            refine lv_iinc (v := x3_79) (lv' := [(3, .int x3_79), (2, .int x3), (4, .int x4_46), (0, .ref (a 42)), (1, .int x1)]) hx hb dX4_chord_79 hl (k := 4) rfl (by rw [ex]; rfl) (by decide) rfl (fun ls hl => ?_)
            refine lv_goto (tgt := 23) hx hb dX4_chord_82 (by decide) ?_
            exact ih w_50.2 x1 x3 x3_79 _ _ _ hT (lv_sub hl [3, 4, 1, 0] rfl) hf
          · have hf := ite_f hc hf
            refine lv_iload hx hb dX4_chord_61 (lv_at hl 0 rfl) ?_
            refine lv_if_ne (tgt := 79) hx hb dX4_chord_63 (by decide) (fun hc => ?_) (fun hc => ?_)
            · have hf := ite_t hc hf
              obtain ⟨x3_79, ex⟩ : ∃ y : Int32, y = (x3 + (1 : Int32)) := ⟨_, rfl⟩
              have hf := lett_e ex hf
              refine lv_iinc (v := x3_79) (lv' := [(3, .int x3_79), (4, .int x4_46), (0, .ref (a 42)), (1, .int x1), (2, .int x2)]) hx hb dX4_chord_79 hl (k := 4) rfl (by rw [ex]; rfl) (by decide) rfl (fun ls hl => ?_)
              refine lv_goto (tgt := 23) hx hb dX4_chord_82 (by decide) ?_
              exact ih w_50.2 x1 x2 x3_79 _ _ _ hT (lv_sub hl [2, 3, 4, 0] rfl) hf
            · have hf := ite_f (fun q => q hc) hf
              refine lv_iload_n hx hb dX4_chord_66 rfl (lv_at hl 4 rfl) ?_
              obtain ⟨w_67, h_67, hf⟩ := bind_e hf
              refine s_calli (vs := [.int x3]) (rest := []) C (fun q h => Or.inr h) hT (fun sz => mX4_bits l N x3 _ h_67 sz) (va_cwS 1 C.2.2.2.2 (lw_S q1632 q1633 q129 q1634) rfl rfl rfl hdX4_bits ⟨Nat.le_of_ble_eq_true rfl, Nat.le_of_ble_eq_true rfl⟩) rfl hl.1 rfl (Nat.le_of_ble_eq_true rfl) dX4_chord_67 ⟨Nat.zero_le _, Nat.zero_le _⟩ (fun H locs hT => ?_)
              refine lv_iload_n hx hb dX4_chord_70 rfl (lv_at hl 3 rfl) ?_
              obtain ⟨w_71, h_71, hf⟩ := bind_e hf
              refine s_calli (vs := [.int x2]) (rest := [.int w_67]) C (fun q h => Or.inr h) hT (fun sz => mX4_bits l N x2 _ h_71 sz) (va_cwS 1 C.2.2.2.2 (lw_S q1632 q1633 q129 q1634) rfl rfl rfl hdX4_bits ⟨Nat.le_of_ble_eq_true rfl, Nat.le_of_ble_eq_true rfl⟩) rfl hl.1 rfl (Nat.le_of_ble_eq_true rfl) dX4_chord_71 ⟨Nat.zero_le _, Nat.zero_le _⟩ (fun H locs hT => ?_)
              refine lv_icmp_ge (tgt := 79) hx hb dX4_chord_74 (by decide) (fun hc => ?_) (fun hc => ?_)
              · have hf := ite_t hc hf
                obtain ⟨x3_79, ex⟩ : ∃ y : Int32, y = (x3 + (1 : Int32)) := ⟨_, rfl⟩
                have hf := lett_e ex hf
                refine lv_iinc (v := x3_79) (lv' := [(3, .int x3_79), (4, .int x4_46), (0, .ref (a 42)), (1, .int x1), (2, .int x2)]) hx hb dX4_chord_79 hl (k := 4) rfl (by rw [ex]; rfl) (by decide) rfl (fun ls hl => ?_)
                refine lv_goto (tgt := 23) hx hb dX4_chord_82 (by decide) ?_
                exact ih w_50.2 x1 x2 x3_79 _ _ _ hT (lv_sub hl [2, 3, 4, 0] rfl) hf
              · have hf := ite_f hc hf
                refine lv_iload_n hx hb dX4_chord_77 rfl (lv_at hl 4 rfl) ?_
                refine lv_istore_n (lv' := [(2, .int x3), (4, .int x4_46), (0, .ref (a 42)), (1, .int x1), (3, .int x3)]) hx hb dX4_chord_78 rfl hl (by decide) rfl (fun ls hl => ?_)
                obtain ⟨x3_79, ex⟩ : ∃ y : Int32, y = (x3 + (1 : Int32)) := ⟨_, rfl⟩
                have hf := lett_e ex hf
                refine lv_iinc (v := x3_79) (lv' := [(3, .int x3_79), (2, .int x3), (4, .int x4_46), (0, .ref (a 42)), (1, .int x1)]) hx hb dX4_chord_79 hl (k := 4) rfl (by rw [ex]; rfl) (by decide) rfl (fun ls hl => ?_)
                refine lv_goto (tgt := 23) hx hb dX4_chord_82 (by decide) ?_
                exact ih w_50.2 x1 x3 x3_79 _ _ _ hT (lv_sub hl [3, 4, 1, 0] rfl) hf
  refine W.eq (by rw [hargs]) (t_in (vs := [.ref (a 42), .int x1]) (n := 5) (Nat.le_of_ble_eq_true rfl) (fun ls hl => ?_))
  have hl : lv_has ls 5 [(0, .ref (a 42)), (1, .int x1)] := hl
  unfold fX4_chord at hf
  skip
  refine lv_aload_n hx hb dX4_chord_0 rfl (lv_at hl 0 rfl) ?_
  obtain ⟨w_1, h_1, hf⟩ := bind_e hf
  refine t_calli (vs := []) (rest := []) C hV hT (fun sz => mX4_isJunction l D d a N t  _ h_1 sz) (cwV 0 C.2.2.2.2 (lw_V q1593 q1595 qs85 q129 q1596) rfl rfl rfl hdX4_isJunction ⟨Nat.le_of_ble_eq_true rfl, Nat.le_of_ble_eq_true rfl⟩) rfl hl.1 rfl (Nat.le_of_ble_eq_true rfl) dX4_chord_1 (fun H locs hT => ?_)
  refine lv_if_eq (tgt := 17) hx hb dX4_chord_4 (by decide) (fun hc => ?_) (fun hc => ?_)
  · have hf := ite_t hc hf
    refine lv_iconst (v := -1) hx hb dX4_chord_17 (by decide) ?_
    exact t_iret C hT hf hr hlocks dX4_chord_18
  · have hf := ite_f hc hf
    refine lv_iload_n hx hb dX4_chord_7 rfl (lv_at hl 1 rfl) ?_
    refine lv_i2l hx hb dX4_chord_8 rfl ?_
    refine lv_lconst (v := 0) hx hb dX4_chord_9 (by decide) ?_
    refine lv_lconst (v := 1) hx hb dX4_chord_10 (by decide) ?_
    obtain ⟨w_11, h_11, hf⟩ := bind_e hf
    refine s_calli (vs := [.long (x1).toInt64, .long (0 : Int64), .long (1 : Int64)]) (rest := []) C (fun q h => Or.inr h) hT (fun sz => mX4_in l N (x1).toInt64 (0 : Int64) (1 : Int64) _ h_11 sz) (va_cwS 3 C.2.2.2.2 (lw_S q1448 q1449 q129 q1450) rfl rfl rfl hdX4_in ⟨Nat.le_of_ble_eq_true rfl, Nat.le_of_ble_eq_true rfl⟩) rfl hl.1 rfl (Nat.le_of_ble_eq_true rfl) dX4_chord_11 ⟨Nat.zero_le _, Nat.zero_le _⟩ (fun H locs hT => ?_)
    refine lv_if_ne (tgt := 19) hx hb dX4_chord_14 (by decide) (fun hc => ?_) (fun hc => ?_)
    · have hf := ite_t hc hf
      refine lv_iconst (v := 0) hx hb dX4_chord_19 (by decide) ?_
      refine lv_istore_n (lv' := [(2, .int (0 : Int32)), (0, .ref (a 42)), (1, .int x1)]) hx hb dX4_chord_20 rfl hl (by decide) rfl (fun ls hl => ?_)
      refine lv_iconst (v := 1) hx hb dX4_chord_21 (by decide) ?_
      refine lv_istore_n (lv' := [(3, .int (1 : Int32)), (2, .int (0 : Int32)), (0, .ref (a 42)), (1, .int x1)]) hx hb dX4_chord_22 rfl hl (by decide) rfl (fun ls hl => ?_)
      refine hL23 _ (fun t x1 x2 H locs ls hT hl hf => ?_) N w_1.2 x1 (0 : Int32) (1 : Int32) _ _ _ hT (lv_sub hl [2, 3, 1, 0] rfl) hf
      refine lv_iload_n hx hb dX4_chord_85 rfl (lv_at hl 1 rfl) ?_
      refine lv_if_ne (tgt := 97) hx hb dX4_chord_86 (by decide) (fun hc => ?_) (fun hc => ?_)
      · have hf := ite_t hc hf
        refine lv_iload_n hx hb dX4_chord_97 rfl (lv_at hl 2 rfl) ?_
        exact t_iret C hT hf hr hlocks dX4_chord_98
      · have hf := ite_f (fun q => q hc) hf
        refine lv_aload_n hx hb dX4_chord_89 rfl (lv_at hl 0 rfl) ?_
        refine lv_iload_n hx hb dX4_chord_90 rfl (lv_at hl 2 rfl) ?_
        obtain ⟨w_91, h_91, hf⟩ := bind_e hf
        refine t_calli (vs := [.int x2]) (rest := []) C hV hT (fun sz => mX4_soundOf l D d a N t x2 _ h_91 sz) (cwV 1 C.2.2.2.2 (lw_V q1635 q1637 qs92 q129 q1638) rfl rfl rfl hdX4_soundOf ⟨Nat.le_of_ble_eq_true rfl, Nat.le_of_ble_eq_true rfl⟩) rfl hl.1 rfl (Nat.le_of_ble_eq_true rfl) dX4_chord_91 (fun H locs hT => ?_)
        refine lv_goto (tgt := 98) hx hb dX4_chord_94 (by decide) ?_
        exact t_iret C hT hf hr hlocks dX4_chord_98
    · have hf := ite_f (fun q => q hc) hf
      refine lv_iconst (v := -1) hx hb dX4_chord_17 (by decide) ?_
      exact t_iret C hT hf hr hlocks dX4_chord_18
def fX4_isFree_B2 (N : Nat) (K : TS → Option (Int32 × TS)) (kb : TS → Int32 → Int32 → Option (Int32 × TS)) (t : TS) (x1 : Int32) (x2 : Int32) : Option (Int32 × TS) :=
  (if x1 ≤ x2 then (K t) else (ix x2 7 (ix x1 7 (if ¬ (t.2.1 29 (x2).toNatClampNeg) = (t.2.1 29 (x1).toNatClampNeg) then (lett (x2 + (1 : Int32)) fun x2_40 => (kb t x1 x2_40)) else (ix ((72 : Int32) + x1) 121 ((fX4_isOf N (t.2.1 20 (((72 : Int32) + x1)).toNatClampNeg) x2).bind fun w_32 => (if w_32 = 0 then (lett (x2 + (1 : Int32)) fun x2_40 => (kb t x1 x2_40)) else (some ((0 : Int32), t)))))))))
def fX4_isFree_L2 (N : Nat) (K : TS → Option (Int32 × TS)) : Nat → TS → Int32 → Int32 → Option (Int32 × TS)
  | 0 => fun _ _ _ => none
  | n + 1 => fun t x1 x2 => fX4_isFree_B2 N K (fX4_isFree_L2 N K n) t x1 x2
def fX4_isFree (N : Nat) (t : TS) (x1 : Int32) : Option (Int32 × TS) :=
  (fX4_isFree_L2 N (fun t => (some ((1 : Int32), t))) N t x1 (0 : Int32))
theorem hdX4_isFree : yX4_isFree.cls = RX4 ∧ yX4_isFree.cls ≠ "java/lang/invoke/MethodHandle" ∧ yX4_isFree.cls ≠ "java/lang/invoke/VarHandle" ∧ (parseMethodDescriptor yX4_isFree.desc).map (fun d => d.parameters.length) = some 1 := by decide +kernel
set_option maxHeartbeats 4000000 in
theorem mX4_isFree (l : Launch) (D : va_G) (d : Nat → ClassId) (a : Nat → Nat) (N : Nat) (t : TS) (x1 : Int32) (w : Int32 × TS) (hf : fX4_isFree N t x1 = some w) (sz : Nat) : Met l yX4_isFree (ws_ yX4_isFree cX4_isFree 3 (some .boolean)) (rm_ 1 21) (PcT D d a [.int x1] t sz) (QiT D d a w.1 w.2 sz) 0 0 (AT a sz) := by
  refine Met.ofW (cc := cX4_isFree) (maxL := 3) (ret := (some .boolean)) plX4 rfl ?_
  intro p e s m args below meth c s₁ B hml hv
  obtain ⟨C, hV, hT, hr, hlocks, hargs, rfl⟩ := t_enter B hml rfl hv
  have hx := C.1
  have hb := C.2.1
  show W p l e (rm_ 1 21) s m args below meth c s.heap [] 0 0 (MQ below (QiT D d a w.1 w.2 s.heap.size) args s 0 0 (AT a s.heap.size)) _
  have hL2 : ∀ (K : TS → Option (Int32 × TS)), (∀ (t : TS) (H : Heap) (locs : List Loc) (ls : Array Slot), TH D (AT a s.heap.size) s.heap (wT d a t) H locs → lv_has ls 3 [] → K t = some w → W p l e (rm_ 1 21) s m args below meth c H locs 0 0 (MQ below (QiT D d a w.1 w.2 s.heap.size) args s 0 0 (AT a s.heap.size)) (F0 m 46 ls [])) → ∀ (n : Nat) (t : TS) (x1 : Int32) (x2 : Int32) (H : Heap) (locs : List Loc) (ls : Array Slot), TH D (AT a s.heap.size) s.heap (wT d a t) H locs → lv_has ls 3 [(0, .ref (a 42)), (1, .int x1), (2, .int x2)] → fX4_isFree_L2 N K n t x1 x2 = some w → W p l e (rm_ 1 21) s m args below meth c H locs 0 0 (MQ below (QiT D d a w.1 w.2 s.heap.size) args s 0 0 (AT a s.heap.size)) (F0 m 2 ls []) := by
    intro K hE n
    induction n with
    | zero =>
      intro t x1 x2 H locs ls hT hl hf
      cases hf
    | succ n ih =>
      intro t x1 x2 H locs ls hT hl hf
      replace hf : fX4_isFree_B2 N K (fX4_isFree_L2 N K n) t x1 x2 = some w := hf
      unfold fX4_isFree_B2 at hf
      refine lv_iload_n hx hb dX4_isFree_2 rfl (lv_at hl 2 rfl) ?_
      refine lv_iload_n hx hb dX4_isFree_3 rfl (lv_at hl 1 rfl) ?_
      refine lv_icmp_ge (tgt := 46) hx hb dX4_isFree_4 (by decide) (fun hc => ?_) (fun hc => ?_)
      · have hf := ite_t hc hf
        exact hE t _ _ _ hT (lv_sub hl [] rfl) hf
      · have hf := ite_f hc hf
        refine lv_aload_n hx hb dX4_isFree_7 rfl (lv_at hl 0 rfl) ?_
        refine t_get C hV hT 29 (by decide) q1276 rfl dX4_isFree_8 ?_
        refine lv_iload_n hx hb dX4_isFree_11 rfl (lv_at hl 2 rfl) ?_
        obtain ⟨hi, hf⟩ := ix_e hf
        refine g_ild C hV hT 14 _ rfl hi rfl dX4_isFree_12 ?_
        refine lv_aload_n hx hb dX4_isFree_13 rfl (lv_at hl 0 rfl) ?_
        refine t_get C hV hT 29 (by decide) q1276 rfl dX4_isFree_14 ?_
        refine lv_iload_n hx hb dX4_isFree_17 rfl (lv_at hl 1 rfl) ?_
        obtain ⟨hi, hf⟩ := ix_e hf
        refine g_ild C hV hT 14 _ rfl hi rfl dX4_isFree_18 ?_
        refine lv_icmp_ne (tgt := 40) hx hb dX4_isFree_19 (by decide) (fun hc => ?_) (fun hc => ?_)
        · have hf := ite_t hc hf
          obtain ⟨x2_40, ex⟩ : ∃ y : Int32, y = (x2 + (1 : Int32)) := ⟨_, rfl⟩
          have hf := lett_e ex hf
          refine lv_iinc (v := x2_40) (lv' := [(2, .int x2_40), (0, .ref (a 42)), (1, .int x1)]) hx hb dX4_isFree_40 hl (k := 2) rfl (by rw [ex]; rfl) (by decide) rfl (fun ls hl => ?_)
          refine lv_goto (tgt := 2) hx hb dX4_isFree_43 (by decide) ?_
          exact ih t x1 x2_40 _ _ _ hT (lv_sub hl [1, 2, 0] rfl) hf
        · have hf := ite_f (fun q => q hc) hf
          refine lv_aload_n hx hb dX4_isFree_22 rfl (lv_at hl 0 rfl) ?_
          refine t_get C hV hT 20 (by decide) q1267 rfl dX4_isFree_23 ?_
          refine lv_bipush (v := 72) hx hb dX4_isFree_26 (by decide) ?_
          refine lv_iload_n hx hb dX4_isFree_28 rfl (lv_at hl 1 rfl) ?_
          refine lv_iadd hx hb dX4_isFree_29 ?_
          obtain ⟨hi, hf⟩ := ix_e hf
          refine g_ild C hV hT 10 _ rfl hi rfl dX4_isFree_30 ?_
          refine lv_iload_n hx hb dX4_isFree_31 rfl (lv_at hl 2 rfl) ?_
          obtain ⟨w_32, h_32, hf⟩ := bind_e hf
          refine s_calli (vs := [.int (t.2.1 20 (((72 : Int32) + x1)).toNatClampNeg), .int x2]) (rest := []) C (fun q h => Or.inr h) hT (fun sz => mX4_isOf l N (t.2.1 20 (((72 : Int32) + x1)).toNatClampNeg) x2 _ h_32 sz) (va_cwS 2 C.2.2.2.2 (lw_S q1629 q1630 q129 q1631) rfl rfl rfl hdX4_isOf ⟨Nat.le_of_ble_eq_true rfl, Nat.le_of_ble_eq_true rfl⟩) rfl hl.1 rfl (Nat.le_of_ble_eq_true rfl) dX4_isFree_32 ⟨Nat.zero_le _, Nat.zero_le _⟩ (fun H locs hT => ?_)
          refine lv_if_eq (tgt := 40) hx hb dX4_isFree_35 (by decide) (fun hc => ?_) (fun hc => ?_)
          · have hf := ite_t hc hf
            obtain ⟨x2_40, ex⟩ : ∃ y : Int32, y = (x2 + (1 : Int32)) := ⟨_, rfl⟩
            have hf := lett_e ex hf
            refine lv_iinc (v := x2_40) (lv' := [(2, .int x2_40), (0, .ref (a 42)), (1, .int x1)]) hx hb dX4_isFree_40 hl (k := 2) rfl (by rw [ex]; rfl) (by decide) rfl (fun ls hl => ?_)
            refine lv_goto (tgt := 2) hx hb dX4_isFree_43 (by decide) ?_
            exact ih t x1 x2_40 _ _ _ hT (lv_sub hl [1, 2, 0] rfl) hf
          · have hf := ite_f hc hf
            refine lv_iconst (v := 0) hx hb dX4_isFree_38 (by decide) ?_
            exact t_zret C hT hf (Or.inl rfl) hr hlocks dX4_isFree_39
  refine W.eq (by rw [hargs]) (t_in (vs := [.ref (a 42), .int x1]) (n := 3) (Nat.le_of_ble_eq_true rfl) (fun ls hl => ?_))
  have hl : lv_has ls 3 [(0, .ref (a 42)), (1, .int x1)] := hl
  unfold fX4_isFree at hf
  skip
  refine lv_iconst (v := 0) hx hb dX4_isFree_0 (by decide) ?_
  refine lv_istore_n (lv' := [(2, .int (0 : Int32)), (0, .ref (a 42)), (1, .int x1)]) hx hb dX4_isFree_1 rfl hl (by decide) rfl (fun ls hl => ?_)
  refine hL2 _ (fun t H locs ls hT hl hf => ?_) N t x1 (0 : Int32) _ _ _ hT (lv_sub hl [1, 2, 0] rfl) hf
  refine lv_iconst (v := 1) hx hb dX4_isFree_46 (by decide) ?_
  exact t_zret C hT hf (Or.inr rfl) hr hlocks dX4_isFree_47
def fX4_isDoneBy_B9 (N : Nat) (K : TS → Int32 → Option (Int32 × TS)) (kb : TS → Int32 → Int32 → Option (Int32 × TS)) (t : TS) (x1 : Int32) (x2 : Int32) : Option (Int32 × TS) :=
  (if x2 < 0 then (K t x2) else (if (t.2.1 20 3) ≤ x2 then (K t x2) else (ix x2 7 (ix x2 7 (lett (tsA t 29 (x2).toNatClampNeg ((t.2.1 29 (x2).toNatClampNeg) + (1 : Int32))) fun t_32 => (ix x2 7 (if (t_32.2.1 29 (x2).toNatClampNeg) < x1 then ((fX4_isFree N t_32 x2).bind fun w_51 => (if w_51.1 = 0 then (kb w_51.2 x1 x2) else (lett (x2 + (1 : Int32)) fun x2_57 => (ix x2_57 7 (lett (tsA w_51.2 29 (x2_57).toNatClampNeg (-1 : Int32)) fun t_66 => (kb t_66 x1 x2_57)))))) else (lett (x2 + (-1 : Int32)) fun x2_43 => (kb t_32 x1 x2_43)))))))))
def fX4_isDoneBy_L9 (N : Nat) (K : TS → Int32 → Option (Int32 × TS)) : Nat → TS → Int32 → Int32 → Option (Int32 × TS)
  | 0 => fun _ _ _ => none
  | n + 1 => fun t x1 x2 => fX4_isDoneBy_B9 N K (fX4_isDoneBy_L9 N K n) t x1 x2
def fX4_isDoneBy_J70 (N : Nat) (t : TS) (x2 : Int32) : Option (Int32 × TS) :=
  (if ¬ x2 = (t.2.1 20 3) then (some ((0 : Int32), t)) else (some ((1 : Int32), t)))
def fX4_isDoneBy (N : Nat) (t : TS) (x1 : Int32) : Option (Int32 × TS) :=
  (lett (tsA t 29 0 (-1 : Int32)) fun t_8 => (fX4_isDoneBy_L9 N (fun t x2 => (fX4_isDoneBy_J70 N t x2)) N t_8 x1 (0 : Int32)))
theorem hdX4_isDoneBy : yX4_isDoneBy.cls = RX4 ∧ yX4_isDoneBy.cls ≠ "java/lang/invoke/MethodHandle" ∧ yX4_isDoneBy.cls ≠ "java/lang/invoke/VarHandle" ∧ (parseMethodDescriptor yX4_isDoneBy.desc).map (fun d => d.parameters.length) = some 1 := by decide +kernel
set_option maxHeartbeats 4000000 in
theorem mX4_isDoneBy (l : Launch) (D : va_G) (d : Nat → ClassId) (a : Nat → Nat) (N : Nat) (t : TS) (x1 : Int32) (w : Int32 × TS) (hf : fX4_isDoneBy N t x1 = some w) (sz : Nat) : Met l yX4_isDoneBy (ws_ yX4_isDoneBy cX4_isDoneBy 3 (some .boolean)) (rm_ 2 43) (PcT D d a [.int x1] t sz) (QiT D d a w.1 w.2 sz) 0 0 (AT a sz) := by
  refine Met.ofW (cc := cX4_isDoneBy) (maxL := 3) (ret := (some .boolean)) plX4 rfl ?_
  intro p e s m args below meth c s₁ B hml hv
  obtain ⟨C, hV, hT, hr, hlocks, hargs, rfl⟩ := t_enter B hml rfl hv
  have hx := C.1
  have hb := C.2.1
  show W p l e (rm_ 2 43) s m args below meth c s.heap [] 0 0 (MQ below (QiT D d a w.1 w.2 s.heap.size) args s 0 0 (AT a s.heap.size)) _
  have hL9 : ∀ (K : TS → Int32 → Option (Int32 × TS)), (∀ (t : TS) (x2 : Int32) (H : Heap) (locs : List Loc) (ls : Array Slot), TH D (AT a s.heap.size) s.heap (wT d a t) H locs → lv_has ls 3 [(0, .ref (a 42)), (2, .int x2)] → K t x2 = some w → W p l e (rm_ 2 43) s m args below meth c H locs 0 0 (MQ below (QiT D d a w.1 w.2 s.heap.size) args s 0 0 (AT a s.heap.size)) (F0 m 70 ls [])) → ∀ (n : Nat) (t : TS) (x1 : Int32) (x2 : Int32) (H : Heap) (locs : List Loc) (ls : Array Slot), TH D (AT a s.heap.size) s.heap (wT d a t) H locs → lv_has ls 3 [(0, .ref (a 42)), (1, .int x1), (2, .int x2)] → fX4_isDoneBy_L9 N K n t x1 x2 = some w → W p l e (rm_ 2 43) s m args below meth c H locs 0 0 (MQ below (QiT D d a w.1 w.2 s.heap.size) args s 0 0 (AT a s.heap.size)) (F0 m 9 ls []) := by
    intro K hE n
    induction n with
    | zero =>
      intro t x1 x2 H locs ls hT hl hf
      cases hf
    | succ n ih =>
      intro t x1 x2 H locs ls hT hl hf
      replace hf : fX4_isDoneBy_B9 N K (fX4_isDoneBy_L9 N K n) t x1 x2 = some w := hf
      unfold fX4_isDoneBy_B9 at hf
      refine lv_iload_n hx hb dX4_isDoneBy_9 rfl (lv_at hl 2 rfl) ?_
      refine lv_if_lt (tgt := 70) hx hb dX4_isDoneBy_10 (by decide) (fun hc => ?_) (fun hc => ?_)
      · have hf := ite_t hc hf
        exact hE t x2 _ _ _ hT (lv_sub hl [0, 2] rfl) hf
      · have hf := ite_f hc hf
        refine lv_iload_n hx hb dX4_isDoneBy_13 rfl (lv_at hl 2 rfl) ?_
        refine lv_aload_n hx hb dX4_isDoneBy_14 rfl (lv_at hl 0 rfl) ?_
        refine t_get C hV hT 20 (by decide) q1267 rfl dX4_isDoneBy_15 ?_
        refine lv_iconst (v := 3) hx hb dX4_isDoneBy_18 (by decide) ?_
        refine g_ild C hV hT 10 3 rfl (vin_of (by decide)) (by decide) dX4_isDoneBy_19 ?_
        refine lv_icmp_ge (tgt := 70) hx hb dX4_isDoneBy_20 (by decide) (fun hc => ?_) (fun hc => ?_)
        · have hf := ite_t hc hf
          exact hE t x2 _ _ _ hT (lv_sub hl [0, 2] rfl) hf
        · have hf := ite_f hc hf
          refine lv_aload_n hx hb dX4_isDoneBy_23 rfl (lv_at hl 0 rfl) ?_
          refine t_get C hV hT 29 (by decide) q1276 rfl dX4_isDoneBy_24 ?_
          refine lv_iload_n hx hb dX4_isDoneBy_27 rfl (lv_at hl 2 rfl) ?_
          refine lv_dup2_11 hx hb dX4_isDoneBy_28 rfl rfl ?_
          obtain ⟨hi, hf⟩ := ix_e hf
          refine g_ild C hV hT 14 _ rfl hi rfl dX4_isDoneBy_29 ?_
          refine lv_iconst (v := 1) hx hb dX4_isDoneBy_30 (by decide) ?_
          refine lv_iadd hx hb dX4_isDoneBy_31 ?_
          obtain ⟨hi, hf⟩ := ix_e hf
          refine t_ist C hV hT 14 _ rfl hi rfl (tast_29 d a t _ _) dX4_isDoneBy_32 (fun t_32 H locs et hT => ?_)
          have hf := lett_e et hf
          refine lv_aload_n hx hb dX4_isDoneBy_33 rfl (lv_at hl 0 rfl) ?_
          refine t_get C hV hT 29 (by decide) q1276 rfl dX4_isDoneBy_34 ?_
          refine lv_iload_n hx hb dX4_isDoneBy_37 rfl (lv_at hl 2 rfl) ?_
          obtain ⟨hi, hf⟩ := ix_e hf
          refine g_ild C hV hT 14 _ rfl hi rfl dX4_isDoneBy_38 ?_
          refine lv_iload_n hx hb dX4_isDoneBy_39 rfl (lv_at hl 1 rfl) ?_
          refine lv_icmp_lt (tgt := 49) hx hb dX4_isDoneBy_40 (by decide) (fun hc => ?_) (fun hc => ?_)
          · have hf := ite_t hc hf
            refine lv_aload_n hx hb dX4_isDoneBy_49 rfl (lv_at hl 0 rfl) ?_
            refine lv_iload_n hx hb dX4_isDoneBy_50 rfl (lv_at hl 2 rfl) ?_
            obtain ⟨w_51, h_51, hf⟩ := bind_e hf
            refine t_calli (vs := [.int x2]) (rest := []) C hV hT (fun sz => mX4_isFree l D d a N t_32 x2 _ h_51 sz) (cwV 1 C.2.2.2.2 (lw_V q1735 q1737 qs105 q129 q1738) rfl rfl rfl hdX4_isFree ⟨Nat.le_of_ble_eq_true rfl, Nat.le_of_ble_eq_true rfl⟩) rfl hl.1 rfl (Nat.le_of_ble_eq_true rfl) dX4_isDoneBy_51 (fun H locs hT => ?_)
            refine lv_if_eq (tgt := 9) hx hb dX4_isDoneBy_54 (by decide) (fun hc => ?_) (fun hc => ?_)
            · have hf := ite_t hc hf
              exact ih w_51.2 x1 x2 _ _ _ hT hl hf
            · have hf := ite_f hc hf
              obtain ⟨x2_57, ex⟩ : ∃ y : Int32, y = (x2 + (1 : Int32)) := ⟨_, rfl⟩
              have hf := lett_e ex hf
              refine lv_iinc (v := x2_57) (lv' := [(2, .int x2_57), (0, .ref (a 42)), (1, .int x1)]) hx hb dX4_isDoneBy_57 hl (k := 2) rfl (by rw [ex]; rfl) (by decide) rfl (fun ls hl => ?_)
              refine lv_aload_n hx hb dX4_isDoneBy_60 rfl (lv_at hl 1 rfl) ?_
              refine t_get C hV hT 29 (by decide) q1276 rfl dX4_isDoneBy_61 ?_
              refine lv_iload_n hx hb dX4_isDoneBy_64 rfl (lv_at hl 0 rfl) ?_
              refine lv_iconst (v := -1) hx hb dX4_isDoneBy_65 (by decide) ?_
              obtain ⟨hi, hf⟩ := ix_e hf
              refine t_ist C hV hT 14 _ rfl hi rfl (tast_29 d a w_51.2 _ _) dX4_isDoneBy_66 (fun t_66 H locs et hT => ?_)
              have hf := lett_e et hf
              refine lv_goto (tgt := 9) hx hb dX4_isDoneBy_67 (by decide) ?_
              exact ih t_66 x1 x2_57 _ _ _ hT (lv_sub hl [1, 2, 0] rfl) hf
          · have hf := ite_f hc hf
            obtain ⟨x2_43, ex⟩ : ∃ y : Int32, y = (x2 + (-1 : Int32)) := ⟨_, rfl⟩
            have hf := lett_e ex hf
            refine lv_iinc (v := x2_43) (lv' := [(2, .int x2_43), (0, .ref (a 42)), (1, .int x1)]) hx hb dX4_isDoneBy_43 hl (k := 2) rfl (by rw [ex]; rfl) (by decide) rfl (fun ls hl => ?_)
            refine lv_goto (tgt := 9) hx hb dX4_isDoneBy_46 (by decide) ?_
            exact ih t_32 x1 x2_43 _ _ _ hT (lv_sub hl [1, 2, 0] rfl) hf
  have hJ70 : ∀ (t : TS) (x2 : Int32) (H : Heap) (locs : List Loc) (ls : Array Slot), TH D (AT a s.heap.size) s.heap (wT d a t) H locs → lv_has ls 3 [(0, .ref (a 42)), (2, .int x2)] → fX4_isDoneBy_J70 N t x2 = some w → W p l e (rm_ 2 43) s m args below meth c H locs 0 0 (MQ below (QiT D d a w.1 w.2 s.heap.size) args s 0 0 (AT a s.heap.size)) (F0 m 70 ls []) := by
    intro t x2 H locs ls hT hl hf
    unfold fX4_isDoneBy_J70 at hf
    refine lv_iload_n hx hb dX4_isDoneBy_70 rfl (lv_at hl 1 rfl) ?_
    refine lv_aload_n hx hb dX4_isDoneBy_71 rfl (lv_at hl 0 rfl) ?_
    refine t_get C hV hT 20 (by decide) q1267 rfl dX4_isDoneBy_72 ?_
    refine lv_iconst (v := 3) hx hb dX4_isDoneBy_75 (by decide) ?_
    refine g_ild C hV hT 10 3 rfl (vin_of (by decide)) (by decide) dX4_isDoneBy_76 ?_
    refine lv_icmp_ne (tgt := 84) hx hb dX4_isDoneBy_77 (by decide) (fun hc => ?_) (fun hc => ?_)
    · have hf := ite_t hc hf
      refine lv_iconst (v := 0) hx hb dX4_isDoneBy_84 (by decide) ?_
      exact t_zret C hT hf (Or.inl rfl) hr hlocks dX4_isDoneBy_85
    · have hf := ite_f (fun q => q hc) hf
      refine lv_iconst (v := 1) hx hb dX4_isDoneBy_80 (by decide) ?_
      refine lv_goto (tgt := 85) hx hb dX4_isDoneBy_81 (by decide) ?_
      exact t_zret C hT hf (Or.inr rfl) hr hlocks dX4_isDoneBy_85
  refine W.eq (by rw [hargs]) (t_in (vs := [.ref (a 42), .int x1]) (n := 3) (Nat.le_of_ble_eq_true rfl) (fun ls hl => ?_))
  have hl : lv_has ls 3 [(0, .ref (a 42)), (1, .int x1)] := hl
  unfold fX4_isDoneBy at hf
  skip
  refine lv_iconst (v := 0) hx hb dX4_isDoneBy_0 (by decide) ?_
  refine lv_istore_n (lv' := [(2, .int (0 : Int32)), (0, .ref (a 42)), (1, .int x1)]) hx hb dX4_isDoneBy_1 rfl hl (by decide) rfl (fun ls hl => ?_)
  refine lv_aload_n hx hb dX4_isDoneBy_2 rfl (lv_at hl 1 rfl) ?_
  refine t_get C hV hT 29 (by decide) q1276 rfl dX4_isDoneBy_3 ?_
  refine lv_iconst (v := 0) hx hb dX4_isDoneBy_6 (by decide) ?_
  refine lv_iconst (v := -1) hx hb dX4_isDoneBy_7 (by decide) ?_
  refine t_ist C hV hT 14 0 rfl (vin_of (by decide)) (by decide) (tast_29 d a t _ _) dX4_isDoneBy_8 (fun t_8 H locs et hT => ?_)
  have hf := lett_e et hf
  refine hL9 _ (fun t x2 H locs ls hT hl hf => ?_) N t_8 x1 (0 : Int32) _ _ _ hT (lv_sub hl [1, 2, 0] rfl) hf
  exact hJ70 t x2 _ _ _ hT hl hf
def fX4_beats_B26 (N : Nat) (K : TS → Int32 → Int32 → Option (Int32 × TS)) (kb : TS → Int32 → Int32 → Option (Int32 × TS)) (t : TS) (x1 : Int32) (x2 : Int32) : Option (Int32 × TS) :=
  ((fX4_isDoneBy N t x2).bind fun w_28 => (if ¬ w_28.1 = 0 then (K w_28.2 x1 x2) else (lett (x2 + (1 : Int32)) fun x2_34 => (kb w_28.2 x1 x2_34))))
def fX4_beats_L26 (N : Nat) (K : TS → Int32 → Int32 → Option (Int32 × TS)) : Nat → TS → Int32 → Int32 → Option (Int32 × TS)
  | 0 => fun _ _ _ => none
  | n + 1 => fun t x1 x2 => fX4_beats_B26 N K (fX4_beats_L26 N K n) t x1 x2
def fX4_beats (N : Nat) (t : TS) (x1 : Int32) : Option (Int32 × TS) :=
  ((fX4_isJunction N t ).bind fun w_1 => (if w_1.1 = 0 then (some ((-3 : Int32), w_1.2)) else ((fX4_in N (x1).toInt64 (-1 : Int64) (5 : Int64)).bind fun w_15 => (if ¬ w_15 = 0 then (fX4_beats_L26 N (fun t x1 x2 => (if ¬ x1 = (-1 : Int32) then ((fX4_isRoad N t x1).bind fun w_51 => (if w_51.1 = 0 then (some ((-2 : Int32), w_51.2)) else (ix x1 7 (some ((w_51.2.2.1 29 (x1).toNatClampNeg), w_51.2))))) else (some (x2, t)))) N w_1.2 x1 (0 : Int32)) else (some ((-3 : Int32), w_1.2))))))
theorem hdX4_beats : yX4_beats.cls = RX4 ∧ yX4_beats.cls ≠ "java/lang/invoke/MethodHandle" ∧ yX4_beats.cls ≠ "java/lang/invoke/VarHandle" ∧ (parseMethodDescriptor yX4_beats.desc).map (fun d => d.parameters.length) = some 1 := by decide +kernel
set_option maxHeartbeats 4000000 in
theorem mX4_beats (l : Launch) (D : va_G) (d : Nat → ClassId) (a : Nat → Nat) (N : Nat) (t : TS) (x1 : Int32) (w : Int32 × TS) (hf : fX4_beats N t x1 = some w) (sz : Nat) : Met l yX4_beats (ws_ yX4_beats cX4_beats 3 (some .int)) (rm_ 3 65) (PcT D d a [.int x1] t sz) (QiT D d a w.1 w.2 sz) 0 0 (AT a sz) := by
  refine Met.ofW (cc := cX4_beats) (maxL := 3) (ret := (some .int)) plX4 rfl ?_
  intro p e s m args below meth c s₁ B hml hv
  obtain ⟨C, hV, hT, hr, hlocks, hargs, rfl⟩ := t_enter B hml rfl hv
  have hx := C.1
  have hb := C.2.1
  show W p l e (rm_ 3 65) s m args below meth c s.heap [] 0 0 (MQ below (QiT D d a w.1 w.2 s.heap.size) args s 0 0 (AT a s.heap.size)) _
  have hL26 : ∀ (K : TS → Int32 → Int32 → Option (Int32 × TS)), (∀ (t : TS) (x1 : Int32) (x2 : Int32) (H : Heap) (locs : List Loc) (ls : Array Slot), TH D (AT a s.heap.size) s.heap (wT d a t) H locs → lv_has ls 3 [(0, .ref (a 42)), (1, .int x1), (2, .int x2)] → K t x1 x2 = some w → W p l e (rm_ 3 65) s m args below meth c H locs 0 0 (MQ below (QiT D d a w.1 w.2 s.heap.size) args s 0 0 (AT a s.heap.size)) (F0 m 40 ls [])) → ∀ (n : Nat) (t : TS) (x1 : Int32) (x2 : Int32) (H : Heap) (locs : List Loc) (ls : Array Slot), TH D (AT a s.heap.size) s.heap (wT d a t) H locs → lv_has ls 3 [(0, .ref (a 42)), (1, .int x1), (2, .int x2)] → fX4_beats_L26 N K n t x1 x2 = some w → W p l e (rm_ 3 65) s m args below meth c H locs 0 0 (MQ below (QiT D d a w.1 w.2 s.heap.size) args s 0 0 (AT a s.heap.size)) (F0 m 26 ls []) := by
    intro K hE n
    induction n with
    | zero =>
      intro t x1 x2 H locs ls hT hl hf
      cases hf
    | succ n ih =>
      intro t x1 x2 H locs ls hT hl hf
      replace hf : fX4_beats_B26 N K (fX4_beats_L26 N K n) t x1 x2 = some w := hf
      unfold fX4_beats_B26 at hf
      refine lv_aload_n hx hb dX4_beats_26 rfl (lv_at hl 0 rfl) ?_
      refine lv_iload_n hx hb dX4_beats_27 rfl (lv_at hl 2 rfl) ?_
      obtain ⟨w_28, h_28, hf⟩ := bind_e hf
      refine t_calli (vs := [.int x2]) (rest := []) C hV hT (fun sz => mX4_isDoneBy l D d a N t x2 _ h_28 sz) (cwV 1 C.2.2.2.2 (lw_V q1731 q1733 qs104 q129 q1734) rfl rfl rfl hdX4_isDoneBy ⟨Nat.le_of_ble_eq_true rfl, Nat.le_of_ble_eq_true rfl⟩) rfl hl.1 rfl (Nat.le_of_ble_eq_true rfl) dX4_beats_28 (fun H locs hT => ?_)
      refine lv_if_ne (tgt := 40) hx hb dX4_beats_31 (by decide) (fun hc => ?_) (fun hc => ?_)
      · have hf := ite_t hc hf
        exact hE w_28.2 x1 x2 _ _ _ hT hl hf
      · have hf := ite_f (fun q => q hc) hf
        obtain ⟨x2_34, ex⟩ : ∃ y : Int32, y = (x2 + (1 : Int32)) := ⟨_, rfl⟩
        have hf := lett_e ex hf
        refine lv_iinc (v := x2_34) (lv' := [(2, .int x2_34), (0, .ref (a 42)), (1, .int x1)]) hx hb dX4_beats_34 hl (k := 2) rfl (by rw [ex]; rfl) (by decide) rfl (fun ls hl => ?_)
        refine lv_goto (tgt := 26) hx hb dX4_beats_37 (by decide) ?_
        exact ih w_28.2 x1 x2_34 _ _ _ hT (lv_sub hl [1, 2, 0] rfl) hf
  refine W.eq (by rw [hargs]) (t_in (vs := [.ref (a 42), .int x1]) (n := 3) (Nat.le_of_ble_eq_true rfl) (fun ls hl => ?_))
  have hl : lv_has ls 3 [(0, .ref (a 42)), (1, .int x1)] := hl
  unfold fX4_beats at hf
  skip
  refine lv_aload_n hx hb dX4_beats_0 rfl (lv_at hl 0 rfl) ?_
  obtain ⟨w_1, h_1, hf⟩ := bind_e hf
  refine t_calli (vs := []) (rest := []) C hV hT (fun sz => mX4_isJunction l D d a N t  _ h_1 sz) (cwV 0 C.2.2.2.2 (lw_V q1593 q1595 qs85 q129 q1596) rfl rfl rfl hdX4_isJunction ⟨Nat.le_of_ble_eq_true rfl, Nat.le_of_ble_eq_true rfl⟩) rfl hl.1 rfl (Nat.le_of_ble_eq_true rfl) dX4_beats_1 (fun H locs hT => ?_)
  refine lv_if_eq (tgt := 21) hx hb dX4_beats_4 (by decide) (fun hc => ?_) (fun hc => ?_)
  · have hf := ite_t hc hf
    refine lv_bipush (v := -3) hx hb dX4_beats_21 (by decide) ?_
    exact t_iret C hT hf hr hlocks dX4_beats_23
  · have hf := ite_f hc hf
    refine lv_iload_n hx hb dX4_beats_7 rfl (lv_at hl 1 rfl) ?_
    refine lv_i2l hx hb dX4_beats_8 rfl ?_
    refine g_ldc2 (v := -1) C q1729 dX4_beats_9 ?_
    refine g_ldc2 (v := 5) C q1730 dX4_beats_12 ?_
    obtain ⟨w_15, h_15, hf⟩ := bind_e hf
    refine s_calli (vs := [.long (x1).toInt64, .long (-1 : Int64), .long (5 : Int64)]) (rest := []) C (fun q h => Or.inr h) hT (fun sz => mX4_in l N (x1).toInt64 (-1 : Int64) (5 : Int64) _ h_15 sz) (va_cwS 3 C.2.2.2.2 (lw_S q1448 q1449 q129 q1450) rfl rfl rfl hdX4_in ⟨Nat.le_of_ble_eq_true rfl, Nat.le_of_ble_eq_true rfl⟩) rfl hl.1 rfl (Nat.le_of_ble_eq_true rfl) dX4_beats_15 ⟨Nat.zero_le _, Nat.zero_le _⟩ (fun H locs hT => ?_)
    refine lv_if_ne (tgt := 24) hx hb dX4_beats_18 (by decide) (fun hc => ?_) (fun hc => ?_)
    · have hf := ite_t hc hf
      refine lv_iconst (v := 0) hx hb dX4_beats_24 (by decide) ?_
      refine lv_istore_n (lv' := [(2, .int (0 : Int32)), (0, .ref (a 42)), (1, .int x1)]) hx hb dX4_beats_25 rfl hl (by decide) rfl (fun ls hl => ?_)
      refine hL26 _ (fun t x1 x2 H locs ls hT hl hf => ?_) N w_1.2 x1 (0 : Int32) _ _ _ hT (lv_sub hl [1, 2, 0] rfl) hf
      refine lv_iload_n hx hb dX4_beats_40 rfl (lv_at hl 1 rfl) ?_
      refine lv_iconst (v := -1) hx hb dX4_beats_41 (by decide) ?_
      refine lv_icmp_ne (tgt := 49) hx hb dX4_beats_42 (by decide) (fun hc => ?_) (fun hc => ?_)
      · have hf := ite_t hc hf
        refine lv_aload_n hx hb dX4_beats_49 rfl (lv_at hl 0 rfl) ?_
        refine lv_iload_n hx hb dX4_beats_50 rfl (lv_at hl 1 rfl) ?_
        obtain ⟨w_51, h_51, hf⟩ := bind_e hf
        refine t_calli (vs := [.int x1]) (rest := []) C hV hT (fun sz => mX4_isRoad l D d a N t x1 _ h_51 sz) (cwV 1 C.2.2.2.2 (lw_V q1561 q1563 qs78 q129 q1564) rfl rfl rfl hdX4_isRoad ⟨Nat.le_of_ble_eq_true rfl, Nat.le_of_ble_eq_true rfl⟩) rfl hl.1 rfl (Nat.le_of_ble_eq_true rfl) dX4_beats_51 (fun H locs hT => ?_)
        refine lv_if_eq (tgt := 66) hx hb dX4_beats_54 (by decide) (fun hc => ?_) (fun hc => ?_)
        · have hf := ite_t hc hf
          refine lv_bipush (v := -2) hx hb dX4_beats_66 (by decide) ?_
          exact t_iret C hT hf hr hlocks dX4_beats_68
        · have hf := ite_f hc hf
          refine lv_aload_n hx hb dX4_beats_57 rfl (lv_at hl 0 rfl) ?_
          refine t_get C hV hT 29 (by decide) q1276 rfl dX4_beats_58 ?_
          refine lv_iload_n hx hb dX4_beats_61 rfl (lv_at hl 1 rfl) ?_
          obtain ⟨hi, hf⟩ := ix_e hf
          refine g_ild C hV hT 14 _ rfl hi rfl dX4_beats_62 ?_
          refine lv_goto (tgt := 68) hx hb dX4_beats_63 (by decide) ?_
          exact t_iret C hT hf hr hlocks dX4_beats_68
      · have hf := ite_f (fun q => q hc) hf
        refine lv_iload_n hx hb dX4_beats_45 rfl (lv_at hl 2 rfl) ?_
        refine lv_goto (tgt := 68) hx hb dX4_beats_46 (by decide) ?_
        exact t_iret C hT hf hr hlocks dX4_beats_68
    · have hf := ite_f (fun q => q hc) hf
      refine lv_bipush (v := -3) hx hb dX4_beats_21 (by decide) ?_
      exact t_iret C hT hf hr hlocks dX4_beats_23
def fX4_waitedBy (N : Nat) (t : TS) (x1 : Int32) : Option (Int32 × TS) :=
  ((fX4_passesAll N t x1).bind fun w_2 => ((fX4_sumOver N w_2 (3 : Int32)).bind fun w_7 => ((fX4_laysBack N w_7.2 ).bind fun w_12 => (some (w_7.1, w_12)))))
theorem hdX4_waitedBy : yX4_waitedBy.cls = RX4 ∧ yX4_waitedBy.cls ≠ "java/lang/invoke/MethodHandle" ∧ yX4_waitedBy.cls ≠ "java/lang/invoke/VarHandle" ∧ (parseMethodDescriptor yX4_waitedBy.desc).map (fun d => d.parameters.length) = some 1 := by decide +kernel
set_option maxHeartbeats 4000000 in
theorem mX4_waitedBy (l : Launch) (D : va_G) (d : Nat → ClassId) (a : Nat → Nat) (N : Nat) (t : TS) (x1 : Int32) (w : Int32 × TS) (hf : fX4_waitedBy N t x1 = some w) (sz : Nat) : Met l yX4_waitedBy (ws_ yX4_waitedBy cX4_waitedBy 3 (some .int)) (rm_ 7 167) (PcT D d a [.int x1] t sz) (QiT D d a w.1 w.2 sz) 0 0 (AT a sz) := by
  refine Met.ofW (cc := cX4_waitedBy) (maxL := 3) (ret := (some .int)) plX4 rfl ?_
  intro p e s m args below meth c s₁ B hml hv
  obtain ⟨C, hV, hT, hr, hlocks, hargs, rfl⟩ := t_enter B hml rfl hv
  have hx := C.1
  have hb := C.2.1
  show W p l e (rm_ 7 167) s m args below meth c s.heap [] 0 0 (MQ below (QiT D d a w.1 w.2 s.heap.size) args s 0 0 (AT a s.heap.size)) _
  refine W.eq (by rw [hargs]) (t_in (vs := [.ref (a 42), .int x1]) (n := 3) (Nat.le_of_ble_eq_true rfl) (fun ls hl => ?_))
  have hl : lv_has ls 3 [(0, .ref (a 42)), (1, .int x1)] := hl
  unfold fX4_waitedBy at hf
  skip
  refine lv_aload_n hx hb dX4_waitedBy_0 rfl (lv_at hl 0 rfl) ?_
  refine lv_iload_n hx hb dX4_waitedBy_1 rfl (lv_at hl 1 rfl) ?_
  obtain ⟨w_2, h_2, hf⟩ := bind_e hf
  refine t_callv (vs := [.int x1]) (rest := []) C hV hT (fun sz => mX4_passesAll l D d a N t x1 _ h_2 sz) (cwV 1 C.2.2.2.2 (lw_V q1705 q1707 qs101 q129 q1708) rfl rfl rfl hdX4_passesAll ⟨Nat.le_of_ble_eq_true rfl, Nat.le_of_ble_eq_true rfl⟩) rfl hl.1 rfl (Nat.le_of_ble_eq_true rfl) dX4_waitedBy_2 (fun H locs hT => ?_)
  refine lv_aload_n hx hb dX4_waitedBy_5 rfl (lv_at hl 0 rfl) ?_
  refine lv_iconst (v := 3) hx hb dX4_waitedBy_6 (by decide) ?_
  obtain ⟨w_7, h_7, hf⟩ := bind_e hf
  refine t_calli (vs := [.int (3 : Int32)]) (rest := []) C hV hT (fun sz => mX4_sumOver l D d a N w_2 (3 : Int32) _ h_7 sz) (cwV 1 C.2.2.2.2 (lw_V q1642 q1644 qs93 q129 q1645) rfl rfl rfl hdX4_sumOver ⟨Nat.le_of_ble_eq_true rfl, Nat.le_of_ble_eq_true rfl⟩) rfl hl.1 rfl (Nat.le_of_ble_eq_true rfl) dX4_waitedBy_7 (fun H locs hT => ?_)
  refine lv_istore_n (lv' := [(2, .int w_7.1), (0, .ref (a 42)), (1, .int x1)]) hx hb dX4_waitedBy_10 rfl hl (by decide) rfl (fun ls hl => ?_)
  refine lv_aload_n hx hb dX4_waitedBy_11 rfl (lv_at hl 1 rfl) ?_
  obtain ⟨w_12, h_12, hf⟩ := bind_e hf
  refine t_callv (vs := []) (rest := []) C hV hT (fun sz => mX4_laysBack l D d a N w_7.2  _ h_12 sz) (cwV 0 C.2.2.2.2 (lw_V q1709 q1711 qs102 q129 q1712) rfl rfl rfl hdX4_laysBack ⟨Nat.le_of_ble_eq_true rfl, Nat.le_of_ble_eq_true rfl⟩) rfl hl.1 rfl (Nat.le_of_ble_eq_true rfl) dX4_waitedBy_12 (fun H locs hT => ?_)
  refine lv_iload_n hx hb dX4_waitedBy_15 rfl (lv_at hl 0 rfl) ?_
  exact t_iret C hT hf hr hlocks dX4_waitedBy_16
def fX4_bestScore_B68 (N : Nat) (K : TS → Int32 → Int32 → Int32 → Int32 → Int32 → Int32 → Option (Int32 × TS)) (kb : TS → Int32 → Int32 → Int32 → Int32 → Int32 → Int32 → Int32 → Option (Int32 × TS)) (t : TS) (x1 : Int32) (x2 : Int32) (x3 : Int32) (x4 : Int32) (x5 : Int32) (x6 : Int32) (x7 : Int32) : Option (Int32 × TS) :=
  (if (t.2.1 20 3) ≤ x7 then (K t x1 x2 x3 x4 x5 x6) else (ix ((41 : Int32) + x6) 121 (ix ((41 : Int32) + x6) 121 (lett (tsA t 20 (((41 : Int32) + x6)).toNatClampNeg ((t.2.1 20 (((41 : Int32) + x6)).toNatClampNeg) ^^^ ((1 : Int32) <<< (x7 &&& 31)))) fun t_95 => ((fX4_waitedBy N t_95 x1).bind fun w_98 => (if w_98.1 < x5 then (lett (x7 + (1 : Int32)) fun x7_124 => (kb w_98.2 x1 x2 x6 x7 w_98.1 x6 x7_124)) else (lett (x7 + (1 : Int32)) fun x7_124 => (kb w_98.2 x1 x2 x3 x4 x5 x6 x7_124))))))))
def fX4_bestScore_L68 (N : Nat) (K : TS → Int32 → Int32 → Int32 → Int32 → Int32 → Int32 → Option (Int32 × TS)) : Nat → TS → Int32 → Int32 → Int32 → Int32 → Int32 → Int32 → Int32 → Option (Int32 × TS)
  | 0 => fun _ _ _ _ _ _ _ _ => none
  | n + 1 => fun t x1 x2 x3 x4 x5 x6 x7 => fX4_bestScore_B68 N K (fX4_bestScore_L68 N K n) t x1 x2 x3 x4 x5 x6 x7
def fX4_bestScore_B54 (N : Nat) (K : TS → Int32 → Int32 → Int32 → Int32 → Option (Int32 × TS)) (kb : TS → Int32 → Int32 → Int32 → Int32 → Int32 → Int32 → Option (Int32 × TS)) (t : TS) (x1 : Int32) (x2 : Int32) (x3 : Int32) (x4 : Int32) (x5 : Int32) (x6 : Int32) : Option (Int32 × TS) :=
  (if (t.2.1 20 1) ≤ x6 then (K t x2 x3 x4 x5) else (fX4_bestScore_L68 N (fun t x1 x2 x3 x4 x5 x6 => (lett (x6 + (1 : Int32)) fun x6_130 => (kb t x1 x2 x3 x4 x5 x6_130))) N t x1 x2 x3 x4 x5 x6 (0 : Int32)))
def fX4_bestScore_L54 (N : Nat) (K : TS → Int32 → Int32 → Int32 → Int32 → Option (Int32 × TS)) : Nat → TS → Int32 → Int32 → Int32 → Int32 → Int32 → Int32 → Option (Int32 × TS)
  | 0 => fun _ _ _ _ _ _ _ => none
  | n + 1 => fun t x1 x2 x3 x4 x5 x6 => fX4_bestScore_B54 N K (fX4_bestScore_L54 N K n) t x1 x2 x3 x4 x5 x6
def fX4_bestScore (N : Nat) (t : TS) (x1 : Int32) (x2 : Int32) : Option (Int32 × TS) :=
  ((fX4_isJunction N t ).bind fun w_1 => (if w_1.1 = 0 then (some ((-1 : Int32), w_1.2)) else ((fX4_in N (x1).toInt64 (1 : Int64) (30 : Int64)).bind fun w_13 => (if w_13 = 0 then (some ((-1 : Int32), w_1.2)) else ((fX4_in N (x2).toInt64 (0 : Int64) (2 : Int64)).bind fun w_25 => (if ¬ w_25 = 0 then ((fX4_keeps N w_1.2 ).bind fun w_34 => ((fX4_waitedBy N w_34 x1).bind fun w_46 => (fX4_bestScore_L54 N (fun t x2 x3 x4 x5 => (if ¬ x2 = 0 then (if ¬ x2 = (1 : Int32) then (some (x4, t)) else (some (x3, t))) else (some (x5, t)))) N w_46.2 x1 x2 (-2 : Int32) (-2 : Int32) w_46.1 (0 : Int32)))) else (some ((-1 : Int32), w_1.2))))))))
theorem hdX4_bestScore : yX4_bestScore.cls = RX4 ∧ yX4_bestScore.cls ≠ "java/lang/invoke/MethodHandle" ∧ yX4_bestScore.cls ≠ "java/lang/invoke/VarHandle" ∧ (parseMethodDescriptor yX4_bestScore.desc).map (fun d => d.parameters.length) = some 2 := by decide +kernel
set_option maxHeartbeats 4000000 in
theorem mX4_bestScore (l : Launch) (D : va_G) (d : Nat → ClassId) (a : Nat → Nat) (N : Nat) (t : TS) (x1 : Int32) (x2 : Int32) (w : Int32 × TS) (hf : fX4_bestScore N t x1 x2 = some w) (sz : Nat) : Met l yX4_bestScore (ws_ yX4_bestScore cX4_bestScore 9 (some .int)) (rm_ 8 189) (PcT D d a [.int x1, .int x2] t sz) (QiT D d a w.1 w.2 sz) 0 0 (AT a sz) := by
  refine Met.ofW (cc := cX4_bestScore) (maxL := 9) (ret := (some .int)) plX4 rfl ?_
  intro p e s m args below meth c s₁ B hml hv
  obtain ⟨C, hV, hT, hr, hlocks, hargs, rfl⟩ := t_enter B hml rfl hv
  have hx := C.1
  have hb := C.2.1
  show W p l e (rm_ 8 189) s m args below meth c s.heap [] 0 0 (MQ below (QiT D d a w.1 w.2 s.heap.size) args s 0 0 (AT a s.heap.size)) _
  have hL54 : ∀ (K : TS → Int32 → Int32 → Int32 → Int32 → Option (Int32 × TS)), (∀ (t : TS) (x2 : Int32) (x3 : Int32) (x4 : Int32) (x5 : Int32) (H : Heap) (locs : List Loc) (ls : Array Slot), TH D (AT a s.heap.size) s.heap (wT d a t) H locs → lv_has ls 9 [(2, .int x2), (3, .int x3), (4, .int x4), (5, .int x5)] → K t x2 x3 x4 x5 = some w → W p l e (rm_ 8 189) s m args below meth c H locs 0 0 (MQ below (QiT D d a w.1 w.2 s.heap.size) args s 0 0 (AT a s.heap.size)) (F0 m 136 ls [])) → ∀ (n : Nat) (t : TS) (x1 : Int32) (x2 : Int32) (x3 : Int32) (x4 : Int32) (x5 : Int32) (x6 : Int32) (H : Heap) (locs : List Loc) (ls : Array Slot), TH D (AT a s.heap.size) s.heap (wT d a t) H locs → lv_has ls 9 [(0, .ref (a 42)), (1, .int x1), (2, .int x2), (3, .int x3), (4, .int x4), (5, .int x5), (6, .int x6)] → fX4_bestScore_L54 N K n t x1 x2 x3 x4 x5 x6 = some w → W p l e (rm_ 8 189) s m args below meth c H locs 0 0 (MQ below (QiT D d a w.1 w.2 s.heap.size) args s 0 0 (AT a s.heap.size)) (F0 m 54 ls []) := by
    intro K hE n
    induction n with
    | zero =>
      intro t x1 x2 x3 x4 x5 x6 H locs ls hT hl hf
      cases hf
    | succ n ih =>
      have hL68 : ∀ (K : TS → Int32 → Int32 → Int32 → Int32 → Int32 → Int32 → Option (Int32 × TS)), (∀ (t : TS) (x1 : Int32) (x2 : Int32) (x3 : Int32) (x4 : Int32) (x5 : Int32) (x6 : Int32) (H : Heap) (locs : List Loc) (ls : Array Slot), TH D (AT a s.heap.size) s.heap (wT d a t) H locs → lv_has ls 9 [(0, .ref (a 42)), (1, .int x1), (2, .int x2), (3, .int x3), (4, .int x4), (5, .int x5), (6, .int x6)] → K t x1 x2 x3 x4 x5 x6 = some w → W p l e (rm_ 8 189) s m args below meth c H locs 0 0 (MQ below (QiT D d a w.1 w.2 s.heap.size) args s 0 0 (AT a s.heap.size)) (F0 m 130 ls [])) → ∀ (n : Nat) (t : TS) (x1 : Int32) (x2 : Int32) (x3 : Int32) (x4 : Int32) (x5 : Int32) (x6 : Int32) (x7 : Int32) (H : Heap) (locs : List Loc) (ls : Array Slot), TH D (AT a s.heap.size) s.heap (wT d a t) H locs → lv_has ls 9 [(0, .ref (a 42)), (1, .int x1), (2, .int x2), (3, .int x3), (4, .int x4), (5, .int x5), (6, .int x6), (7, .int x7)] → fX4_bestScore_L68 N K n t x1 x2 x3 x4 x5 x6 x7 = some w → W p l e (rm_ 8 189) s m args below meth c H locs 0 0 (MQ below (QiT D d a w.1 w.2 s.heap.size) args s 0 0 (AT a s.heap.size)) (F0 m 68 ls []) := by
        intro K hE n
        induction n with
        | zero =>
          intro t x1 x2 x3 x4 x5 x6 x7 H locs ls hT hl hf
          cases hf
        | succ n ih =>
          intro t x1 x2 x3 x4 x5 x6 x7 H locs ls hT hl hf
          replace hf : fX4_bestScore_B68 N K (fX4_bestScore_L68 N K n) t x1 x2 x3 x4 x5 x6 x7 = some w := hf
          unfold fX4_bestScore_B68 at hf
          refine lv_iload hx hb dX4_bestScore_68 (lv_at hl 7 rfl) ?_
          refine lv_aload_n hx hb dX4_bestScore_70 rfl (lv_at hl 0 rfl) ?_
          refine t_get C hV hT 20 (by decide) q1267 rfl dX4_bestScore_71 ?_
          refine lv_iconst (v := 3) hx hb dX4_bestScore_74 (by decide) ?_
          refine g_ild C hV hT 10 3 rfl (vin_of (by decide)) (by decide) dX4_bestScore_75 ?_
          refine lv_icmp_ge (tgt := 130) hx hb dX4_bestScore_76 (by decide) (fun hc => ?_) (fun hc => ?_)
          · have hf := ite_t hc hf
            exact hE t x1 x2 x3 x4 x5 x6 _ _ _ hT (lv_sub hl [0, 1, 2, 3, 4, 5, 6] rfl) hf
          · have hf := ite_f hc hf
            refine lv_aload_n hx hb dX4_bestScore_79 rfl (lv_at hl 0 rfl) ?_
            refine t_get C hV hT 20 (by decide) q1267 rfl dX4_bestScore_80 ?_
            refine lv_bipush (v := 41) hx hb dX4_bestScore_83 (by decide) ?_
            refine lv_iload hx hb dX4_bestScore_85 (lv_at hl 6 rfl) ?_
            refine lv_iadd hx hb dX4_bestScore_87 ?_
            refine lv_dup2_11 hx hb dX4_bestScore_88 rfl rfl ?_
            obtain ⟨hi, hf⟩ := ix_e hf
            refine g_ild C hV hT 10 _ rfl hi rfl dX4_bestScore_89 ?_
            refine lv_iconst (v := 1) hx hb dX4_bestScore_90 (by decide) ?_
            refine lv_iload hx hb dX4_bestScore_91 (lv_at hl 7 rfl) ?_
            refine lv_ishl hx hb dX4_bestScore_93 ?_
            refine lv_ixor hx hb dX4_bestScore_94 ?_
            obtain ⟨hi, hf⟩ := ix_e hf
            refine t_ist C hV hT 10 _ rfl hi rfl (tast_20 d a t _ _) dX4_bestScore_95 (fun t_95 H locs et hT => ?_)
            have hf := lett_e et hf
            refine lv_aload_n hx hb dX4_bestScore_96 rfl (lv_at hl 0 rfl) ?_
            refine lv_iload_n hx hb dX4_bestScore_97 rfl (lv_at hl 1 rfl) ?_
            obtain ⟨w_98, h_98, hf⟩ := bind_e hf
            refine t_calli (vs := [.int x1]) (rest := []) C hV hT (fun sz => mX4_waitedBy l D d a N t_95 x1 _ h_98 sz) (cwV 1 C.2.2.2.2 (lw_V q1744 q1746 qs106 q129 q1747) rfl rfl rfl hdX4_waitedBy ⟨Nat.le_of_ble_eq_true rfl, Nat.le_of_ble_eq_true rfl⟩) rfl hl.1 rfl (Nat.le_of_ble_eq_true rfl) dX4_bestScore_98 (fun H locs hT => ?_)
            refine lv_istore (lv' := [(8, .int w_98.1), (0, .ref (a 42)), (1, .int x1), (2, .int x2), (3, .int x3), (4, .int x4), (5, .int x5), (6, .int x6), (7, .int x7)]) hx hb dX4_bestScore_101 hl (by decide) rfl (fun ls hl => ?_)
            refine lv_iload hx hb dX4_bestScore_103 (lv_at hl 0 rfl) ?_
            refine lv_iload hx hb dX4_bestScore_105 (lv_at hl 6 rfl) ?_
            refine lv_icmp_lt (tgt := 113) hx hb dX4_bestScore_107 (by decide) (fun hc => ?_) (fun hc => ?_)
            · have hf := ite_t hc hf
              refine lv_iload hx hb dX4_bestScore_113 (lv_at hl 7 rfl) ?_
              refine lv_istore_n (lv' := [(3, .int x6), (8, .int w_98.1), (0, .ref (a 42)), (1, .int x1), (2, .int x2), (4, .int x4), (5, .int x5), (6, .int x6), (7, .int x7)]) hx hb dX4_bestScore_115 rfl hl (by decide) rfl (fun ls hl => ?_)
              refine lv_iload hx hb dX4_bestScore_116 (lv_at hl 8 rfl) ?_
              refine lv_istore (lv' := [(4, .int x7), (3, .int x6), (8, .int w_98.1), (0, .ref (a 42)), (1, .int x1), (2, .int x2), (5, .int x5), (6, .int x6), (7, .int x7)]) hx hb dX4_bestScore_118 hl (by decide) rfl (fun ls hl => ?_)
              refine lv_iload hx hb dX4_bestScore_120 (lv_at hl 2 rfl) ?_
              refine lv_istore (lv' := [(5, .int w_98.1), (4, .int x7), (3, .int x6), (8, .int w_98.1), (0, .ref (a 42)), (1, .int x1), (2, .int x2), (6, .int x6), (7, .int x7)]) hx hb dX4_bestScore_122 hl (by decide) rfl (fun ls hl => ?_)
              obtain ⟨x7_124, ex⟩ : ∃ y : Int32, y = (x7 + (1 : Int32)) := ⟨_, rfl⟩
              have hf := lett_e ex hf
              refine lv_iinc (v := x7_124) (lv' := [(7, .int x7_124), (5, .int w_98.1), (4, .int x7), (3, .int x6), (8, .int w_98.1), (0, .ref (a 42)), (1, .int x1), (2, .int x2), (6, .int x6)]) hx hb dX4_bestScore_124 hl (k := 8) rfl (by rw [ex]; rfl) (by decide) rfl (fun ls hl => ?_)
              refine lv_goto (tgt := 68) hx hb dX4_bestScore_127 (by decide) ?_
              exact ih w_98.2 x1 x2 x6 x7 w_98.1 x6 x7_124 _ _ _ hT (lv_sub hl [5, 6, 7, 3, 2, 1, 8, 0] rfl) hf
            · have hf := ite_f hc hf
              refine lv_goto (tgt := 124) hx hb dX4_bestScore_110 (by decide) ?_
              obtain ⟨x7_124, ex⟩ : ∃ y : Int32, y = (x7 + (1 : Int32)) := ⟨_, rfl⟩
              have hf := lett_e ex hf
              refine lv_iinc (v := x7_124) (lv' := [(7, .int x7_124), (8, .int w_98.1), (0, .ref (a 42)), (1, .int x1), (2, .int x2), (3, .int x3), (4, .int x4), (5, .int x5), (6, .int x6)]) hx hb dX4_bestScore_124 hl (k := 8) rfl (by rw [ex]; rfl) (by decide) rfl (fun ls hl => ?_)
              refine lv_goto (tgt := 68) hx hb dX4_bestScore_127 (by decide) ?_
              exact ih w_98.2 x1 x2 x3 x4 x5 x6 x7_124 _ _ _ hT (lv_sub hl [2, 3, 4, 5, 6, 7, 8, 0] rfl) hf
      intro t x1 x2 x3 x4 x5 x6 H locs ls hT hl hf
      replace hf : fX4_bestScore_B54 N K (fX4_bestScore_L54 N K n) t x1 x2 x3 x4 x5 x6 = some w := hf
      unfold fX4_bestScore_B54 at hf
      refine lv_iload hx hb dX4_bestScore_54 (lv_at hl 6 rfl) ?_
      refine lv_aload_n hx hb dX4_bestScore_56 rfl (lv_at hl 0 rfl) ?_
      refine t_get C hV hT 20 (by decide) q1267 rfl dX4_bestScore_57 ?_
      refine lv_iconst (v := 1) hx hb dX4_bestScore_60 (by decide) ?_
      refine g_ild C hV hT 10 1 rfl (vin_of (by decide)) (by decide) dX4_bestScore_61 ?_
      refine lv_icmp_ge (tgt := 136) hx hb dX4_bestScore_62 (by decide) (fun hc => ?_) (fun hc => ?_)
      · have hf := ite_t hc hf
        exact hE t x2 x3 x4 x5 _ _ _ hT (lv_sub hl [2, 3, 4, 5] rfl) hf
      · have hf := ite_f hc hf
        refine lv_iconst (v := 0) hx hb dX4_bestScore_65 (by decide) ?_
        refine lv_istore (lv' := [(7, .int (0 : Int32)), (0, .ref (a 42)), (1, .int x1), (2, .int x2), (3, .int x3), (4, .int x4), (5, .int x5), (6, .int x6)]) hx hb dX4_bestScore_66 hl (by decide) rfl (fun ls hl => ?_)
        refine hL68 _ (fun t x1 x2 x3 x4 x5 x6 H locs ls hT hl hf => ?_) N t x1 x2 x3 x4 x5 x6 (0 : Int32) _ _ _ hT (lv_sub hl [1, 2, 3, 4, 5, 6, 7, 0] rfl) hf
        obtain ⟨x6_130, ex⟩ : ∃ y : Int32, y = (x6 + (1 : Int32)) := ⟨_, rfl⟩
        have hf := lett_e ex hf
        refine lv_iinc (v := x6_130) (lv' := [(6, .int x6_130), (0, .ref (a 42)), (1, .int x1), (2, .int x2), (3, .int x3), (4, .int x4), (5, .int x5)]) hx hb dX4_bestScore_130 hl (k := 6) rfl (by rw [ex]; rfl) (by decide) rfl (fun ls hl => ?_)
        refine lv_goto (tgt := 54) hx hb dX4_bestScore_133 (by decide) ?_
        exact ih t x1 x2 x3 x4 x5 x6_130 _ _ _ hT (lv_sub hl [1, 2, 3, 4, 5, 6, 0] rfl) hf
  refine W.eq (by rw [hargs]) (t_in (vs := [.ref (a 42), .int x1, .int x2]) (n := 9) (Nat.le_of_ble_eq_true rfl) (fun ls hl => ?_))
  have hl : lv_has ls 9 [(0, .ref (a 42)), (1, .int x1), (2, .int x2)] := hl
  unfold fX4_bestScore at hf
  skip
  refine lv_aload_n hx hb dX4_bestScore_0 rfl (lv_at hl 0 rfl) ?_
  obtain ⟨w_1, h_1, hf⟩ := bind_e hf
  refine t_calli (vs := []) (rest := []) C hV hT (fun sz => mX4_isJunction l D d a N t  _ h_1 sz) (cwV 0 C.2.2.2.2 (lw_V q1593 q1595 qs85 q129 q1596) rfl rfl rfl hdX4_isJunction ⟨Nat.le_of_ble_eq_true rfl, Nat.le_of_ble_eq_true rfl⟩) rfl hl.1 rfl (Nat.le_of_ble_eq_true rfl) dX4_bestScore_1 (fun H locs hT => ?_)
  refine lv_if_eq (tgt := 31) hx hb dX4_bestScore_4 (by decide) (fun hc => ?_) (fun hc => ?_)
  · have hf := ite_t hc hf
    refine lv_iconst (v := -1) hx hb dX4_bestScore_31 (by decide) ?_
    exact t_iret C hT hf hr hlocks dX4_bestScore_32
  · have hf := ite_f hc hf
    refine lv_iload_n hx hb dX4_bestScore_7 rfl (lv_at hl 1 rfl) ?_
    refine lv_i2l hx hb dX4_bestScore_8 rfl ?_
    refine lv_lconst (v := 1) hx hb dX4_bestScore_9 (by decide) ?_
    refine g_ldc2 (v := 30) C q1743 dX4_bestScore_10 ?_
    obtain ⟨w_13, h_13, hf⟩ := bind_e hf
    refine s_calli (vs := [.long (x1).toInt64, .long (1 : Int64), .long (30 : Int64)]) (rest := []) C (fun q h => Or.inr h) hT (fun sz => mX4_in l N (x1).toInt64 (1 : Int64) (30 : Int64) _ h_13 sz) (va_cwS 3 C.2.2.2.2 (lw_S q1448 q1449 q129 q1450) rfl rfl rfl hdX4_in ⟨Nat.le_of_ble_eq_true rfl, Nat.le_of_ble_eq_true rfl⟩) rfl hl.1 rfl (Nat.le_of_ble_eq_true rfl) dX4_bestScore_13 ⟨Nat.zero_le _, Nat.zero_le _⟩ (fun H locs hT => ?_)
    refine lv_if_eq (tgt := 31) hx hb dX4_bestScore_16 (by decide) (fun hc => ?_) (fun hc => ?_)
    · have hf := ite_t hc hf
      refine lv_iconst (v := -1) hx hb dX4_bestScore_31 (by decide) ?_
      exact t_iret C hT hf hr hlocks dX4_bestScore_32
    · have hf := ite_f hc hf
      refine lv_iload_n hx hb dX4_bestScore_19 rfl (lv_at hl 2 rfl) ?_
      refine lv_i2l hx hb dX4_bestScore_20 rfl ?_
      refine lv_lconst (v := 0) hx hb dX4_bestScore_21 (by decide) ?_
      refine g_ldc2 (v := 2) C q1700 dX4_bestScore_22 ?_
      obtain ⟨w_25, h_25, hf⟩ := bind_e hf
      refine s_calli (vs := [.long (x2).toInt64, .long (0 : Int64), .long (2 : Int64)]) (rest := []) C (fun q h => Or.inr h) hT (fun sz => mX4_in l N (x2).toInt64 (0 : Int64) (2 : Int64) _ h_25 sz) (va_cwS 3 C.2.2.2.2 (lw_S q1448 q1449 q129 q1450) rfl rfl rfl hdX4_in ⟨Nat.le_of_ble_eq_true rfl, Nat.le_of_ble_eq_true rfl⟩) rfl hl.1 rfl (Nat.le_of_ble_eq_true rfl) dX4_bestScore_25 ⟨Nat.zero_le _, Nat.zero_le _⟩ (fun H locs hT => ?_)
      refine lv_if_ne (tgt := 33) hx hb dX4_bestScore_28 (by decide) (fun hc => ?_) (fun hc => ?_)
      · have hf := ite_t hc hf
        refine lv_aload_n hx hb dX4_bestScore_33 rfl (lv_at hl 0 rfl) ?_
        obtain ⟨w_34, h_34, hf⟩ := bind_e hf
        refine t_callv (vs := []) (rest := []) C hV hT (fun sz => mX4_keeps l D d a N w_1.2  _ h_34 sz) (cwV 0 C.2.2.2.2 (lw_V q1701 q1703 qs100 q129 q1704) rfl rfl rfl hdX4_keeps ⟨Nat.le_of_ble_eq_true rfl, Nat.le_of_ble_eq_true rfl⟩) rfl hl.1 rfl (Nat.le_of_ble_eq_true rfl) dX4_bestScore_34 (fun H locs hT => ?_)
        refine lv_bipush (v := -2) hx hb dX4_bestScore_37 (by decide) ?_
        refine lv_istore_n (lv' := [(3, .int (-2 : Int32)), (0, .ref (a 42)), (1, .int x1), (2, .int x2)]) hx hb dX4_bestScore_39 rfl hl (by decide) rfl (fun ls hl => ?_)
        refine lv_bipush (v := -2) hx hb dX4_bestScore_40 (by decide) ?_
        refine lv_istore (lv' := [(4, .int (-2 : Int32)), (3, .int (-2 : Int32)), (0, .ref (a 42)), (1, .int x1), (2, .int x2)]) hx hb dX4_bestScore_42 hl (by decide) rfl (fun ls hl => ?_)
        refine lv_aload_n hx hb dX4_bestScore_44 rfl (lv_at hl 2 rfl) ?_
        refine lv_iload_n hx hb dX4_bestScore_45 rfl (lv_at hl 3 rfl) ?_
        obtain ⟨w_46, h_46, hf⟩ := bind_e hf
        refine t_calli (vs := [.int x1]) (rest := []) C hV hT (fun sz => mX4_waitedBy l D d a N w_34 x1 _ h_46 sz) (cwV 1 C.2.2.2.2 (lw_V q1744 q1746 qs106 q129 q1747) rfl rfl rfl hdX4_waitedBy ⟨Nat.le_of_ble_eq_true rfl, Nat.le_of_ble_eq_true rfl⟩) rfl hl.1 rfl (Nat.le_of_ble_eq_true rfl) dX4_bestScore_46 (fun H locs hT => ?_)
        refine lv_istore (lv' := [(5, .int w_46.1), (4, .int (-2 : Int32)), (3, .int (-2 : Int32)), (0, .ref (a 42)), (1, .int x1), (2, .int x2)]) hx hb dX4_bestScore_49 hl (by decide) rfl (fun ls hl => ?_)
        refine lv_iconst (v := 0) hx hb dX4_bestScore_51 (by decide) ?_
        refine lv_istore (lv' := [(6, .int (0 : Int32)), (5, .int w_46.1), (4, .int (-2 : Int32)), (3, .int (-2 : Int32)), (0, .ref (a 42)), (1, .int x1), (2, .int x2)]) hx hb dX4_bestScore_52 hl (by decide) rfl (fun ls hl => ?_)
        refine hL54 _ (fun t x2 x3 x4 x5 H locs ls hT hl hf => ?_) N w_46.2 x1 x2 (-2 : Int32) (-2 : Int32) w_46.1 (0 : Int32) _ _ _ hT (lv_sub hl [4, 5, 6, 3, 2, 1, 0] rfl) hf
        refine lv_iload_n hx hb dX4_bestScore_136 rfl (lv_at hl 0 rfl) ?_
        refine lv_if_ne (tgt := 145) hx hb dX4_bestScore_137 (by decide) (fun hc => ?_) (fun hc => ?_)
        · have hf := ite_t hc hf
          refine lv_iload_n hx hb dX4_bestScore_145 rfl (lv_at hl 0 rfl) ?_
          refine lv_iconst (v := 1) hx hb dX4_bestScore_146 (by decide) ?_
          refine lv_icmp_ne (tgt := 154) hx hb dX4_bestScore_147 (by decide) (fun hc => ?_) (fun hc => ?_)
          · have hf := ite_t hc hf
            refine lv_iload hx hb dX4_bestScore_154 (lv_at hl 2 rfl) ?_
            exact t_iret C hT hf hr hlocks dX4_bestScore_156
          · have hf := ite_f (fun q => q hc) hf
            refine lv_iload_n hx hb dX4_bestScore_150 rfl (lv_at hl 1 rfl) ?_
            refine lv_goto (tgt := 156) hx hb dX4_bestScore_151 (by decide) ?_
            exact t_iret C hT hf hr hlocks dX4_bestScore_156
        · have hf := ite_f (fun q => q hc) hf
          refine lv_iload hx hb dX4_bestScore_140 (lv_at hl 3 rfl) ?_
          refine lv_goto (tgt := 156) hx hb dX4_bestScore_142 (by decide) ?_
          exact t_iret C hT hf hr hlocks dX4_bestScore_156
      · have hf := ite_f (fun q => q hc) hf
        refine lv_iconst (v := -1) hx hb dX4_bestScore_31 (by decide) ?_
        exact t_iret C hT hf hr hlocks dX4_bestScore_32
def fX4_fillsRow_B7 (N : Nat) (K : TS → Option (Int32 × TS)) (kb : TS → Int32 → Int32 → Option (Int32 × TS)) (t : TS) (x3 : Int32) (x4 : Int32) : Option (Int32 × TS) :=
  (if x4 < 0 then (K t) else (nz ((1 : Int32) <<< ((t.2.1 20 3) &&& 31)) (ix x4 3 (lett (tsA t 30 (x4).toNatClampNeg (irem x3 ((1 : Int32) <<< ((t.2.1 20 3) &&& 31)))) fun t_28 => (nz ((1 : Int32) <<< ((t_28.2.1 20 3) &&& 31)) (lett (x3 / ((1 : Int32) <<< ((t_28.2.1 20 3) &&& 31))) fun x3_39 => (ix x4 3 ((fX4_isPeace N t_28 (t_28.2.1 30 (x4).toNatClampNeg)).bind fun w_48 => (if ¬ w_48.1 = 0 then (lett (x4 + (-1 : Int32)) fun x4_56 => (kb w_48.2 x3_39 x4_56)) else (some ((0 : Int32), w_48.2)))))))))))
def fX4_fillsRow_L7 (N : Nat) (K : TS → Option (Int32 × TS)) : Nat → TS → Int32 → Int32 → Option (Int32 × TS)
  | 0 => fun _ _ _ => none
  | n + 1 => fun t x3 x4 => fX4_fillsRow_B7 N K (fX4_fillsRow_L7 N K n) t x3 x4
def fX4_fillsRow (N : Nat) (t : TS) (x1 : Int32) (x2 : Int32) : Option (Int32 × TS) :=
  (lett (x2 - (1 : Int32)) fun x4_5 => (fX4_fillsRow_L7 N (fun t => (some ((1 : Int32), t))) N t x1 x4_5))
theorem hdX4_fillsRow : yX4_fillsRow.cls = RX4 ∧ yX4_fillsRow.cls ≠ "java/lang/invoke/MethodHandle" ∧ yX4_fillsRow.cls ≠ "java/lang/invoke/VarHandle" ∧ (parseMethodDescriptor yX4_fillsRow.desc).map (fun d => d.parameters.length) = some 2 := by decide +kernel
set_option maxHeartbeats 4000000 in
theorem mX4_fillsRow (l : Launch) (D : va_G) (d : Nat → ClassId) (a : Nat → Nat) (N : Nat) (t : TS) (x1 : Int32) (x2 : Int32) (w : Int32 × TS) (hf : fX4_fillsRow N t x1 x2 = some w) (sz : Nat) : Met l yX4_fillsRow (ws_ yX4_fillsRow cX4_fillsRow 5 (some .boolean)) (rm_ 2 43) (PcT D d a [.int x1, .int x2] t sz) (QiT D d a w.1 w.2 sz) 0 0 (AT a sz) := by
  refine Met.ofW (cc := cX4_fillsRow) (maxL := 5) (ret := (some .boolean)) plX4 rfl ?_
  intro p e s m args below meth c s₁ B hml hv
  obtain ⟨C, hV, hT, hr, hlocks, hargs, rfl⟩ := t_enter B hml rfl hv
  have hx := C.1
  have hb := C.2.1
  show W p l e (rm_ 2 43) s m args below meth c s.heap [] 0 0 (MQ below (QiT D d a w.1 w.2 s.heap.size) args s 0 0 (AT a s.heap.size)) _
  have hL7 : ∀ (K : TS → Option (Int32 × TS)), (∀ (t : TS) (H : Heap) (locs : List Loc) (ls : Array Slot), TH D (AT a s.heap.size) s.heap (wT d a t) H locs → lv_has ls 5 [] → K t = some w → W p l e (rm_ 2 43) s m args below meth c H locs 0 0 (MQ below (QiT D d a w.1 w.2 s.heap.size) args s 0 0 (AT a s.heap.size)) (F0 m 62 ls [])) → ∀ (n : Nat) (t : TS) (x3 : Int32) (x4 : Int32) (H : Heap) (locs : List Loc) (ls : Array Slot), TH D (AT a s.heap.size) s.heap (wT d a t) H locs → lv_has ls 5 [(0, .ref (a 42)), (3, .int x3), (4, .int x4)] → fX4_fillsRow_L7 N K n t x3 x4 = some w → W p l e (rm_ 2 43) s m args below meth c H locs 0 0 (MQ below (QiT D d a w.1 w.2 s.heap.size) args s 0 0 (AT a s.heap.size)) (F0 m 7 ls []) := by
    intro K hE n
    induction n with
    | zero =>
      intro t x3 x4 H locs ls hT hl hf
      cases hf
    | succ n ih =>
      intro t x3 x4 H locs ls hT hl hf
      replace hf : fX4_fillsRow_B7 N K (fX4_fillsRow_L7 N K n) t x3 x4 = some w := hf
      unfold fX4_fillsRow_B7 at hf
      refine lv_iload hx hb dX4_fillsRow_7 (lv_at hl 2 rfl) ?_
      refine lv_if_lt (tgt := 62) hx hb dX4_fillsRow_9 (by decide) (fun hc => ?_) (fun hc => ?_)
      · have hf := ite_t hc hf
        exact hE t _ _ _ hT (lv_sub hl [] rfl) hf
      · have hf := ite_f hc hf
        refine lv_aload_n hx hb dX4_fillsRow_12 rfl (lv_at hl 0 rfl) ?_
        refine t_get C hV hT 30 (by decide) q1277 rfl dX4_fillsRow_13 ?_
        refine lv_iload hx hb dX4_fillsRow_16 (lv_at hl 2 rfl) ?_
        refine lv_iload_n hx hb dX4_fillsRow_18 rfl (lv_at hl 1 rfl) ?_
        refine lv_iconst (v := 1) hx hb dX4_fillsRow_19 (by decide) ?_
        refine lv_aload_n hx hb dX4_fillsRow_20 rfl (lv_at hl 0 rfl) ?_
        refine t_get C hV hT 20 (by decide) q1267 rfl dX4_fillsRow_21 ?_
        refine lv_iconst (v := 3) hx hb dX4_fillsRow_24 (by decide) ?_
        refine g_ild C hV hT 10 3 rfl (vin_of (by decide)) (by decide) dX4_fillsRow_25 ?_
        refine lv_ishl hx hb dX4_fillsRow_26 ?_
        obtain ⟨hn, hf⟩ := nz_e hf
        refine g_irem hx hb dX4_fillsRow_27 hn ?_
        obtain ⟨hi, hf⟩ := ix_e hf
        refine t_ist C hV hT 15 _ rfl hi rfl (tast_30 d a t _ _) dX4_fillsRow_28 (fun t_28 H locs et hT => ?_)
        have hf := lett_e et hf
        refine lv_iload_n hx hb dX4_fillsRow_29 rfl (lv_at hl 1 rfl) ?_
        refine lv_iconst (v := 1) hx hb dX4_fillsRow_30 (by decide) ?_
        refine lv_aload_n hx hb dX4_fillsRow_31 rfl (lv_at hl 0 rfl) ?_
        refine t_get C hV hT 20 (by decide) q1267 rfl dX4_fillsRow_32 ?_
        refine lv_iconst (v := 3) hx hb dX4_fillsRow_35 (by decide) ?_
        refine g_ild C hV hT 10 3 rfl (vin_of (by decide)) (by decide) dX4_fillsRow_36 ?_
        refine lv_ishl hx hb dX4_fillsRow_37 ?_
        obtain ⟨hn, hf⟩ := nz_e hf
        refine lv_idiv hx hb dX4_fillsRow_38 hn ?_
        refine lv_topi (fun x3_39 ex => ?_)
        have hf := lett_e ex hf
        refine lv_istore_n (lv' := [(3, .int x3_39), (0, .ref (a 42)), (4, .int x4)]) hx hb dX4_fillsRow_39 rfl hl (by decide) rfl (fun ls hl => ?_)
        refine lv_aload_n hx hb dX4_fillsRow_40 rfl (lv_at hl 1 rfl) ?_
        refine lv_aload_n hx hb dX4_fillsRow_41 rfl (lv_at hl 1 rfl) ?_
        refine t_get C hV hT 30 (by decide) q1277 rfl dX4_fillsRow_42 ?_
        refine lv_iload hx hb dX4_fillsRow_45 (lv_at hl 2 rfl) ?_
        obtain ⟨hi, hf⟩ := ix_e hf
        refine g_ild C hV hT 15 _ rfl hi rfl dX4_fillsRow_47 ?_
        obtain ⟨w_48, h_48, hf⟩ := bind_e hf
        refine t_calli (vs := [.int (t_28.2.1 30 (x4).toNatClampNeg)]) (rest := []) C hV hT (fun sz => mX4_isPeace l D d a N t_28 (t_28.2.1 30 (x4).toNatClampNeg) _ h_48 sz) (cwV 1 C.2.2.2.2 (lw_V q1721 q1723 qs103 q129 q1724) rfl rfl rfl hdX4_isPeace ⟨Nat.le_of_ble_eq_true rfl, Nat.le_of_ble_eq_true rfl⟩) rfl hl.1 rfl (Nat.le_of_ble_eq_true rfl) dX4_fillsRow_48 (fun H locs hT => ?_)
        refine lv_if_ne (tgt := 56) hx hb dX4_fillsRow_51 (by decide) (fun hc => ?_) (fun hc => ?_)
        · have hf := ite_t hc hf
          obtain ⟨x4_56, ex⟩ : ∃ y : Int32, y = (x4 + (-1 : Int32)) := ⟨_, rfl⟩
          have hf := lett_e ex hf
          refine lv_iinc (v := x4_56) (lv' := [(4, .int x4_56), (3, .int x3_39), (0, .ref (a 42))]) hx hb dX4_fillsRow_56 hl (k := 2) rfl (by rw [ex]; rfl) (by decide) rfl (fun ls hl => ?_)
          refine lv_goto (tgt := 7) hx hb dX4_fillsRow_59 (by decide) ?_
          exact ih w_48.2 x3_39 x4_56 _ _ _ hT (lv_sub hl [2, 1, 0] rfl) hf
        · have hf := ite_f (fun q => q hc) hf
          refine lv_iconst (v := 0) hx hb dX4_fillsRow_54 (by decide) ?_
          exact t_zret C hT hf (Or.inl rfl) hr hlocks dX4_fillsRow_55
  refine W.eq (by rw [hargs]) (t_in (vs := [.ref (a 42), .int x1, .int x2]) (n := 5) (Nat.le_of_ble_eq_true rfl) (fun ls hl => ?_))
  have hl : lv_has ls 5 [(0, .ref (a 42)), (1, .int x1), (2, .int x2)] := hl
  unfold fX4_fillsRow at hf
  skip
  refine lv_iload_n hx hb dX4_fillsRow_0 rfl (lv_at hl 1 rfl) ?_
  refine lv_istore_n (lv' := [(3, .int x1), (0, .ref (a 42)), (1, .int x1), (2, .int x2)]) hx hb dX4_fillsRow_1 rfl hl (by decide) rfl (fun ls hl => ?_)
  refine lv_iload_n hx hb dX4_fillsRow_2 rfl (lv_at hl 3 rfl) ?_
  refine lv_iconst (v := 1) hx hb dX4_fillsRow_3 (by decide) ?_
  refine lv_isub hx hb dX4_fillsRow_4 ?_
  refine lv_topi (fun x4_5 ex => ?_)
  have hf := lett_e ex hf
  refine lv_istore (lv' := [(4, .int x4_5), (3, .int x1), (0, .ref (a 42)), (1, .int x1), (2, .int x2)]) hx hb dX4_fillsRow_5 hl (by decide) rfl (fun ls hl => ?_)
  refine hL7 _ (fun t H locs ls hT hl hf => ?_) N t x1 x4_5 _ _ _ hT (lv_sub hl [2, 1, 0] rfl) hf
  refine lv_iconst (v := 1) hx hb dX4_fillsRow_62 (by decide) ?_
  exact t_zret C hT hf (Or.inr rfl) hr hlocks dX4_fillsRow_63
def fX4_weighsRow_B2 (N : Nat) (K : TS → Option (TS)) (kb : TS → Int32 → Int32 → Option (TS)) (t : TS) (x1 : Int32) (x2 : Int32) : Option (TS) :=
  (if x1 ≤ x2 then (K t) else (ix x2 3 (lett (tsI t 24 (t.2.1 30 (x2).toNatClampNeg)) fun t_14 => ((fX4_passes N t_14 ).bind fun w_18 => (lett (x2 + (1 : Int32)) fun x2_22 => (kb w_18.2 x1 x2_22))))))
def fX4_weighsRow_L2 (N : Nat) (K : TS → Option (TS)) : Nat → TS → Int32 → Int32 → Option (TS)
  | 0 => fun _ _ _ => none
  | n + 1 => fun t x1 x2 => fX4_weighsRow_B2 N K (fX4_weighsRow_L2 N K n) t x1 x2
def fX4_weighsRow (N : Nat) (t : TS) (x1 : Int32) : Option (TS) :=
  (fX4_weighsRow_L2 N (fun t => (lett (tsI t 24 (-1 : Int32)) fun t_30 => ((fX4_sumOver N t_30 (3 : Int32)).bind fun w_36 => (lett (tsI w_36.2 31 w_36.1) fun t_39 => (lett (tsI t_39 32 (t_39.2.1 20 53)) fun t_50 => ((fX4_laysBack N t_50 ).bind fun w_54 => (some w_54))))))) N t x1 (0 : Int32))
theorem hdX4_weighsRow : yX4_weighsRow.cls = RX4 ∧ yX4_weighsRow.cls ≠ "java/lang/invoke/MethodHandle" ∧ yX4_weighsRow.cls ≠ "java/lang/invoke/VarHandle" ∧ (parseMethodDescriptor yX4_weighsRow.desc).map (fun d => d.parameters.length) = some 1 := by decide +kernel
set_option maxHeartbeats 4000000 in
theorem mX4_weighsRow (l : Launch) (D : va_G) (d : Nat → ClassId) (a : Nat → Nat) (N : Nat) (t : TS) (x1 : Int32) (w : TS) (hf : fX4_weighsRow N t x1 = some w) (sz : Nat) : Met l yX4_weighsRow (ws_ yX4_weighsRow cX4_weighsRow 3 none) (rm_ 6 145) (PcT D d a [.int x1] t sz) (QvT D d a w sz) 0 0 (AT a sz) := by
  refine Met.ofW (cc := cX4_weighsRow) (maxL := 3) (ret := none) plX4 rfl ?_
  intro p e s m args below meth c s₁ B hml hv
  obtain ⟨C, hV, hT, hr, hlocks, hargs, rfl⟩ := t_enter B hml rfl hv
  have hx := C.1
  have hb := C.2.1
  show W p l e (rm_ 6 145) s m args below meth c s.heap [] 0 0 (MQ below (QvT D d a w s.heap.size) args s 0 0 (AT a s.heap.size)) _
  have hL2 : ∀ (K : TS → Option (TS)), (∀ (t : TS) (H : Heap) (locs : List Loc) (ls : Array Slot), TH D (AT a s.heap.size) s.heap (wT d a t) H locs → lv_has ls 3 [(0, .ref (a 42))] → K t = some w → W p l e (rm_ 6 145) s m args below meth c H locs 0 0 (MQ below (QvT D d a w s.heap.size) args s 0 0 (AT a s.heap.size)) (F0 m 28 ls [])) → ∀ (n : Nat) (t : TS) (x1 : Int32) (x2 : Int32) (H : Heap) (locs : List Loc) (ls : Array Slot), TH D (AT a s.heap.size) s.heap (wT d a t) H locs → lv_has ls 3 [(0, .ref (a 42)), (1, .int x1), (2, .int x2)] → fX4_weighsRow_L2 N K n t x1 x2 = some w → W p l e (rm_ 6 145) s m args below meth c H locs 0 0 (MQ below (QvT D d a w s.heap.size) args s 0 0 (AT a s.heap.size)) (F0 m 2 ls []) := by
    intro K hE n
    induction n with
    | zero =>
      intro t x1 x2 H locs ls hT hl hf
      cases hf
    | succ n ih =>
      intro t x1 x2 H locs ls hT hl hf
      replace hf : fX4_weighsRow_B2 N K (fX4_weighsRow_L2 N K n) t x1 x2 = some w := hf
      unfold fX4_weighsRow_B2 at hf
      refine lv_iload_n hx hb dX4_weighsRow_2 rfl (lv_at hl 2 rfl) ?_
      refine lv_iload_n hx hb dX4_weighsRow_3 rfl (lv_at hl 1 rfl) ?_
      refine lv_icmp_ge (tgt := 28) hx hb dX4_weighsRow_4 (by decide) (fun hc => ?_) (fun hc => ?_)
      · have hf := ite_t hc hf
        exact hE t _ _ _ hT (lv_sub hl [0] rfl) hf
      · have hf := ite_f hc hf
        refine lv_aload_n hx hb dX4_weighsRow_7 rfl (lv_at hl 0 rfl) ?_
        refine lv_aload_n hx hb dX4_weighsRow_8 rfl (lv_at hl 0 rfl) ?_
        refine t_get C hV hT 30 (by decide) q1277 rfl dX4_weighsRow_9 ?_
        refine lv_iload_n hx hb dX4_weighsRow_12 rfl (lv_at hl 2 rfl) ?_
        obtain ⟨hi, hf⟩ := ix_e hf
        refine g_ild C hV hT 15 _ rfl hi rfl dX4_weighsRow_13 ?_
        refine t_put C hV hT 24 (by decide) q1271 (tset_24 a t _) rfl rfl dX4_weighsRow_14 (fun t_14 H locs et hT => ?_)
        have hf := lett_e et hf
        refine lv_aload_n hx hb dX4_weighsRow_17 rfl (lv_at hl 0 rfl) ?_
        obtain ⟨w_18, h_18, hf⟩ := bind_e hf
        refine t_calli (vs := []) (rest := []) C hV hT (fun sz => mX4_passes l D d a N t_14  _ h_18 sz) (cwV 0 C.2.2.2.2 (lw_V q1609 q1611 qs87 q129 q1612) rfl rfl rfl hdX4_passes ⟨Nat.le_of_ble_eq_true rfl, Nat.le_of_ble_eq_true rfl⟩) rfl hl.1 rfl (Nat.le_of_ble_eq_true rfl) dX4_weighsRow_18 (fun H locs hT => ?_)
        refine lv_pop hx hb dX4_weighsRow_21 rfl ?_
        obtain ⟨x2_22, ex⟩ : ∃ y : Int32, y = (x2 + (1 : Int32)) := ⟨_, rfl⟩
        have hf := lett_e ex hf
        refine lv_iinc (v := x2_22) (lv' := [(2, .int x2_22), (0, .ref (a 42)), (1, .int x1)]) hx hb dX4_weighsRow_22 hl (k := 2) rfl (by rw [ex]; rfl) (by decide) rfl (fun ls hl => ?_)
        refine lv_goto (tgt := 2) hx hb dX4_weighsRow_25 (by decide) ?_
        exact ih w_18.2 x1 x2_22 _ _ _ hT (lv_sub hl [1, 2, 0] rfl) hf
  refine W.eq (by rw [hargs]) (t_in (vs := [.ref (a 42), .int x1]) (n := 3) (Nat.le_of_ble_eq_true rfl) (fun ls hl => ?_))
  have hl : lv_has ls 3 [(0, .ref (a 42)), (1, .int x1)] := hl
  unfold fX4_weighsRow at hf
  skip
  refine lv_iconst (v := 0) hx hb dX4_weighsRow_0 (by decide) ?_
  refine lv_istore_n (lv' := [(2, .int (0 : Int32)), (0, .ref (a 42)), (1, .int x1)]) hx hb dX4_weighsRow_1 rfl hl (by decide) rfl (fun ls hl => ?_)
  refine hL2 _ (fun t H locs ls hT hl hf => ?_) N t x1 (0 : Int32) _ _ _ hT (lv_sub hl [1, 2, 0] rfl) hf
  refine lv_aload_n hx hb dX4_weighsRow_28 rfl (lv_at hl 0 rfl) ?_
  refine lv_iconst (v := -1) hx hb dX4_weighsRow_29 (by decide) ?_
  refine t_put C hV hT 24 (by decide) q1271 (tset_24 a t _) rfl rfl dX4_weighsRow_30 (fun t_30 H locs et hT => ?_)
  have hf := lett_e et hf
  refine lv_aload_n hx hb dX4_weighsRow_33 rfl (lv_at hl 0 rfl) ?_
  refine lv_aload_n hx hb dX4_weighsRow_34 rfl (lv_at hl 0 rfl) ?_
  refine lv_iconst (v := 3) hx hb dX4_weighsRow_35 (by decide) ?_
  obtain ⟨w_36, h_36, hf⟩ := bind_e hf
  refine t_calli (vs := [.int (3 : Int32)]) (rest := [.ref (a 42)]) C hV hT (fun sz => mX4_sumOver l D d a N t_30 (3 : Int32) _ h_36 sz) (cwV 1 C.2.2.2.2 (lw_V q1642 q1644 qs93 q129 q1645) rfl rfl rfl hdX4_sumOver ⟨Nat.le_of_ble_eq_true rfl, Nat.le_of_ble_eq_true rfl⟩) rfl hl.1 rfl (Nat.le_of_ble_eq_true rfl) dX4_weighsRow_36 (fun H locs hT => ?_)
  refine t_put C hV hT 31 (by decide) q1278 (tset_31 a w_36.2 _) rfl rfl dX4_weighsRow_39 (fun t_39 H locs et hT => ?_)
  have hf := lett_e et hf
  refine lv_aload_n hx hb dX4_weighsRow_42 rfl (lv_at hl 0 rfl) ?_
  refine lv_aload_n hx hb dX4_weighsRow_43 rfl (lv_at hl 0 rfl) ?_
  refine t_get C hV hT 20 (by decide) q1267 rfl dX4_weighsRow_44 ?_
  refine lv_bipush (v := 53) hx hb dX4_weighsRow_47 (by decide) ?_
  refine g_ild C hV hT 10 53 rfl (vin_of (by decide)) (by decide) dX4_weighsRow_49 ?_
  refine t_put C hV hT 32 (by decide) q1279 (tset_32 a t_39 _) rfl rfl dX4_weighsRow_50 (fun t_50 H locs et hT => ?_)
  have hf := lett_e et hf
  refine lv_aload_n hx hb dX4_weighsRow_53 rfl (lv_at hl 0 rfl) ?_
  obtain ⟨w_54, h_54, hf⟩ := bind_e hf
  refine t_callv (vs := []) (rest := []) C hV hT (fun sz => mX4_laysBack l D d a N t_50  _ h_54 sz) (cwV 0 C.2.2.2.2 (lw_V q1709 q1711 qs102 q129 q1712) rfl rfl rfl hdX4_laysBack ⟨Nat.le_of_ble_eq_true rfl, Nat.le_of_ble_eq_true rfl⟩) rfl hl.1 rfl (Nat.le_of_ble_eq_true rfl) dX4_weighsRow_54 (fun H locs hT => ?_)
  exact t_vret C hT hf hr hlocks dX4_weighsRow_57
