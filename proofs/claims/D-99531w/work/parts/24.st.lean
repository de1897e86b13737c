set_option maxRecDepth 100000
def fX2_since (N : Nat) (t0 : SS) (x1 : Int32) : Option (Int32 × SS) :=
  (ix x1 6 (some ((jmin (99 : Int32) ((t0.2 8) - (t0.1 5 (x1).toNatClampNeg))), t0)))
theorem hdX2_since : yX2_since.cls = RX2 ∧ yX2_since.cls ≠ "java/lang/invoke/MethodHandle" ∧ yX2_since.cls ≠ "java/lang/invoke/VarHandle" ∧ (parseMethodDescriptor yX2_since.desc).map (fun d => d.parameters.length) = some 1 := by decide +kernel
set_option maxHeartbeats 4000000 in
theorem mX2_since (l : Launch) (D : va_G) (d : Nat → ClassId) (sd : Nat) (b : Nat → Nat) (N : Nat) (t0 : SS) (x1 : Int32) (w : Int32 × SS) (hf : fX2_since N t0 x1 = some w) (sz : Nat) : Met l yX2_since (ws_ yX2_since cX2_since 2 (some .int)) (rm_ 1 21) (GPc D d sd [.ref (b 0), .int x1] (wS d b t0) (fun _ => True) sz) (GQi D w.1 (wS d b w.2) (wS d b t0) sz) 0 0 (va_A (wS d b t0) sz) := by
  refine Met.ofW (cc := cX2_since) (maxL := 2) (ret := (some .int)) plX2 rfl ?_
  intro p e s m args below meth c s₁ B hml hv
  obtain ⟨C, hX, hR, hT, hr, hlocks, hargs, rfl⟩ := g_enter (own := RX2) B hml rfl hv
  have hx := C.1
  have hb := C.2.1
  have hV := hX.1
  obtain ⟨A, hA0⟩ : ∃ A, A = va_A (wS d b t0) s.heap.size := ⟨_, rfl⟩
  rw [← hA0] at hX hT
  show W p l e (rm_ 1 21) s m args below meth c s.heap [] 0 0 (MQ below (GQi D w.1 (wS d b w.2) (wS d b t0) s.heap.size) args s 0 0 (va_A (wS d b t0) s.heap.size)) _
  rw [← hA0]
  refine W.eq (by rw [hargs]) (t_in (vs := [.ref (b 0), .int x1]) (n := 2) (Nat.le_of_ble_eq_true rfl) (fun ls hl => ?_))
  have hl : lv_has ls 2 [(0, .ref (b 0)), (1, .int x1)] := hl
  unfold fX2_since at hf
  refine lv_bipush (v := 99) hx hb dX2_since_0 (by decide) ?_
  refine lv_aload_n hx hb dX2_since_2 rfl (lv_at hl 0 rfl) ?_
  refine r_get C hV (hT.atp 0 rfl) (ci := 2) rfl in_X2 8 (by decide) q243 rfl dX2_since_3 ?_
  refine lv_aload_n hx hb dX2_since_6 rfl (lv_at hl 0 rfl) ?_
  refine r_get C hV (hT.atp 0 rfl) (ci := 2) rfl in_X2 5 (by decide) q237 rfl dX2_since_7 ?_
  refine lv_iload_n hx hb dX2_since_10 rfl (lv_at hl 1 rfl) ?_
  obtain ⟨hi, hf⟩ := ix_e hf
  refine r_ild C hV (hT.atp 6 rfl) _ hi rfl dX2_since_11 ?_
  refine lv_isub hx hb dX2_since_12 ?_
  refine g_min C hl.1 q898 q675 q138 q676 (Nat.le_of_ble_eq_true rfl) (Nat.le_of_ble_eq_true rfl) ⟨Nat.zero_le _, Nat.zero_le _⟩ dX2_since_13 ?_
  exact f_iret (wS d b) hA0 C hT hf hr hlocks dX2_since_16
def fX2_comes (N : Nat) (t0 : SS) (x1 : Int32) (x2 : Int32) : Option (SS) :=
  (ix x1 6 (ix x1 6 (lett (ssA t0 0 (x1).toNatClampNeg (jmin (999 : Int32) ((t0.1 0 (x1).toNatClampNeg) + x2))) fun t_19 => (some t_19))))
theorem hdX2_comes : yX2_comes.cls = RX2 ∧ yX2_comes.cls ≠ "java/lang/invoke/MethodHandle" ∧ yX2_comes.cls ≠ "java/lang/invoke/VarHandle" ∧ (parseMethodDescriptor yX2_comes.desc).map (fun d => d.parameters.length) = some 2 := by decide +kernel
set_option maxHeartbeats 4000000 in
theorem mX2_comes (l : Launch) (D : va_G) (d : Nat → ClassId) (sd : Nat) (b : Nat → Nat) (N : Nat) (t0 : SS) (x1 : Int32) (x2 : Int32) (w : SS) (hf : fX2_comes N t0 x1 x2 = some w) (sz : Nat) : Met l yX2_comes (ws_ yX2_comes cX2_comes 3 none) (rm_ 1 21) (GPc D d sd [.ref (b 0), .int x1, .int x2] (wS d b t0) (fun _ => True) sz) (GQv D (wS d b w) (wS d b t0) sz) 0 0 (va_A (wS d b t0) sz) := by
  refine Met.ofW (cc := cX2_comes) (maxL := 3) (ret := none) plX2 rfl ?_
  intro p e s m args below meth c s₁ B hml hv
  obtain ⟨C, hX, hR, hT, hr, hlocks, hargs, rfl⟩ := g_enter (own := RX2) B hml rfl hv
  have hx := C.1
  have hb := C.2.1
  have hV := hX.1
  obtain ⟨A, hA0⟩ : ∃ A, A = va_A (wS d b t0) s.heap.size := ⟨_, rfl⟩
  rw [← hA0] at hX hT
  show W p l e (rm_ 1 21) s m args below meth c s.heap [] 0 0 (MQ below (GQv D (wS d b w) (wS d b t0) s.heap.size) args s 0 0 (va_A (wS d b t0) s.heap.size)) _
  rw [← hA0]
  refine W.eq (by rw [hargs]) (t_in (vs := [.ref (b 0), .int x1, .int x2]) (n := 3) (Nat.le_of_ble_eq_true rfl) (fun ls hl => ?_))
  have hl : lv_has ls 3 [(0, .ref (b 0)), (1, .int x1), (2, .int x2)] := hl
  unfold fX2_comes at hf
  refine lv_aload_n hx hb dX2_comes_0 rfl (lv_at hl 0 rfl) ?_
  refine r_get C hV (hT.atp 0 rfl) (ci := 2) rfl in_X2 0 (by decide) q227 rfl dX2_comes_1 ?_
  refine lv_iload_n hx hb dX2_comes_4 rfl (lv_at hl 1 rfl) ?_
  refine lv_sipush (v := 999) hx hb dX2_comes_5 (by decide) ?_
  refine lv_aload_n hx hb dX2_comes_8 rfl (lv_at hl 0 rfl) ?_
  refine r_get C hV (hT.atp 0 rfl) (ci := 2) rfl in_X2 0 (by decide) q227 rfl dX2_comes_9 ?_
  refine lv_iload_n hx hb dX2_comes_12 rfl (lv_at hl 1 rfl) ?_
  obtain ⟨hi, hf⟩ := ix_e hf
  refine r_ild C hV (hT.atp 1 rfl) _ hi rfl dX2_comes_13 ?_
  refine lv_iload_n hx hb dX2_comes_14 rfl (lv_at hl 2 rfl) ?_
  refine lv_iadd hx hb dX2_comes_15 ?_
  refine g_min C hl.1 q898 q675 q138 q676 (Nat.le_of_ble_eq_true rfl) (Nat.le_of_ble_eq_true rfl) ⟨Nat.zero_le _, Nat.zero_le _⟩ dX2_comes_16 ?_
  obtain ⟨hi, hf⟩ := ix_e hf
  obtain ⟨t_19, et⟩ : ∃ y, y = (ssA t0 0 (x1).toNatClampNeg (jmin (999 : Int32) ((t0.1 0 (x1).toNatClampNeg) + x2))) := ⟨_, rfl⟩
  have hf := lett_e et hf
  refine w_ist (ws1 := (wS d b t_19)) C hV hT 1 _ rfl hi rfl (by rw [et]; exact upd_set hT.2.1 rfl (sast_0 d b t0 _ _)) dX2_comes_19 (fun H locs hT => ?_)
  exact f_vret (wS d b) hA0 C hT hf hr hlocks dX2_comes_20
def fX2_goes (N : Nat) (t0 : SS) (x1 : Int32) (x2 : Int32) : Option (Int32 × SS) :=
  (ix x1 6 (lett (jmin x2 (t0.1 0 (x1).toNatClampNeg)) fun x3_10 => (ix x1 6 (ix x1 6 (lett (ssA t0 0 (x1).toNatClampNeg ((t0.1 0 (x1).toNatClampNeg) - x3_10)) fun t_20 => (ix x1 6 (ix x1 6 (lett (ssA t_20 3 (x1).toNatClampNeg ((t_20.1 3 (x1).toNatClampNeg) + x3_10)) fun t_30 => (some (x3_10, t_30))))))))))
theorem hdX2_goes : yX2_goes.cls = RX2 ∧ yX2_goes.cls ≠ "java/lang/invoke/MethodHandle" ∧ yX2_goes.cls ≠ "java/lang/invoke/VarHandle" ∧ (parseMethodDescriptor yX2_goes.desc).map (fun d => d.parameters.length) = some 2 := by decide +kernel
set_option maxHeartbeats 4000000 in
theorem mX2_goes (l : Launch) (D : va_G) (d : Nat → ClassId) (sd : Nat) (b : Nat → Nat) (N : Nat) (t0 : SS) (x1 : Int32) (x2 : Int32) (w : Int32 × SS) (hf : fX2_goes N t0 x1 x2 = some w) (sz : Nat) : Met l yX2_goes (ws_ yX2_goes cX2_goes 4 (some .int)) (rm_ 1 21) (GPc D d sd [.ref (b 0), .int x1, .int x2] (wS d b t0) (fun _ => True) sz) (GQi D w.1 (wS d b w.2) (wS d b t0) sz) 0 0 (va_A (wS d b t0) sz) := by
  refine Met.ofW (cc := cX2_goes) (maxL := 4) (ret := (some .int)) plX2 rfl ?_
  intro p e s m args below meth c s₁ B hml hv
  obtain ⟨C, hX, hR, hT, hr, hlocks, hargs, rfl⟩ := g_enter (own := RX2) B hml rfl hv
  have hx := C.1
  have hb := C.2.1
  have hV := hX.1
  obtain ⟨A, hA0⟩ : ∃ A, A = va_A (wS d b t0) s.heap.size := ⟨_, rfl⟩
  rw [← hA0] at hX hT
  show W p l e (rm_ 1 21) s m args below meth c s.heap [] 0 0 (MQ below (GQi D w.1 (wS d b w.2) (wS d b t0) s.heap.size) args s 0 0 (va_A (wS d b t0) s.heap.size)) _
  rw [← hA0]
  refine W.eq (by rw [hargs]) (t_in (vs := [.ref (b 0), .int x1, .int x2]) (n := 4) (Nat.le_of_ble_eq_true rfl) (fun ls hl => ?_))
  have hl : lv_has ls 4 [(0, .ref (b 0)), (1, .int x1), (2, .int x2)] := hl
  unfold fX2_goes at hf
  refine lv_iload_n hx hb dX2_goes_0 rfl (lv_at hl 2 rfl) ?_
  refine lv_aload_n hx hb dX2_goes_1 rfl (lv_at hl 0 rfl) ?_
  refine r_get C hV (hT.atp 0 rfl) (ci := 2) rfl in_X2 0 (by decide) q227 rfl dX2_goes_2 ?_
  refine lv_iload_n hx hb dX2_goes_5 rfl (lv_at hl 1 rfl) ?_
  obtain ⟨hi, hf⟩ := ix_e hf
  refine r_ild C hV (hT.atp 1 rfl) _ hi rfl dX2_goes_6 ?_
  refine g_min C hl.1 q898 q675 q138 q676 (Nat.le_of_ble_eq_true rfl) (Nat.le_of_ble_eq_true rfl) ⟨Nat.zero_le _, Nat.zero_le _⟩ dX2_goes_7 ?_
  refine lv_topi (fun x3_10 ex => ?_)
  have hf := lett_e ex hf
  refine lv_istore_n (lv' := [(3, .int x3_10), (0, .ref (b 0)), (1, .int x1), (2, .int x2)]) hx hb dX2_goes_10 rfl hl (by decide) rfl (fun ls hl => ?_)
  refine lv_aload_n hx hb dX2_goes_11 rfl (lv_at hl 1 rfl) ?_
  refine r_get C hV (hT.atp 0 rfl) (ci := 2) rfl in_X2 0 (by decide) q227 rfl dX2_goes_12 ?_
  refine lv_iload_n hx hb dX2_goes_15 rfl (lv_at hl 2 rfl) ?_
  refine lv_dup2_11 hx hb dX2_goes_16 rfl rfl ?_
  obtain ⟨hi, hf⟩ := ix_e hf
  refine r_ild C hV (hT.atp 1 rfl) _ hi rfl dX2_goes_17 ?_
  refine lv_iload_n hx hb dX2_goes_18 rfl (lv_at hl 0 rfl) ?_
  refine lv_isub hx hb dX2_goes_19 ?_
  obtain ⟨hi, hf⟩ := ix_e hf
  obtain ⟨t_20, et⟩ : ∃ y, y = (ssA t0 0 (x1).toNatClampNeg ((t0.1 0 (x1).toNatClampNeg) - x3_10)) := ⟨_, rfl⟩
  have hf := lett_e et hf
  refine w_ist (ws1 := (wS d b t_20)) C hV hT 1 _ rfl hi rfl (by rw [et]; exact upd_set hT.2.1 rfl (sast_0 d b t0 _ _)) dX2_goes_20 (fun H locs hT => ?_)
  refine lv_aload_n hx hb dX2_goes_21 rfl (lv_at hl 1 rfl) ?_
  refine r_get C hV (hT.atp 0 rfl) (ci := 2) rfl in_X2 3 (by decide) q233 rfl dX2_goes_22 ?_
  refine lv_iload_n hx hb dX2_goes_25 rfl (lv_at hl 2 rfl) ?_
  refine lv_dup2_11 hx hb dX2_goes_26 rfl rfl ?_
  obtain ⟨hi, hf⟩ := ix_e hf
  refine r_ild C hV (hT.atp 4 rfl) _ hi rfl dX2_goes_27 ?_
  refine lv_iload_n hx hb dX2_goes_28 rfl (lv_at hl 0 rfl) ?_
  refine lv_iadd hx hb dX2_goes_29 ?_
  obtain ⟨hi, hf⟩ := ix_e hf
  obtain ⟨t_30, et⟩ : ∃ y, y = (ssA t_20 3 (x1).toNatClampNeg ((t_20.1 3 (x1).toNatClampNeg) + x3_10)) := ⟨_, rfl⟩
  have hf := lett_e et hf
  refine w_ist (ws1 := (wS d b t_30)) C hV hT 4 _ rfl hi rfl (by rw [et]; exact upd_set hT.2.1 rfl (sast_3 d b t_20 _ _)) dX2_goes_30 (fun H locs hT => ?_)
  refine lv_iload_n hx hb dX2_goes_31 rfl (lv_at hl 0 rfl) ?_
  exact f_iret (wS d b) hA0 C hT hf hr hlocks dX2_goes_32
def fX2_sound_B15 (N : Nat) (K : SS → Int32 → Int32 → Int32 → Option (Int32 × SS)) (kb : SS → Int32 → Int32 → Int32 → Int32 → Option (Int32 × SS)) (t : SS) (x1 : Int32) (x2 : Int32) (x3 : Int32) (x4 : Int32) : Option (Int32 × SS) :=
  (if (6 : Int32) ≤ x4 then (K t x1 x2 x3) else ((fX0_has N x1 x3).bind fun w_24 => (if w_24 = 0 then (lett (x4 + (1 : Int32)) fun x4_63 => (kb t x1 x2 x3 x4_63)) else ((fX0_has N x1 x4).bind fun w_33 => (if w_33 = 0 then (lett (x4 + (1 : Int32)) fun x4_63 => (kb t x1 x2 x3 x4_63)) else (ix x3 6 (ix x4 6 (ix (jabs ((t.1 2 (x3).toNatClampNeg) - (t.1 2 (x4).toNatClampNeg))) 12 (lett (x2 + (db_snd ((jabs ((t.1 2 (x3).toNatClampNeg) - (t.1 2 (x4).toNatClampNeg)))).toNatClampNeg)) fun x2_62 => (lett (x4 + (1 : Int32)) fun x4_63 => (kb t x1 x2_62 x3 x4_63)))))))))))
def fX2_sound_L15 (N : Nat) (K : SS → Int32 → Int32 → Int32 → Option (Int32 × SS)) : Nat → SS → Int32 → Int32 → Int32 → Int32 → Option (Int32 × SS)
  | 0 => fun _ _ _ _ _ => none
  | n + 1 => fun t x1 x2 x3 x4 => fX2_sound_B15 N K (fX2_sound_L15 N K n) t x1 x2 x3 x4
def fX2_sound_B4 (N : Nat) (K : SS → Int32 → Option (Int32 × SS)) (kb : SS → Int32 → Int32 → Int32 → Option (Int32 × SS)) (t : SS) (x1 : Int32) (x2 : Int32) (x3 : Int32) : Option (Int32 × SS) :=
  (if (6 : Int32) ≤ x3 then (K t x2) else (lett (x3 + (1 : Int32)) fun x4_13 => (fX2_sound_L15 N (fun t x1 x2 x3 => (lett (x3 + (1 : Int32)) fun x3_69 => (kb t x1 x2 x3_69))) N t x1 x2 x3 x4_13)))
def fX2_sound_L4 (N : Nat) (K : SS → Int32 → Option (Int32 × SS)) : Nat → SS → Int32 → Int32 → Int32 → Option (Int32 × SS)
  | 0 => fun _ _ _ _ => none
  | n + 1 => fun t x1 x2 x3 => fX2_sound_B4 N K (fX2_sound_L4 N K n) t x1 x2 x3
def fX2_sound (N : Nat) (t0 : SS) (x1 : Int32) : Option (Int32 × SS) :=
  (fX2_sound_L4 N (fun t x2 => (some (x2, t))) N t0 x1 (0 : Int32) (0 : Int32))
theorem hdX2_sound : yX2_sound.cls = RX2 ∧ yX2_sound.cls ≠ "java/lang/invoke/MethodHandle" ∧ yX2_sound.cls ≠ "java/lang/invoke/VarHandle" ∧ (parseMethodDescriptor yX2_sound.desc).map (fun d => d.parameters.length) = some 1 := by decide +kernel
set_option maxHeartbeats 4000000 in
theorem mX2_sound (l : Launch) (D : va_G) (d : Nat → ClassId) (sd : Nat) (b : Nat → Nat) (N : Nat) (t0 : SS) (x1 : Int32) (w : Int32 × SS) (hf : fX2_sound N t0 x1 = some w) (sz : Nat) : Met l yX2_sound (ws_ yX2_sound cX2_sound 5 (some .int)) (rm_ 1 21) (GPc D d sd [.ref (b 0), .int x1] (wS d b t0) (fun _ => True) sz) (GQi D w.1 (wS d b w.2) (wS d b t0) sz) 0 0 (va_A (wS d b t0) sz) := by
  refine Met.ofW (cc := cX2_sound) (maxL := 5) (ret := (some .int)) plX2 rfl ?_
  intro p e s m args below meth c s₁ B hml hv
  obtain ⟨C, hX, hR, hT, hr, hlocks, hargs, rfl⟩ := g_enter (own := RX2) B hml rfl hv
  have hx := C.1
  have hb := C.2.1
  have hV := hX.1
  obtain ⟨A, hA0⟩ : ∃ A, A = va_A (wS d b t0) s.heap.size := ⟨_, rfl⟩
  rw [← hA0] at hX hT
  show W p l e (rm_ 1 21) s m args below meth c s.heap [] 0 0 (MQ below (GQi D w.1 (wS d b w.2) (wS d b t0) s.heap.size) args s 0 0 (va_A (wS d b t0) s.heap.size)) _
  rw [← hA0]
  have hL4 : ∀ (K : SS → Int32 → Option (Int32 × SS)), (∀ (t : SS) (x2 : Int32) (H : Heap) (locs : List Loc) (ls : Array Slot), TH D A s.heap (wS d b t) H locs → lv_has ls 5 [(2, .int x2)] → K t x2 = some w → W p l e (rm_ 1 21) s m args below meth c H locs 0 0 (MQ below (GQi D w.1 (wS d b w.2) (wS d b t0) s.heap.size) args s 0 0 A) (F0 m 75 ls [])) → ∀ (n : Nat) (t : SS) (x1 : Int32) (x2 : Int32) (x3 : Int32) (H : Heap) (locs : List Loc) (ls : Array Slot), TH D A s.heap (wS d b t) H locs → lv_has ls 5 [(0, .ref (b 0)), (1, .int x1), (2, .int x2), (3, .int x3)] → fX2_sound_L4 N K n t x1 x2 x3 = some w → W p l e (rm_ 1 21) s m args below meth c H locs 0 0 (MQ below (GQi D w.1 (wS d b w.2) (wS d b t0) s.heap.size) args s 0 0 A) (F0 m 4 ls []) := by
    intro K hE n
    induction n with
    | zero =>
      intro t x1 x2 x3 H locs ls hT hl hf
      cases hf
    | succ n ih =>
      have hL15 : ∀ (K : SS → Int32 → Int32 → Int32 → Option (Int32 × SS)), (∀ (t : SS) (x1 : Int32) (x2 : Int32) (x3 : Int32) (H : Heap) (locs : List Loc) (ls : Array Slot), TH D A s.heap (wS d b t) H locs → lv_has ls 5 [(0, .ref (b 0)), (1, .int x1), (2, .int x2), (3, .int x3)] → K t x1 x2 x3 = some w → W p l e (rm_ 1 21) s m args below meth c H locs 0 0 (MQ below (GQi D w.1 (wS d b w.2) (wS d b t0) s.heap.size) args s 0 0 A) (F0 m 69 ls [])) → ∀ (n : Nat) (t : SS) (x1 : Int32) (x2 : Int32) (x3 : Int32) (x4 : Int32) (H : Heap) (locs : List Loc) (ls : Array Slot), TH D A s.heap (wS d b t) H locs → lv_has ls 5 [(0, .ref (b 0)), (1, .int x1), (2, .int x2), (3, .int x3), (4, .int x4)] → fX2_sound_L15 N K n t x1 x2 x3 x4 = some w → W p l e (rm_ 1 21) s m args below meth c H locs 0 0 (MQ below (GQi D w.1 (wS d b w.2) (wS d b t0) s.heap.size) args s 0 0 A) (F0 m 15 ls []) := by
        intro K hE n
        induction n with
        | zero =>
          intro t x1 x2 x3 x4 H locs ls hT hl hf
          cases hf
        | succ n ih =>
          intro t x1 x2 x3 x4 H locs ls hT hl hf
          replace hf : fX2_sound_B15 N K (fX2_sound_L15 N K n) t x1 x2 x3 x4 = some w := hf
          unfold fX2_sound_B15 at hf
          refine lv_iload hx hb dX2_sound_15 (lv_at hl 4 rfl) ?_
          refine lv_bipush (v := 6) hx hb dX2_sound_17 (by decide) ?_
          refine lv_icmp_ge (tgt := 69) hx hb dX2_sound_19 (by decide) (fun hc => ?_) (fun hc => ?_)
          · have hf := ite_t hc hf
            exact hE t x1 x2 x3 _ _ _ hT (lv_sub hl [0, 1, 2, 3] rfl) hf
          · have hf := ite_f hc hf
            refine lv_iload_n hx hb dX2_sound_22 rfl (lv_at hl 1 rfl) ?_
            refine lv_iload_n hx hb dX2_sound_23 rfl (lv_at hl 3 rfl) ?_
            obtain ⟨w_24, h_24, hf⟩ := bind_e hf
            refine n_calli (vs := [.int x1, .int x3]) (rest := []) C (A_new hA0) hT (fun sz => mX0_has l N x1 x3 _ h_24 sz) ⟨va_cnB 2 C.2.2.2.2 (lw_meth q954) rfl rfl rfl (hX.2.1 _ q968 rfl) (C.2.2.2.2 _ q120) hdX0_has ⟨Nat.le_of_ble_eq_true rfl, Nat.le_of_ble_eq_true rfl⟩, C.2.2.2.2 _ q953, trivial⟩ rfl hl.1 rfl (Nat.le_of_ble_eq_true rfl) dX2_sound_24 ⟨Nat.zero_le _, Nat.zero_le _⟩ (fun H locs hT => ?_)
            refine lv_if_eq (tgt := 63) hx hb dX2_sound_27 (by decide) (fun hc => ?_) (fun hc => ?_)
            · have hf := ite_t hc hf
              obtain ⟨x4_63, ex⟩ : ∃ y : Int32, y = (x4 + (1 : Int32)) := ⟨_, rfl⟩
              have hf := lett_e ex hf
              refine lv_iinc (v := x4_63) (lv' := [(4, .int x4_63), (0, .ref (b 0)), (1, .int x1), (2, .int x2), (3, .int x3)]) hx hb dX2_sound_63 hl (k := 4) rfl (by rw [ex]; rfl) (by decide) rfl (fun ls hl => ?_)
              refine lv_goto (tgt := 15) hx hb dX2_sound_66 (by decide) ?_
              exact ih t x1 x2 x3 x4_63 _ _ _ hT (lv_sub hl [1, 2, 3, 4, 0] rfl) hf
            · have hf := ite_f hc hf
              refine lv_iload_n hx hb dX2_sound_30 rfl (lv_at hl 1 rfl) ?_
              refine lv_iload hx hb dX2_sound_31 (lv_at hl 4 rfl) ?_
              obtain ⟨w_33, h_33, hf⟩ := bind_e hf
              refine n_calli (vs := [.int x1, .int x4]) (rest := []) C (A_new hA0) hT (fun sz => mX0_has l N x1 x4 _ h_33 sz) ⟨va_cnB 2 C.2.2.2.2 (lw_meth q954) rfl rfl rfl (hX.2.1 _ q968 rfl) (C.2.2.2.2 _ q120) hdX0_has ⟨Nat.le_of_ble_eq_true rfl, Nat.le_of_ble_eq_true rfl⟩, C.2.2.2.2 _ q953, trivial⟩ rfl hl.1 rfl (Nat.le_of_ble_eq_true rfl) dX2_sound_33 ⟨Nat.zero_le _, Nat.zero_le _⟩ (fun H locs hT => ?_)
              refine lv_if_eq (tgt := 63) hx hb dX2_sound_36 (by decide) (fun hc => ?_) (fun hc => ?_)
              · have hf := ite_t hc hf
                obtain ⟨x4_63, ex⟩ : ∃ y : Int32, y = (x4 + (1 : Int32)) := ⟨_, rfl⟩
                have hf := lett_e ex hf
                refine lv_iinc (v := x4_63) (lv' := [(4, .int x4_63), (0, .ref (b 0)), (1, .int x1), (2, .int x2), (3, .int x3)]) hx hb dX2_sound_63 hl (k := 4) rfl (by rw [ex]; rfl) (by decide) rfl (fun ls hl => ?_)
                refine lv_goto (tgt := 15) hx hb dX2_sound_66 (by decide) ?_
                exact ih t x1 x2 x3 x4_63 _ _ _ hT (lv_sub hl [1, 2, 3, 4, 0] rfl) hf
              · have hf := ite_f hc hf
                refine lv_iload_n hx hb dX2_sound_39 rfl (lv_at hl 2 rfl) ?_
                refine g_sounds C hX hT.2.2 q969 dX2_sound_40 ?_
                refine lv_aload_n hx hb dX2_sound_43 rfl (lv_at hl 0 rfl) ?_
                refine r_get C hV (hT.atp 0 rfl) (ci := 2) rfl in_X2 2 (by decide) q231 rfl dX2_sound_44 ?_
                refine lv_iload_n hx hb dX2_sound_47 rfl (lv_at hl 3 rfl) ?_
                obtain ⟨hi, hf⟩ := ix_e hf
                refine r_ild C hV (hT.atp 3 rfl) _ hi rfl dX2_sound_48 ?_
                refine lv_aload_n hx hb dX2_sound_49 rfl (lv_at hl 0 rfl) ?_
                refine r_get C hV (hT.atp 0 rfl) (ci := 2) rfl in_X2 2 (by decide) q231 rfl dX2_sound_50 ?_
                refine lv_iload hx hb dX2_sound_53 (lv_at hl 4 rfl) ?_
                obtain ⟨hi, hf⟩ := ix_e hf
                refine r_ild C hV (hT.atp 3 rfl) _ hi rfl dX2_sound_55 ?_
                refine lv_isub hx hb dX2_sound_56 ?_
                refine g_abs C hl.1 q971 q972 q138 q973 (Nat.le_of_ble_eq_true rfl) (Nat.le_of_ble_eq_true rfl) ⟨Nat.zero_le _, Nat.zero_le _⟩ dX2_sound_57 ?_
                obtain ⟨hi, hf⟩ := ix_e hf
                refine g_sndld C hX hT.2.2 hi dX2_sound_60 ?_
                refine lv_iadd hx hb dX2_sound_61 ?_
                refine lv_topi (fun x2_62 ex => ?_)
                have hf := lett_e ex hf
                refine lv_istore_n (lv' := [(2, .int x2_62), (0, .ref (b 0)), (1, .int x1), (3, .int x3), (4, .int x4)]) hx hb dX2_sound_62 rfl hl (by decide) rfl (fun ls hl => ?_)
                obtain ⟨x4_63, ex⟩ : ∃ y : Int32, y = (x4 + (1 : Int32)) := ⟨_, rfl⟩
                have hf := lett_e ex hf
                refine lv_iinc (v := x4_63) (lv' := [(4, .int x4_63), (2, .int x2_62), (0, .ref (b 0)), (1, .int x1), (3, .int x3)]) hx hb dX2_sound_63 hl (k := 4) rfl (by rw [ex]; rfl) (by decide) rfl (fun ls hl => ?_)
                refine lv_goto (tgt := 15) hx hb dX2_sound_66 (by decide) ?_
                exact ih t x1 x2_62 x3 x4_63 _ _ _ hT (lv_sub hl [2, 3, 1, 4, 0] rfl) hf
      intro t x1 x2 x3 H locs ls hT hl hf
      replace hf : fX2_sound_B4 N K (fX2_sound_L4 N K n) t x1 x2 x3 = some w := hf
      unfold fX2_sound_B4 at hf
      refine lv_iload_n hx hb dX2_sound_4 rfl (lv_at hl 3 rfl) ?_
      refine lv_bipush (v := 6) hx hb dX2_sound_5 (by decide) ?_
      refine lv_icmp_ge (tgt := 75) hx hb dX2_sound_7 (by decide) (fun hc => ?_) (fun hc => ?_)
      · have hf := ite_t hc hf
        exact hE t x2 _ _ _ hT (lv_sub hl [2] rfl) hf
      · have hf := ite_f hc hf
        refine lv_iload_n hx hb dX2_sound_10 rfl (lv_at hl 3 rfl) ?_
        refine lv_iconst (v := 1) hx hb dX2_sound_11 (by decide) ?_
        refine lv_iadd hx hb dX2_sound_12 ?_
        refine lv_topi (fun x4_13 ex => ?_)
        have hf := lett_e ex hf
        refine lv_istore (lv' := [(4, .int x4_13), (0, .ref (b 0)), (1, .int x1), (2, .int x2), (3, .int x3)]) hx hb dX2_sound_13 hl (by decide) rfl (fun ls hl => ?_)
        refine hL15 _ (fun t x1 x2 x3 H locs ls hT hl hf => ?_) N t x1 x2 x3 x4_13 _ _ _ hT (lv_sub hl [1, 2, 3, 4, 0] rfl) hf
        obtain ⟨x3_69, ex⟩ : ∃ y : Int32, y = (x3 + (1 : Int32)) := ⟨_, rfl⟩
        have hf := lett_e ex hf
        refine lv_iinc (v := x3_69) (lv' := [(3, .int x3_69), (0, .ref (b 0)), (1, .int x1), (2, .int x2)]) hx hb dX2_sound_69 hl (k := 3) rfl (by rw [ex]; rfl) (by decide) rfl (fun ls hl => ?_)
        refine lv_goto (tgt := 4) hx hb dX2_sound_72 (by decide) ?_
        exact ih t x1 x2 x3_69 _ _ _ hT (lv_sub hl [1, 2, 3, 0] rfl) hf
  refine W.eq (by rw [hargs]) (t_in (vs := [.ref (b 0), .int x1]) (n := 5) (Nat.le_of_ble_eq_true rfl) (fun ls hl => ?_))
  have hl : lv_has ls 5 [(0, .ref (b 0)), (1, .int x1)] := hl
  unfold fX2_sound at hf
  refine lv_iconst (v := 0) hx hb dX2_sound_0 (by decide) ?_
  refine lv_istore_n (lv' := [(2, .int (0 : Int32)), (0, .ref (b 0)), (1, .int x1)]) hx hb dX2_sound_1 rfl hl (by decide) rfl (fun ls hl => ?_)
  refine lv_iconst (v := 0) hx hb dX2_sound_2 (by decide) ?_
  refine lv_istore_n (lv' := [(3, .int (0 : Int32)), (2, .int (0 : Int32)), (0, .ref (b 0)), (1, .int x1)]) hx hb dX2_sound_3 rfl hl (by decide) rfl (fun ls hl => ?_)
  refine hL4 _ (fun t x2 H locs ls hT hl hf => ?_) N t0 x1 (0 : Int32) (0 : Int32) _ _ _ hT (lv_sub hl [2, 3, 1, 0] rfl) hf
  refine lv_iload_n hx hb dX2_sound_75 rfl (lv_at hl 0 rfl) ?_
  exact f_iret (wS d b) hA0 C hT hf hr hlocks dX2_sound_76
def fX2_copyFrom_B2 (N : Nat) (S2 : SS) (K : SS → Option (SS)) (kb : SS → Int32 → Option (SS)) (t : SS) (x2 : Int32) : Option (SS) :=
  (if (6 : Int32) ≤ x2 then (K t) else (ix x2 6 (ix x2 6 (lett (ssA t 0 (x2).toNatClampNeg (S2.1 0 (x2).toNatClampNeg)) fun t_19 => (ix x2 6 (ix x2 6 (lett (ssA t_19 1 (x2).toNatClampNeg (S2.1 1 (x2).toNatClampNeg)) fun t_31 => (ix x2 6 (ix x2 6 (lett (ssA t_31 2 (x2).toNatClampNeg (S2.1 2 (x2).toNatClampNeg)) fun t_43 => (ix x2 6 (ix x2 6 (lett (ssA t_43 3 (x2).toNatClampNeg (S2.1 3 (x2).toNatClampNeg)) fun t_55 => (ix x2 6 (ix x2 6 (lett (ssA t_55 4 (x2).toNatClampNeg (S2.1 4 (x2).toNatClampNeg)) fun t_67 => (ix x2 6 (ix x2 6 (lett (ssA t_67 5 (x2).toNatClampNeg (S2.1 5 (x2).toNatClampNeg)) fun t_79 => (lett (x2 + (1 : Int32)) fun x2_80 => (kb t_79 x2_80)))))))))))))))))))))
def fX2_copyFrom_L2 (N : Nat) (S2 : SS) (K : SS → Option (SS)) : Nat → SS → Int32 → Option (SS)
  | 0 => fun _ _ => none
  | n + 1 => fun t x2 => fX2_copyFrom_B2 N S2 K (fX2_copyFrom_L2 N S2 K n) t x2
def fX2_copyFrom_B88 (N : Nat) (S2 : SS) (K : SS → Option (SS)) (kb : SS → Int32 → Option (SS)) (t : SS) (x2 : Int32) : Option (SS) :=
  (if (12 : Int32) ≤ x2 then (K t) else (ix x2 12 (ix x2 12 (lett (ssA t 6 (x2).toNatClampNeg (S2.1 6 (x2).toNatClampNeg)) fun t_105 => (lett (x2 + (1 : Int32)) fun x2_106 => (kb t_105 x2_106))))))
def fX2_copyFrom_L88 (N : Nat) (S2 : SS) (K : SS → Option (SS)) : Nat → SS → Int32 → Option (SS)
  | 0 => fun _ _ => none
  | n + 1 => fun t x2 => fX2_copyFrom_B88 N S2 K (fX2_copyFrom_L88 N S2 K n) t x2
def fX2_copyFrom (N : Nat) (S2 : SS) (t0 : SS) : Option (SS) :=
  (fX2_copyFrom_L2 N S2 (fun t => (fX2_copyFrom_L88 N S2 (fun t => (lett (ssI t 7 (S2.2 7)) fun t_117 => (lett (ssI t_117 8 (S2.2 8)) fun t_125 => (some t_125)))) N t (0 : Int32))) N t0 (0 : Int32))
theorem hdX2_copyFrom : yX2_copyFrom.cls = RX2 ∧ yX2_copyFrom.cls ≠ "java/lang/invoke/MethodHandle" ∧ yX2_copyFrom.cls ≠ "java/lang/invoke/VarHandle" ∧ (parseMethodDescriptor yX2_copyFrom.desc).map (fun d => d.parameters.length) = some 1 := by decide +kernel
set_option maxHeartbeats 4000000 in
theorem mX2_copyFrom (l : Launch) (D : va_G) (d : Nat → ClassId) (sd : Nat) (b : Nat → Nat) (b2 : Nat → Nat) (N : Nat) (S2 : SS) (t0 : SS) (w : SS) (hf : fX2_copyFrom N S2 t0 = some w) (sz : Nat) : Met l yX2_copyFrom (ws_ yX2_copyFrom cX2_copyFrom 3 none) (rm_ 0 0) (GPc D d sd [.ref (b 0), .ref (b2 0)] (wS d b t0) (SAt d b2 S2) sz) (GQv D (wS d b w) (wS d b t0) sz) 0 0 (va_A (wS d b t0) sz) := by
  refine Met.ofW (cc := cX2_copyFrom) (maxL := 3) (ret := none) plX2 rfl ?_
  intro p e s m args below meth c s₁ B hml hv
  obtain ⟨C, hX, hR, hT, hr, hlocks, hargs, rfl⟩ := g_enter (own := RX2) B hml rfl hv
  have hx := C.1
  have hb := C.2.1
  have hV := hX.1
  obtain ⟨A, hA0⟩ : ∃ A, A = va_A (wS d b t0) s.heap.size := ⟨_, rfl⟩
  rw [← hA0] at hX hR hT
  show W p l e (rm_ 0 0) s m args below meth c s.heap [] 0 0 (MQ below (GQv D (wS d b w) (wS d b t0) s.heap.size) args s 0 0 (va_A (wS d b t0) s.heap.size)) _
  rw [← hA0]
  have hL2 : ∀ (K : SS → Option (SS)), (∀ (t : SS) (H : Heap) (locs : List Loc) (ls : Array Slot), TH D A s.heap (wS d b t) H locs → lv_has ls 3 [(0, .ref (b 0)), (1, .ref (b2 0))] → K t = some w → W p l e (rm_ 0 0) s m args below meth c H locs 0 0 (MQ below (GQv D (wS d b w) (wS d b t0) s.heap.size) args s 0 0 A) (F0 m 86 ls [])) → ∀ (n : Nat) (t : SS) (x2 : Int32) (H : Heap) (locs : List Loc) (ls : Array Slot), TH D A s.heap (wS d b t) H locs → lv_has ls 3 [(0, .ref (b 0)), (1, .ref (b2 0)), (2, .int x2)] → fX2_copyFrom_L2 N S2 K n t x2 = some w → W p l e (rm_ 0 0) s m args below meth c H locs 0 0 (MQ below (GQv D (wS d b w) (wS d b t0) s.heap.size) args s 0 0 A) (F0 m 2 ls []) := by
    intro K hE n
    induction n with
    | zero =>
      intro t x2 H locs ls hT hl hf
      cases hf
    | succ n ih =>
      intro t x2 H locs ls hT hl hf
      replace hf : fX2_copyFrom_B2 N S2 K (fX2_copyFrom_L2 N S2 K n) t x2 = some w := hf
      unfold fX2_copyFrom_B2 at hf
      refine lv_iload_n hx hb dX2_copyFrom_2 rfl (lv_at hl 2 rfl) ?_
      refine lv_bipush (v := 6) hx hb dX2_copyFrom_3 (by decide) ?_
      refine lv_icmp_ge (tgt := 86) hx hb dX2_copyFrom_5 (by decide) (fun hc => ?_) (fun hc => ?_)
      · have hf := ite_t hc hf
        exact hE t _ _ _ hT (lv_sub hl [0, 1] rfl) hf
      · have hf := ite_f hc hf
        refine lv_aload_n hx hb dX2_copyFrom_8 rfl (lv_at hl 0 rfl) ?_
        refine r_get C hV (hT.atp 0 rfl) (ci := 2) rfl in_X2 0 (by decide) q227 rfl dX2_copyFrom_9 ?_
        refine lv_iload_n hx hb dX2_copyFrom_12 rfl (lv_at hl 2 rfl) ?_
        refine lv_aload_n hx hb dX2_copyFrom_13 rfl (lv_at hl 1 rfl) ?_
        refine r_get C hV (hR.at hT.2.2 0 rfl) (ci := 2) rfl in_X2 0 (by decide) q227 rfl dX2_copyFrom_14 ?_
        refine lv_iload_n hx hb dX2_copyFrom_17 rfl (lv_at hl 2 rfl) ?_
        obtain ⟨hi, hf⟩ := ix_e hf
        refine r_ild C hV (hR.at hT.2.2 1 rfl) _ hi rfl dX2_copyFrom_18 ?_
        obtain ⟨hi, hf⟩ := ix_e hf
        obtain ⟨t_19, et⟩ : ∃ y, y = (ssA t 0 (x2).toNatClampNeg (S2.1 0 (x2).toNatClampNeg)) := ⟨_, rfl⟩
        have hf := lett_e et hf
        refine w_ist (ws1 := (wS d b t_19)) C hV hT 1 _ rfl hi rfl (by rw [et]; exact upd_set hT.2.1 rfl (sast_0 d b t _ _)) dX2_copyFrom_19 (fun H locs hT => ?_)
        refine lv_aload_n hx hb dX2_copyFrom_20 rfl (lv_at hl 0 rfl) ?_
        refine r_get C hV (hT.atp 0 rfl) (ci := 2) rfl in_X2 1 (by decide) q229 rfl dX2_copyFrom_21 ?_
        refine lv_iload_n hx hb dX2_copyFrom_24 rfl (lv_at hl 2 rfl) ?_
        refine lv_aload_n hx hb dX2_copyFrom_25 rfl (lv_at hl 1 rfl) ?_
        refine r_get C hV (hR.at hT.2.2 0 rfl) (ci := 2) rfl in_X2 1 (by decide) q229 rfl dX2_copyFrom_26 ?_
        refine lv_iload_n hx hb dX2_copyFrom_29 rfl (lv_at hl 2 rfl) ?_
        obtain ⟨hi, hf⟩ := ix_e hf
        refine r_ild C hV (hR.at hT.2.2 2 rfl) _ hi rfl dX2_copyFrom_30 ?_
        obtain ⟨hi, hf⟩ := ix_e hf
        obtain ⟨t_31, et⟩ : ∃ y, y = (ssA t_19 1 (x2).toNatClampNeg (S2.1 1 (x2).toNatClampNeg)) := ⟨_, rfl⟩
        have hf := lett_e et hf
        refine w_ist (ws1 := (wS d b t_31)) C hV hT 2 _ rfl hi rfl (by rw [et]; exact upd_set hT.2.1 rfl (sast_1 d b t_19 _ _)) dX2_copyFrom_31 (fun H locs hT => ?_)
        refine lv_aload_n hx hb dX2_copyFrom_32 rfl (lv_at hl 0 rfl) ?_
        refine r_get C hV (hT.atp 0 rfl) (ci := 2) rfl in_X2 2 (by decide) q231 rfl dX2_copyFrom_33 ?_
        refine lv_iload_n hx hb dX2_copyFrom_36 rfl (lv_at hl 2 rfl) ?_
        refine lv_aload_n hx hb dX2_copyFrom_37 rfl (lv_at hl 1 rfl) ?_
        refine r_get C hV (hR.at hT.2.2 0 rfl) (ci := 2) rfl in_X2 2 (by decide) q231 rfl dX2_copyFrom_38 ?_
        refine lv_iload_n hx hb dX2_copyFrom_41 rfl (lv_at hl 2 rfl) ?_
        obtain ⟨hi, hf⟩ := ix_e hf
        refine r_ild C hV (hR.at hT.2.2 3 rfl) _ hi rfl dX2_copyFrom_42 ?_
        obtain ⟨hi, hf⟩ := ix_e hf
        obtain ⟨t_43, et⟩ : ∃ y, y = (ssA t_31 2 (x2).toNatClampNeg (S2.1 2 (x2).toNatClampNeg)) := ⟨_, rfl⟩
        have hf := lett_e et hf
        refine w_ist (ws1 := (wS d b t_43)) C hV hT 3 _ rfl hi rfl (by rw [et]; exact upd_set hT.2.1 rfl (sast_2 d b t_31 _ _)) dX2_copyFrom_43 (fun H locs hT => ?_)
        refine lv_aload_n hx hb dX2_copyFrom_44 rfl (lv_at hl 0 rfl) ?_
        refine r_get C hV (hT.atp 0 rfl) (ci := 2) rfl in_X2 3 (by decide) q233 rfl dX2_copyFrom_45 ?_
        refine lv_iload_n hx hb dX2_copyFrom_48 rfl (lv_at hl 2 rfl) ?_
        refine lv_aload_n hx hb dX2_copyFrom_49 rfl (lv_at hl 1 rfl) ?_
        refine r_get C hV (hR.at hT.2.2 0 rfl) (ci := 2) rfl in_X2 3 (by decide) q233 rfl dX2_copyFrom_50 ?_
        refine lv_iload_n hx hb dX2_copyFrom_53 rfl (lv_at hl 2 rfl) ?_
        obtain ⟨hi, hf⟩ := ix_e hf
        refine r_ild C hV (hR.at hT.2.2 4 rfl) _ hi rfl dX2_copyFrom_54 ?_
        obtain ⟨hi, hf⟩ := ix_e hf
        obtain ⟨t_55, et⟩ : ∃ y, y = (ssA t_43 3 (x2).toNatClampNeg (S2.1 3 (x2).toNatClampNeg)) := ⟨_, rfl⟩
        have hf := lett_e et hf
        refine w_ist (ws1 := (wS d b t_55)) C hV hT 4 _ rfl hi rfl (by rw [et]; exact upd_set hT.2.1 rfl (sast_3 d b t_43 _ _)) dX2_copyFrom_55 (fun H locs hT => ?_)
        refine lv_aload_n hx hb dX2_copyFrom_56 rfl (lv_at hl 0 rfl) ?_
        refine r_get C hV (hT.atp 0 rfl) (ci := 2) rfl in_X2 4 (by decide) q235 rfl dX2_copyFrom_57 ?_
        refine lv_iload_n hx hb dX2_copyFrom_60 rfl (lv_at hl 2 rfl) ?_
        refine lv_aload_n hx hb dX2_copyFrom_61 rfl (lv_at hl 1 rfl) ?_
        refine r_get C hV (hR.at hT.2.2 0 rfl) (ci := 2) rfl in_X2 4 (by decide) q235 rfl dX2_copyFrom_62 ?_
        refine lv_iload_n hx hb dX2_copyFrom_65 rfl (lv_at hl 2 rfl) ?_
        obtain ⟨hi, hf⟩ := ix_e hf
        refine r_ild C hV (hR.at hT.2.2 5 rfl) _ hi rfl dX2_copyFrom_66 ?_
        obtain ⟨hi, hf⟩ := ix_e hf
        obtain ⟨t_67, et⟩ : ∃ y, y = (ssA t_55 4 (x2).toNatClampNeg (S2.1 4 (x2).toNatClampNeg)) := ⟨_, rfl⟩
        have hf := lett_e et hf
        refine w_ist (ws1 := (wS d b t_67)) C hV hT 5 _ rfl hi rfl (by rw [et]; exact upd_set hT.2.1 rfl (sast_4 d b t_55 _ _)) dX2_copyFrom_67 (fun H locs hT => ?_)
        refine lv_aload_n hx hb dX2_copyFrom_68 rfl (lv_at hl 0 rfl) ?_
        refine r_get C hV (hT.atp 0 rfl) (ci := 2) rfl in_X2 5 (by decide) q237 rfl dX2_copyFrom_69 ?_
        refine lv_iload_n hx hb dX2_copyFrom_72 rfl (lv_at hl 2 rfl) ?_
        refine lv_aload_n hx hb dX2_copyFrom_73 rfl (lv_at hl 1 rfl) ?_
        refine r_get C hV (hR.at hT.2.2 0 rfl) (ci := 2) rfl in_X2 5 (by decide) q237 rfl dX2_copyFrom_74 ?_
        refine lv_iload_n hx hb dX2_copyFrom_77 rfl (lv_at hl 2 rfl) ?_
        obtain ⟨hi, hf⟩ := ix_e hf
        refine r_ild C hV (hR.at hT.2.2 6 rfl) _ hi rfl dX2_copyFrom_78 ?_
        obtain ⟨hi, hf⟩ := ix_e hf
        obtain ⟨t_79, et⟩ : ∃ y, y = (ssA t_67 5 (x2).toNatClampNeg (S2.1 5 (x2).toNatClampNeg)) := ⟨_, rfl⟩
        have hf := lett_e et hf
        refine w_ist (ws1 := (wS d b t_79)) C hV hT 6 _ rfl hi rfl (by rw [et]; exact upd_set hT.2.1 rfl (sast_5 d b t_67 _ _)) dX2_copyFrom_79 (fun H locs hT => ?_)
        obtain ⟨x2_80, ex⟩ : ∃ y : Int32, y = (x2 + (1 : Int32)) := ⟨_, rfl⟩
        have hf := lett_e ex hf
        refine lv_iinc (v := x2_80) (lv' := [(2, .int x2_80), (0, .ref (b 0)), (1, .ref (b2 0))]) hx hb dX2_copyFrom_80 hl (k := 2) rfl (by rw [ex]; rfl) (by decide) rfl (fun ls hl => ?_)
        refine lv_goto (tgt := 2) hx hb dX2_copyFrom_83 (by decide) ?_
        exact ih t_79 x2_80 _ _ _ hT (lv_sub hl [1, 2, 0] rfl) hf
  have hL88 : ∀ (K : SS → Option (SS)), (∀ (t : SS) (H : Heap) (locs : List Loc) (ls : Array Slot), TH D A s.heap (wS d b t) H locs → lv_has ls 3 [(0, .ref (b 0)), (1, .ref (b2 0))] → K t = some w → W p l e (rm_ 0 0) s m args below meth c H locs 0 0 (MQ below (GQv D (wS d b w) (wS d b t0) s.heap.size) args s 0 0 A) (F0 m 112 ls [])) → ∀ (n : Nat) (t : SS) (x2 : Int32) (H : Heap) (locs : List Loc) (ls : Array Slot), TH D A s.heap (wS d b t) H locs → lv_has ls 3 [(0, .ref (b 0)), (1, .ref (b2 0)), (2, .int x2)] → fX2_copyFrom_L88 N S2 K n t x2 = some w → W p l e (rm_ 0 0) s m args below meth c H locs 0 0 (MQ below (GQv D (wS d b w) (wS d b t0) s.heap.size) args s 0 0 A) (F0 m 88 ls []) := by
    intro K hE n
    induction n with
    | zero =>
      intro t x2 H locs ls hT hl hf
      cases hf
    | succ n ih =>
      intro t x2 H locs ls hT hl hf
      replace hf : fX2_copyFrom_B88 N S2 K (fX2_copyFrom_L88 N S2 K n) t x2 = some w := hf
      unfold fX2_copyFrom_B88 at hf
      refine lv_iload_n hx hb dX2_copyFrom_88 rfl (lv_at hl 2 rfl) ?_
      refine lv_bipush (v := 12) hx hb dX2_copyFrom_89 (by decide) ?_
      refine lv_icmp_ge (tgt := 112) hx hb dX2_copyFrom_91 (by decide) (fun hc => ?_) (fun hc => ?_)
      · have hf := ite_t hc hf
        exact hE t _ _ _ hT (lv_sub hl [0, 1] rfl) hf
      · have hf := ite_f hc hf
        refine lv_aload_n hx hb dX2_copyFrom_94 rfl (lv_at hl 0 rfl) ?_
        refine r_get C hV (hT.atp 0 rfl) (ci := 2) rfl in_X2 6 (by decide) q239 rfl dX2_copyFrom_95 ?_
        refine lv_iload_n hx hb dX2_copyFrom_98 rfl (lv_at hl 2 rfl) ?_
        refine lv_aload_n hx hb dX2_copyFrom_99 rfl (lv_at hl 1 rfl) ?_
        refine r_get C hV (hR.at hT.2.2 0 rfl) (ci := 2) rfl in_X2 6 (by decide) q239 rfl dX2_copyFrom_100 ?_
        refine lv_iload_n hx hb dX2_copyFrom_103 rfl (lv_at hl 2 rfl) ?_
        obtain ⟨hi, hf⟩ := ix_e hf
        refine r_ild C hV (hR.at hT.2.2 7 rfl) _ hi rfl dX2_copyFrom_104 ?_
        obtain ⟨hi, hf⟩ := ix_e hf
        obtain ⟨t_105, et⟩ : ∃ y, y = (ssA t 6 (x2).toNatClampNeg (S2.1 6 (x2).toNatClampNeg)) := ⟨_, rfl⟩
        have hf := lett_e et hf
        refine w_ist (ws1 := (wS d b t_105)) C hV hT 7 _ rfl hi rfl (by rw [et]; exact upd_set hT.2.1 rfl (sast_6 d b t _ _)) dX2_copyFrom_105 (fun H locs hT => ?_)
        obtain ⟨x2_106, ex⟩ : ∃ y : Int32, y = (x2 + (1 : Int32)) := ⟨_, rfl⟩
        have hf := lett_e ex hf
        refine lv_iinc (v := x2_106) (lv' := [(2, .int x2_106), (0, .ref (b 0)), (1, .ref (b2 0))]) hx hb dX2_copyFrom_106 hl (k := 2) rfl (by rw [ex]; rfl) (by decide) rfl (fun ls hl => ?_)
        refine lv_goto (tgt := 88) hx hb dX2_copyFrom_109 (by decide) ?_
        exact ih t_105 x2_106 _ _ _ hT (lv_sub hl [1, 2, 0] rfl) hf
  refine W.eq (by rw [hargs]) (t_in (vs := [.ref (b 0), .ref (b2 0)]) (n := 3) (Nat.le_of_ble_eq_true rfl) (fun ls hl => ?_))
  have hl : lv_has ls 3 [(0, .ref (b 0)), (1, .ref (b2 0))] := hl
  unfold fX2_copyFrom at hf
  refine lv_iconst (v := 0) hx hb dX2_copyFrom_0 (by decide) ?_
  refine lv_istore_n (lv' := [(2, .int (0 : Int32)), (0, .ref (b 0)), (1, .ref (b2 0))]) hx hb dX2_copyFrom_1 rfl hl (by decide) rfl (fun ls hl => ?_)
  refine hL2 _ (fun t H locs ls hT hl hf => ?_) N t0 (0 : Int32) _ _ _ hT (lv_sub hl [1, 2, 0] rfl) hf
  refine lv_iconst (v := 0) hx hb dX2_copyFrom_86 (by decide) ?_
  refine lv_istore_n (lv' := [(2, .int (0 : Int32)), (0, .ref (b 0)), (1, .ref (b2 0))]) hx hb dX2_copyFrom_87 rfl hl (by decide) rfl (fun ls hl => ?_)
  refine hL88 _ (fun t H locs ls hT hl hf => ?_) N t (0 : Int32) _ _ _ hT (lv_sub hl [1, 2, 0] rfl) hf
  refine lv_aload_n hx hb dX2_copyFrom_112 rfl (lv_at hl 0 rfl) ?_
  refine lv_aload_n hx hb dX2_copyFrom_113 rfl (lv_at hl 1 rfl) ?_
  refine r_get C hV (hR.at hT.2.2 0 rfl) (ci := 2) rfl in_X2 7 (by decide) q241 rfl dX2_copyFrom_114 ?_
  obtain ⟨t_117, et⟩ : ∃ y, y = (ssI t 7 (S2.2 7)) := ⟨_, rfl⟩
  have hf := lett_e et hf
  refine w_put C hV hT (ws1 := (wS d b t_117)) 0 rfl rfl in_X2 tyX2_ok nmX2 7 (by decide) q241 (by rw [et]; exact upd_set hT.2.1 rfl (sset_7 d b t _)) rfl rfl rfl rfl (Nat.le_of_ble_eq_true rfl) dX2_copyFrom_117 (fun H locs hT => ?_)
  refine lv_aload_n hx hb dX2_copyFrom_120 rfl (lv_at hl 0 rfl) ?_
  refine lv_aload_n hx hb dX2_copyFrom_121 rfl (lv_at hl 1 rfl) ?_
  refine r_get C hV (hR.at hT.2.2 0 rfl) (ci := 2) rfl in_X2 8 (by decide) q243 rfl dX2_copyFrom_122 ?_
  obtain ⟨t_125, et⟩ : ∃ y, y = (ssI t_117 8 (S2.2 8)) := ⟨_, rfl⟩
  have hf := lett_e et hf
  refine w_put C hV hT (ws1 := (wS d b t_125)) 0 rfl rfl in_X2 tyX2_ok nmX2 8 (by decide) q243 (by rw [et]; exact upd_set hT.2.1 rfl (sset_8 d b t_117 _)) rfl rfl rfl rfl (Nat.le_of_ble_eq_true rfl) dX2_copyFrom_125 (fun H locs hT => ?_)
  exact f_vret (wS d b) hA0 C hT hf hr hlocks dX2_copyFrom_128
def fX2_waits_B2 (N : Nat) (j : JS) (K : SS → Option (SS)) (kb : SS → Int32 → Option (SS)) (t : SS) (x2 : Int32) : Option (SS) :=
  ((fX1_roads N j).bind fun w_4 => (if w_4 ≤ x2 then (K t) else (ix x2 6 (ix x2 6 (ix x2 6 (lett (ssA t 4 (x2).toNatClampNeg (jmin (99999 : Int32) ((t.1 4 (x2).toNatClampNeg) + (t.1 0 (x2).toNatClampNeg)))) fun t_33 => (lett (x2 + (1 : Int32)) fun x2_34 => (kb t_33 x2_34))))))))
def fX2_waits_L2 (N : Nat) (j : JS) (K : SS → Option (SS)) : Nat → SS → Int32 → Option (SS)
  | 0 => fun _ _ => none
  | n + 1 => fun t x2 => fX2_waits_B2 N j K (fX2_waits_L2 N j K n) t x2
def fX2_waits (N : Nat) (j : JS) (t0 : SS) : Option (SS) :=
  (fX2_waits_L2 N j (fun t => (lett (ssI t 8 ((t.2 8) + (1 : Int32))) fun t_47 => (some t_47))) N t0 (0 : Int32))
theorem hdX2_waits : yX2_waits.cls = RX2 ∧ yX2_waits.cls ≠ "java/lang/invoke/MethodHandle" ∧ yX2_waits.cls ≠ "java/lang/invoke/VarHandle" ∧ (parseMethodDescriptor yX2_waits.desc).map (fun d => d.parameters.length) = some 1 := by decide +kernel
set_option maxHeartbeats 4000000 in
theorem mX2_waits (l : Launch) (D : va_G) (d : Nat → ClassId) (sd : Nat) (b : Nat → Nat) (ja : Nat → Nat) (N : Nat) (j : JS) (t0 : SS) (w : SS) (hf : fX2_waits N j t0 = some w) (sz : Nat) : Met l yX2_waits (ws_ yX2_waits cX2_waits 3 none) (rm_ 2 40) (GPc D d sd [.ref (b 0), .ref (ja 0)] (wS d b t0) (JAt d ja j) sz) (GQv D (wS d b w) (wS d b t0) sz) 0 0 (va_A (wS d b t0) sz) := by
  refine Met.ofW (cc := cX2_waits) (maxL := 3) (ret := none) plX2 rfl ?_
  intro p e s m args below meth c s₁ B hml hv
  obtain ⟨C, hX, hR, hT, hr, hlocks, hargs, rfl⟩ := g_enter (own := RX2) B hml rfl hv
  have hx := C.1
  have hb := C.2.1
  have hV := hX.1
  obtain ⟨A, hA0⟩ : ∃ A, A = va_A (wS d b t0) s.heap.size := ⟨_, rfl⟩
  rw [← hA0] at hX hR hT
  show W p l e (rm_ 2 40) s m args below meth c s.heap [] 0 0 (MQ below (GQv D (wS d b w) (wS d b t0) s.heap.size) args s 0 0 (va_A (wS d b t0) s.heap.size)) _
  rw [← hA0]
  have hJ := hR
  have hL2 : ∀ (K : SS → Option (SS)), (∀ (t : SS) (H : Heap) (locs : List Loc) (ls : Array Slot), TH D A s.heap (wS d b t) H locs → lv_has ls 3 [(0, .ref (b 0))] → K t = some w → W p l e (rm_ 2 40) s m args below meth c H locs 0 0 (MQ below (GQv D (wS d b w) (wS d b t0) s.heap.size) args s 0 0 A) (F0 m 40 ls [])) → ∀ (n : Nat) (t : SS) (x2 : Int32) (H : Heap) (locs : List Loc) (ls : Array Slot), TH D A s.heap (wS d b t) H locs → lv_has ls 3 [(0, .ref (b 0)), (1, .ref (ja 0)), (2, .int x2)] → fX2_waits_L2 N j K n t x2 = some w → W p l e (rm_ 2 40) s m args below meth c H locs 0 0 (MQ below (GQv D (wS d b w) (wS d b t0) s.heap.size) args s 0 0 A) (F0 m 2 ls []) := by
    intro K hE n
    induction n with
    | zero =>
      intro t x2 H locs ls hT hl hf
      cases hf
    | succ n ih =>
      intro t x2 H locs ls hT hl hf
      replace hf : fX2_waits_B2 N j K (fX2_waits_L2 N j K n) t x2 = some w := hf
      unfold fX2_waits_B2 at hf
      refine lv_iload_n hx hb dX2_waits_2 rfl (lv_at hl 2 rfl) ?_
      refine lv_aload_n hx hb dX2_waits_3 rfl (lv_at hl 1 rfl) ?_
      obtain ⟨w_4, h_4, hf⟩ := bind_e hf
      refine g_calli (vs := []) (rest := [.int x2]) C hX hT (A_new hA0) (Cut.none _) (hJ.step hT.2.2 (Anil (A_new hA0) hT.2.2.1)) (fun sz => mX1_roads l D d sd ja N j _ h_4 sz) (cwV 0 C.2.2.2.2 (lw_V q695 q584 q585 q121 q586) rfl rfl rfl hdX1_roads ⟨Nat.le_of_ble_eq_true rfl, Nat.le_of_ble_eq_true rfl⟩) (g_recv hV (hJ.1.at hT.2.2) (ci := 3) rfl) rfl hl.1 rfl (Nat.le_of_ble_eq_true rfl) dX2_waits_4 ⟨Nat.zero_le _, Nat.zero_le _⟩ (fun H locs hT => ?_)
      refine lv_icmp_ge (tgt := 40) hx hb dX2_waits_7 (by decide) (fun hc => ?_) (fun hc => ?_)
      · have hf := ite_t hc hf
        exact hE t _ _ _ hT (lv_sub hl [0] rfl) hf
      · have hf := ite_f hc hf
        refine lv_aload_n hx hb dX2_waits_10 rfl (lv_at hl 0 rfl) ?_
        refine r_get C hV (hT.atp 0 rfl) (ci := 2) rfl in_X2 4 (by decide) q235 rfl dX2_waits_11 ?_
        refine lv_iload_n hx hb dX2_waits_14 rfl (lv_at hl 2 rfl) ?_
        refine g_ldc (v := 99999) C q1027 dX2_waits_15 ?_
        refine lv_aload_n hx hb dX2_waits_17 rfl (lv_at hl 0 rfl) ?_
        refine r_get C hV (hT.atp 0 rfl) (ci := 2) rfl in_X2 4 (by decide) q235 rfl dX2_waits_18 ?_
        refine lv_iload_n hx hb dX2_waits_21 rfl (lv_at hl 2 rfl) ?_
        obtain ⟨hi, hf⟩ := ix_e hf
        refine r_ild C hV (hT.atp 5 rfl) _ hi rfl dX2_waits_22 ?_
        refine lv_aload_n hx hb dX2_waits_23 rfl (lv_at hl 0 rfl) ?_
        refine r_get C hV (hT.atp 0 rfl) (ci := 2) rfl in_X2 0 (by decide) q227 rfl dX2_waits_24 ?_
        refine lv_iload_n hx hb dX2_waits_27 rfl (lv_at hl 2 rfl) ?_
        obtain ⟨hi, hf⟩ := ix_e hf
        refine r_ild C hV (hT.atp 1 rfl) _ hi rfl dX2_waits_28 ?_
        refine lv_iadd hx hb dX2_waits_29 ?_
        refine g_min C hl.1 q898 q675 q138 q676 (Nat.le_of_ble_eq_true rfl) (Nat.le_of_ble_eq_true rfl) ⟨Nat.zero_le _, Nat.zero_le _⟩ dX2_waits_30 ?_
        obtain ⟨hi, hf⟩ := ix_e hf
        obtain ⟨t_33, et⟩ : ∃ y, y = (ssA t 4 (x2).toNatClampNeg (jmin (99999 : Int32) ((t.1 4 (x2).toNatClampNeg) + (t.1 0 (x2).toNatClampNeg)))) := ⟨_, rfl⟩
        have hf := lett_e et hf
        refine w_ist (ws1 := (wS d b t_33)) C hV hT 5 _ rfl hi rfl (by rw [et]; exact upd_set hT.2.1 rfl (sast_4 d b t _ _)) dX2_waits_33 (fun H locs hT => ?_)
        obtain ⟨x2_34, ex⟩ : ∃ y : Int32, y = (x2 + (1 : Int32)) := ⟨_, rfl⟩
        have hf := lett_e ex hf
        refine lv_iinc (v := x2_34) (lv' := [(2, .int x2_34), (0, .ref (b 0)), (1, .ref (ja 0))]) hx hb dX2_waits_34 hl (k := 2) rfl (by rw [ex]; rfl) (by decide) rfl (fun ls hl => ?_)
        refine lv_goto (tgt := 2) hx hb dX2_waits_37 (by decide) ?_
        exact ih t_33 x2_34 _ _ _ hT (lv_sub hl [1, 2, 0] rfl) hf
  refine W.eq (by rw [hargs]) (t_in (vs := [.ref (b 0), .ref (ja 0)]) (n := 3) (Nat.le_of_ble_eq_true rfl) (fun ls hl => ?_))
  have hl : lv_has ls 3 [(0, .ref (b 0)), (1, .ref (ja 0))] := hl
  unfold fX2_waits at hf
  refine lv_iconst (v := 0) hx hb dX2_waits_0 (by decide) ?_
  refine lv_istore_n (lv' := [(2, .int (0 : Int32)), (0, .ref (b 0)), (1, .ref (ja 0))]) hx hb dX2_waits_1 rfl hl (by decide) rfl (fun ls hl => ?_)
  refine hL2 _ (fun t H locs ls hT hl hf => ?_) N t0 (0 : Int32) _ _ _ hT (lv_sub hl [1, 2, 0] rfl) hf
  refine lv_aload_n hx hb dX2_waits_40 rfl (lv_at hl 0 rfl) ?_
  refine lv_dup hx hb dX2_waits_41 rfl ?_
  refine r_get C hV (hT.atp 0 rfl) (ci := 2) rfl in_X2 8 (by decide) q243 rfl dX2_waits_42 ?_
  refine lv_iconst (v := 1) hx hb dX2_waits_45 (by decide) ?_
  refine lv_iadd hx hb dX2_waits_46 ?_
  obtain ⟨t_47, et⟩ : ∃ y, y = (ssI t 8 ((t.2 8) + (1 : Int32))) := ⟨_, rfl⟩
  have hf := lett_e et hf
  refine w_put C hV hT (ws1 := (wS d b t_47)) 0 rfl rfl in_X2 tyX2_ok nmX2 8 (by decide) q243 (by rw [et]; exact upd_set hT.2.1 rfl (sset_8 d b t _)) rfl rfl rfl rfl (Nat.le_of_ble_eq_true rfl) dX2_waits_47 (fun H locs hT => ?_)
  exact f_vret (wS d b) hA0 C hT hf hr hlocks dX2_waits_50
