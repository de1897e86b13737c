set_option maxRecDepth 100000
section GR2
variable {p : Program} {l : Launch} {e : Env} {R : Room} {s : State} {m : MethodId} {args : Array Value} {below : List Frame} {meth : Method} {c : Code} {H : Heap} {locs : List Loc} {cells slots : Nat} {Q : State → Prop}
variable {cc : ByteArray} {nL pc : Nat} {ls : Array Slot} {rest : List Value} {D : va_G} {d : Nat → ClassId} {sd : Nat} {A : Nat → Prop} {own : String} {ws ws0 : va_W}
theorem f_iret {σ : Type} {v : Int32} {t : σ} {w : Int32 × σ} (F : σ → va_W) (hA0 : A = va_A ws0 s.heap.size) (C : CallFix p m c cc nL s args lw_all own) (hT : TH D A s.heap (F t) H locs) (hf : some (v, t) = some w) (hr : meth.sig.returnType = some .int) (hlocks : meth.locks = false) (hdg : decode cc pc = .ok (.ireturn, 1)) : W p l e R s m args below meth c H locs 0 0 (MQ below (GQi D w.1 (F w.2) ws0 s.heap.size) args s 0 0 A) (F0 m pc ls [.int v]) := by
  subst hA0; cases hf; exact g_iret C hT hr hlocks hdg
theorem f_zret {σ : Type} {v : Int32} {t : σ} {w : Int32 × σ} (F : σ → va_W) (hA0 : A = va_A ws0 s.heap.size) (C : CallFix p m c cc nL s args lw_all own) (hT : TH D A s.heap (F t) H locs) (hf : some (v, t) = some w) (hz : v = 0 ∨ v = 1) (hr : meth.sig.returnType = some .boolean) (hlocks : meth.locks = false) (hdg : decode cc pc = .ok (.ireturn, 1)) : W p l e R s m args below meth c H locs 0 0 (MQ below (GQi D w.1 (F w.2) ws0 s.heap.size) args s 0 0 A) (F0 m pc ls [.int v]) := by
  subst hA0; cases hf; exact g_zret C hT hz hr hlocks hdg
theorem f_vret {σ : Type} {t : σ} {w : σ} (F : σ → va_W) (hA0 : A = va_A ws0 s.heap.size) (C : CallFix p m c cc nL s args lw_all own) (hT : TH D A s.heap (F t) H locs) (hf : some t = some w) (hr : meth.sig.returnType = none) (hlocks : meth.locks = false) (hdg : decode cc pc = .ok (.return_, 1)) : W p l e R s m args below meth c H locs 0 0 (MQ below (GQv D (F w) ws0 s.heap.size) args s 0 0 A) (F0 m pc ls []) := by
  subst hA0; cases hf; exact g_vret C hT hr hlocks hdg
theorem n_iret {v w : Int32} (hA0 : A = va_A [] s.heap.size) (C : CallFix p m c cc nL s args lw_all own) (hT : TH D A s.heap [] H locs) (hf : some v = some w) (hr : meth.sig.returnType = some .int) (hlocks : meth.locks = false) (hdg : decode cc pc = .ok (.ireturn, 1)) : W p l e R s m args below meth c H locs 0 0 (MQ below (GQi D w [] [] s.heap.size) args s 0 0 A) (F0 m pc ls [.int v]) := by
  subst hA0; cases hf; exact g_iret C hT hr hlocks hdg
theorem n_zret {v w : Int32} (hA0 : A = va_A [] s.heap.size) (C : CallFix p m c cc nL s args lw_all own) (hT : TH D A s.heap [] H locs) (hf : some v = some w) (hz : v = 0 ∨ v = 1) (hr : meth.sig.returnType = some .boolean) (hlocks : meth.locks = false) (hdg : decode cc pc = .ok (.ireturn, 1)) : W p l e R s m args below meth c H locs 0 0 (MQ below (GQi D w [] [] s.heap.size) args s 0 0 A) (F0 m pc ls [.int v]) := by
  subst hA0; cases hf; exact g_zret C hT hz hr hlocks hdg
theorem A_new {ws0 : va_W} {n : Nat} (hA0 : A = va_A ws0 n) (q : Nat) (h : n ≤ q) : A q := by rw [hA0, va_A_map]; exact Or.inr h
end GR2
