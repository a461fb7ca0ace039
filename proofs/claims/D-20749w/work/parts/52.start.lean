/-! Program.start (printed by gen/start.py) -/
set_option maxRecDepth 100000
set_option maxHeartbeats 4000000
def HZ (g : Nat → Nat → Value) (c0 s0 : Nat) (bg : Nat) (mf : Int32) (b8 : Int32) (sta : Int32) (trp : Int32) (st : Int32) (mo : Int32) (pl : Int32) (i15 : Int32) (on : Int32) (i19 : Int32) (i20 : Int32) (ix : Int32) (sp : Int32) (pc : Int32) (stp : Int32) (pr : Int32) (pc2 : Int32) (b0 : Int32) (mm : Nat → Int32) (im : Nat → Int32) (oa : Nat → Int32) : am_H := (c0, s0, fun a k => if a = 124285616140 then (if k = 0 then .ref 124302393357 else if k = 1 then .ref 124373696553 else if k = 2 then .int (Int32.ofNat bg) else if k = 3 then .int 1 else if k = 4 then .ref 124386280296 else if k = 7 then .ref 124419834728 else if k = 16 then .ref 124436739113 else if k = 12 then .int 0 else if k = 8 then .int b8 else if k = 9 then .int sta else if k = 10 then .int trp else if k = 11 then .int st else if k = 13 then .int mo else if k = 14 then .int pl else if k = 15 then .int i15 else if k = 18 then .int on else if k = 19 then .int i19 else if k = 20 then .int i20 else g a k) else if a = 124302393357 then (if k = 0 then .ref 124323364905 else if k = 1 then .ref 124335948328 else if k = 2 then .ref 124352725544 else if k = 8 then .ref 124285616140 else if k = 3 then .int ix else if k = 5 then .int sp else if k = 6 then .int pc else if k = 7 then .int stp else if k = 9 then .int pr else if k = 10 then .int pc2 else g a k) else if a = 124335948328 then (if k = 0 then .int 0 else if k = 1 then .int 0 else if k = 2 then .int 0 else if k = 3 then .int 0 else if k = 4 then .int 0 else if k = 5 then .int 0 else if k = 6 then .int 0 else if k = 7 then .int 0 else g a k) else if a = 124386280296 then (if k = 0 then .int mf else g a k) else if a = 124419834728 then (if k = 0 then .int b0 else g a k) else if a = 124323364905 then .int (mm k) else if a = 124373696553 then .int (im k) else if a = 124436739113 then .int (oa k) else g a k)
theorem HZ_r0 {g : Nat → Nat → Value} {c0 s0 : Nat} {bg : Nat} {mf : Int32} {b8 : Int32} {sta : Int32} {trp : Int32} {st : Int32} {mo : Int32} {pl : Int32} {i15 : Int32} {on : Int32} {i19 : Int32} {i20 : Int32} {ix : Int32} {sp : Int32} {pc : Int32} {stp : Int32} {pr : Int32} {pc2 : Int32} {b0 : Int32} {mm : Nat → Int32} {im : Nat → Int32} {oa : Nat → Int32} : am_g (HZ g c0 s0 bg mf b8 sta trp st mo pl i15 on i19 i20 ix sp pc stp pr pc2 b0 mm im oa) 124285616140 0 = .ref 124302393357 := rfl
theorem HZ_r1 {g : Nat → Nat → Value} {c0 s0 : Nat} {bg : Nat} {mf : Int32} {b8 : Int32} {sta : Int32} {trp : Int32} {st : Int32} {mo : Int32} {pl : Int32} {i15 : Int32} {on : Int32} {i19 : Int32} {i20 : Int32} {ix : Int32} {sp : Int32} {pc : Int32} {stp : Int32} {pr : Int32} {pc2 : Int32} {b0 : Int32} {mm : Nat → Int32} {im : Nat → Int32} {oa : Nat → Int32} : am_g (HZ g c0 s0 bg mf b8 sta trp st mo pl i15 on i19 i20 ix sp pc stp pr pc2 b0 mm im oa) 124285616140 1 = .ref 124373696553 := rfl
theorem HZ_r2 {g : Nat → Nat → Value} {c0 s0 : Nat} {bg : Nat} {mf : Int32} {b8 : Int32} {sta : Int32} {trp : Int32} {st : Int32} {mo : Int32} {pl : Int32} {i15 : Int32} {on : Int32} {i19 : Int32} {i20 : Int32} {ix : Int32} {sp : Int32} {pc : Int32} {stp : Int32} {pr : Int32} {pc2 : Int32} {b0 : Int32} {mm : Nat → Int32} {im : Nat → Int32} {oa : Nat → Int32} : am_g (HZ g c0 s0 bg mf b8 sta trp st mo pl i15 on i19 i20 ix sp pc stp pr pc2 b0 mm im oa) 124285616140 2 = .int (Int32.ofNat bg) := rfl
theorem HZ_r3 {g : Nat → Nat → Value} {c0 s0 : Nat} {bg : Nat} {mf : Int32} {b8 : Int32} {sta : Int32} {trp : Int32} {st : Int32} {mo : Int32} {pl : Int32} {i15 : Int32} {on : Int32} {i19 : Int32} {i20 : Int32} {ix : Int32} {sp : Int32} {pc : Int32} {stp : Int32} {pr : Int32} {pc2 : Int32} {b0 : Int32} {mm : Nat → Int32} {im : Nat → Int32} {oa : Nat → Int32} : am_g (HZ g c0 s0 bg mf b8 sta trp st mo pl i15 on i19 i20 ix sp pc stp pr pc2 b0 mm im oa) 124285616140 3 = .int 1 := rfl
theorem HZ_r4 {g : Nat → Nat → Value} {c0 s0 : Nat} {bg : Nat} {mf : Int32} {b8 : Int32} {sta : Int32} {trp : Int32} {st : Int32} {mo : Int32} {pl : Int32} {i15 : Int32} {on : Int32} {i19 : Int32} {i20 : Int32} {ix : Int32} {sp : Int32} {pc : Int32} {stp : Int32} {pr : Int32} {pc2 : Int32} {b0 : Int32} {mm : Nat → Int32} {im : Nat → Int32} {oa : Nat → Int32} : am_g (HZ g c0 s0 bg mf b8 sta trp st mo pl i15 on i19 i20 ix sp pc stp pr pc2 b0 mm im oa) 124285616140 4 = .ref 124386280296 := rfl
theorem HZ_r5 {g : Nat → Nat → Value} {c0 s0 : Nat} {bg : Nat} {mf : Int32} {b8 : Int32} {sta : Int32} {trp : Int32} {st : Int32} {mo : Int32} {pl : Int32} {i15 : Int32} {on : Int32} {i19 : Int32} {i20 : Int32} {ix : Int32} {sp : Int32} {pc : Int32} {stp : Int32} {pr : Int32} {pc2 : Int32} {b0 : Int32} {mm : Nat → Int32} {im : Nat → Int32} {oa : Nat → Int32} : am_g (HZ g c0 s0 bg mf b8 sta trp st mo pl i15 on i19 i20 ix sp pc stp pr pc2 b0 mm im oa) 124285616140 7 = .ref 124419834728 := rfl
theorem HZ_r6 {g : Nat → Nat → Value} {c0 s0 : Nat} {bg : Nat} {mf : Int32} {b8 : Int32} {sta : Int32} {trp : Int32} {st : Int32} {mo : Int32} {pl : Int32} {i15 : Int32} {on : Int32} {i19 : Int32} {i20 : Int32} {ix : Int32} {sp : Int32} {pc : Int32} {stp : Int32} {pr : Int32} {pc2 : Int32} {b0 : Int32} {mm : Nat → Int32} {im : Nat → Int32} {oa : Nat → Int32} : am_g (HZ g c0 s0 bg mf b8 sta trp st mo pl i15 on i19 i20 ix sp pc stp pr pc2 b0 mm im oa) 124285616140 16 = .ref 124436739113 := rfl
theorem HZ_r7 {g : Nat → Nat → Value} {c0 s0 : Nat} {bg : Nat} {mf : Int32} {b8 : Int32} {sta : Int32} {trp : Int32} {st : Int32} {mo : Int32} {pl : Int32} {i15 : Int32} {on : Int32} {i19 : Int32} {i20 : Int32} {ix : Int32} {sp : Int32} {pc : Int32} {stp : Int32} {pr : Int32} {pc2 : Int32} {b0 : Int32} {mm : Nat → Int32} {im : Nat → Int32} {oa : Nat → Int32} : am_g (HZ g c0 s0 bg mf b8 sta trp st mo pl i15 on i19 i20 ix sp pc stp pr pc2 b0 mm im oa) 124285616140 12 = .int 0 := rfl
theorem HZ_r8 {g : Nat → Nat → Value} {c0 s0 : Nat} {bg : Nat} {mf : Int32} {b8 : Int32} {sta : Int32} {trp : Int32} {st : Int32} {mo : Int32} {pl : Int32} {i15 : Int32} {on : Int32} {i19 : Int32} {i20 : Int32} {ix : Int32} {sp : Int32} {pc : Int32} {stp : Int32} {pr : Int32} {pc2 : Int32} {b0 : Int32} {mm : Nat → Int32} {im : Nat → Int32} {oa : Nat → Int32} : am_g (HZ g c0 s0 bg mf b8 sta trp st mo pl i15 on i19 i20 ix sp pc stp pr pc2 b0 mm im oa) 124285616140 8 = .int b8 := rfl
theorem HZ_w8 {g : Nat → Nat → Value} {c0 s0 : Nat} {bg : Nat} {mf : Int32} {b8 : Int32} {sta : Int32} {trp : Int32} {st : Int32} {mo : Int32} {pl : Int32} {i15 : Int32} {on : Int32} {i19 : Int32} {i20 : Int32} {ix : Int32} {sp : Int32} {pc : Int32} {stp : Int32} {pr : Int32} {pc2 : Int32} {b0 : Int32} {mm : Nat → Int32} {im : Nat → Int32} {oa : Nat → Int32} {w : Int32} : am_p (HZ g c0 s0 bg mf b8 sta trp st mo pl i15 on i19 i20 ix sp pc stp pr pc2 b0 mm im oa) 124285616140 8 (.int w) = HZ g c0 s0 bg mf w sta trp st mo pl i15 on i19 i20 ix sp pc stp pr pc2 b0 mm im oa := by
  refine Prod.ext rfl (Prod.ext rfl ?_)
  funext b j
  show (if b = 124285616140 ∧ j = 8 then _ else (HZ g c0 s0 bg mf b8 sta trp st mo pl i15 on i19 i20 ix sp pc stp pr pc2 b0 mm im oa).2.2 b j) = (HZ g c0 s0 bg mf w sta trp st mo pl i15 on i19 i20 ix sp pc stp pr pc2 b0 mm im oa).2.2 b j
  by_cases h : b = 124285616140
  · subst h
    by_cases h2 : j = 8
    · subst h2; rfl
    · simp [HZ, h2]
  · simp [HZ, h]
theorem HZ_r9 {g : Nat → Nat → Value} {c0 s0 : Nat} {bg : Nat} {mf : Int32} {b8 : Int32} {sta : Int32} {trp : Int32} {st : Int32} {mo : Int32} {pl : Int32} {i15 : Int32} {on : Int32} {i19 : Int32} {i20 : Int32} {ix : Int32} {sp : Int32} {pc : Int32} {stp : Int32} {pr : Int32} {pc2 : Int32} {b0 : Int32} {mm : Nat → Int32} {im : Nat → Int32} {oa : Nat → Int32} : am_g (HZ g c0 s0 bg mf b8 sta trp st mo pl i15 on i19 i20 ix sp pc stp pr pc2 b0 mm im oa) 124285616140 9 = .int sta := rfl
theorem HZ_w9 {g : Nat → Nat → Value} {c0 s0 : Nat} {bg : Nat} {mf : Int32} {b8 : Int32} {sta : Int32} {trp : Int32} {st : Int32} {mo : Int32} {pl : Int32} {i15 : Int32} {on : Int32} {i19 : Int32} {i20 : Int32} {ix : Int32} {sp : Int32} {pc : Int32} {stp : Int32} {pr : Int32} {pc2 : Int32} {b0 : Int32} {mm : Nat → Int32} {im : Nat → Int32} {oa : Nat → Int32} {w : Int32} : am_p (HZ g c0 s0 bg mf b8 sta trp st mo pl i15 on i19 i20 ix sp pc stp pr pc2 b0 mm im oa) 124285616140 9 (.int w) = HZ g c0 s0 bg mf b8 w trp st mo pl i15 on i19 i20 ix sp pc stp pr pc2 b0 mm im oa := by
  refine Prod.ext rfl (Prod.ext rfl ?_)
  funext b j
  show (if b = 124285616140 ∧ j = 9 then _ else (HZ g c0 s0 bg mf b8 sta trp st mo pl i15 on i19 i20 ix sp pc stp pr pc2 b0 mm im oa).2.2 b j) = (HZ g c0 s0 bg mf b8 w trp st mo pl i15 on i19 i20 ix sp pc stp pr pc2 b0 mm im oa).2.2 b j
  by_cases h : b = 124285616140
  · subst h
    by_cases h2 : j = 9
    · subst h2; rfl
    · simp [HZ, h2]
  · simp [HZ, h]
theorem HZ_r10 {g : Nat → Nat → Value} {c0 s0 : Nat} {bg : Nat} {mf : Int32} {b8 : Int32} {sta : Int32} {trp : Int32} {st : Int32} {mo : Int32} {pl : Int32} {i15 : Int32} {on : Int32} {i19 : Int32} {i20 : Int32} {ix : Int32} {sp : Int32} {pc : Int32} {stp : Int32} {pr : Int32} {pc2 : Int32} {b0 : Int32} {mm : Nat → Int32} {im : Nat → Int32} {oa : Nat → Int32} : am_g (HZ g c0 s0 bg mf b8 sta trp st mo pl i15 on i19 i20 ix sp pc stp pr pc2 b0 mm im oa) 124285616140 10 = .int trp := rfl
theorem HZ_w10 {g : Nat → Nat → Value} {c0 s0 : Nat} {bg : Nat} {mf : Int32} {b8 : Int32} {sta : Int32} {trp : Int32} {st : Int32} {mo : Int32} {pl : Int32} {i15 : Int32} {on : Int32} {i19 : Int32} {i20 : Int32} {ix : Int32} {sp : Int32} {pc : Int32} {stp : Int32} {pr : Int32} {pc2 : Int32} {b0 : Int32} {mm : Nat → Int32} {im : Nat → Int32} {oa : Nat → Int32} {w : Int32} : am_p (HZ g c0 s0 bg mf b8 sta trp st mo pl i15 on i19 i20 ix sp pc stp pr pc2 b0 mm im oa) 124285616140 10 (.int w) = HZ g c0 s0 bg mf b8 sta w st mo pl i15 on i19 i20 ix sp pc stp pr pc2 b0 mm im oa := by
  refine Prod.ext rfl (Prod.ext rfl ?_)
  funext b j
  show (if b = 124285616140 ∧ j = 10 then _ else (HZ g c0 s0 bg mf b8 sta trp st mo pl i15 on i19 i20 ix sp pc stp pr pc2 b0 mm im oa).2.2 b j) = (HZ g c0 s0 bg mf b8 sta w st mo pl i15 on i19 i20 ix sp pc stp pr pc2 b0 mm im oa).2.2 b j
  by_cases h : b = 124285616140
  · subst h
    by_cases h2 : j = 10
    · subst h2; rfl
    · simp [HZ, h2]
  · simp [HZ, h]
theorem HZ_r11 {g : Nat → Nat → Value} {c0 s0 : Nat} {bg : Nat} {mf : Int32} {b8 : Int32} {sta : Int32} {trp : Int32} {st : Int32} {mo : Int32} {pl : Int32} {i15 : Int32} {on : Int32} {i19 : Int32} {i20 : Int32} {ix : Int32} {sp : Int32} {pc : Int32} {stp : Int32} {pr : Int32} {pc2 : Int32} {b0 : Int32} {mm : Nat → Int32} {im : Nat → Int32} {oa : Nat → Int32} : am_g (HZ g c0 s0 bg mf b8 sta trp st mo pl i15 on i19 i20 ix sp pc stp pr pc2 b0 mm im oa) 124285616140 11 = .int st := rfl
theorem HZ_w11 {g : Nat → Nat → Value} {c0 s0 : Nat} {bg : Nat} {mf : Int32} {b8 : Int32} {sta : Int32} {trp : Int32} {st : Int32} {mo : Int32} {pl : Int32} {i15 : Int32} {on : Int32} {i19 : Int32} {i20 : Int32} {ix : Int32} {sp : Int32} {pc : Int32} {stp : Int32} {pr : Int32} {pc2 : Int32} {b0 : Int32} {mm : Nat → Int32} {im : Nat → Int32} {oa : Nat → Int32} {w : Int32} : am_p (HZ g c0 s0 bg mf b8 sta trp st mo pl i15 on i19 i20 ix sp pc stp pr pc2 b0 mm im oa) 124285616140 11 (.int w) = HZ g c0 s0 bg mf b8 sta trp w mo pl i15 on i19 i20 ix sp pc stp pr pc2 b0 mm im oa := by
  refine Prod.ext rfl (Prod.ext rfl ?_)
  funext b j
  show (if b = 124285616140 ∧ j = 11 then _ else (HZ g c0 s0 bg mf b8 sta trp st mo pl i15 on i19 i20 ix sp pc stp pr pc2 b0 mm im oa).2.2 b j) = (HZ g c0 s0 bg mf b8 sta trp w mo pl i15 on i19 i20 ix sp pc stp pr pc2 b0 mm im oa).2.2 b j
  by_cases h : b = 124285616140
  · subst h
    by_cases h2 : j = 11
    · subst h2; rfl
    · simp [HZ, h2]
  · simp [HZ, h]
theorem HZ_r12 {g : Nat → Nat → Value} {c0 s0 : Nat} {bg : Nat} {mf : Int32} {b8 : Int32} {sta : Int32} {trp : Int32} {st : Int32} {mo : Int32} {pl : Int32} {i15 : Int32} {on : Int32} {i19 : Int32} {i20 : Int32} {ix : Int32} {sp : Int32} {pc : Int32} {stp : Int32} {pr : Int32} {pc2 : Int32} {b0 : Int32} {mm : Nat → Int32} {im : Nat → Int32} {oa : Nat → Int32} : am_g (HZ g c0 s0 bg mf b8 sta trp st mo pl i15 on i19 i20 ix sp pc stp pr pc2 b0 mm im oa) 124285616140 13 = .int mo := rfl
theorem HZ_w12 {g : Nat → Nat → Value} {c0 s0 : Nat} {bg : Nat} {mf : Int32} {b8 : Int32} {sta : Int32} {trp : Int32} {st : Int32} {mo : Int32} {pl : Int32} {i15 : Int32} {on : Int32} {i19 : Int32} {i20 : Int32} {ix : Int32} {sp : Int32} {pc : Int32} {stp : Int32} {pr : Int32} {pc2 : Int32} {b0 : Int32} {mm : Nat → Int32} {im : Nat → Int32} {oa : Nat → Int32} {w : Int32} : am_p (HZ g c0 s0 bg mf b8 sta trp st mo pl i15 on i19 i20 ix sp pc stp pr pc2 b0 mm im oa) 124285616140 13 (.int w) = HZ g c0 s0 bg mf b8 sta trp st w pl i15 on i19 i20 ix sp pc stp pr pc2 b0 mm im oa := by
  refine Prod.ext rfl (Prod.ext rfl ?_)
  funext b j
  show (if b = 124285616140 ∧ j = 13 then _ else (HZ g c0 s0 bg mf b8 sta trp st mo pl i15 on i19 i20 ix sp pc stp pr pc2 b0 mm im oa).2.2 b j) = (HZ g c0 s0 bg mf b8 sta trp st w pl i15 on i19 i20 ix sp pc stp pr pc2 b0 mm im oa).2.2 b j
  by_cases h : b = 124285616140
  · subst h
    by_cases h2 : j = 13
    · subst h2; rfl
    · simp [HZ, h2]
  · simp [HZ, h]
theorem HZ_r13 {g : Nat → Nat → Value} {c0 s0 : Nat} {bg : Nat} {mf : Int32} {b8 : Int32} {sta : Int32} {trp : Int32} {st : Int32} {mo : Int32} {pl : Int32} {i15 : Int32} {on : Int32} {i19 : Int32} {i20 : Int32} {ix : Int32} {sp : Int32} {pc : Int32} {stp : Int32} {pr : Int32} {pc2 : Int32} {b0 : Int32} {mm : Nat → Int32} {im : Nat → Int32} {oa : Nat → Int32} : am_g (HZ g c0 s0 bg mf b8 sta trp st mo pl i15 on i19 i20 ix sp pc stp pr pc2 b0 mm im oa) 124285616140 14 = .int pl := rfl
theorem HZ_w13 {g : Nat → Nat → Value} {c0 s0 : Nat} {bg : Nat} {mf : Int32} {b8 : Int32} {sta : Int32} {trp : Int32} {st : Int32} {mo : Int32} {pl : Int32} {i15 : Int32} {on : Int32} {i19 : Int32} {i20 : Int32} {ix : Int32} {sp : Int32} {pc : Int32} {stp : Int32} {pr : Int32} {pc2 : Int32} {b0 : Int32} {mm : Nat → Int32} {im : Nat → Int32} {oa : Nat → Int32} {w : Int32} : am_p (HZ g c0 s0 bg mf b8 sta trp st mo pl i15 on i19 i20 ix sp pc stp pr pc2 b0 mm im oa) 124285616140 14 (.int w) = HZ g c0 s0 bg mf b8 sta trp st mo w i15 on i19 i20 ix sp pc stp pr pc2 b0 mm im oa := by
  refine Prod.ext rfl (Prod.ext rfl ?_)
  funext b j
  show (if b = 124285616140 ∧ j = 14 then _ else (HZ g c0 s0 bg mf b8 sta trp st mo pl i15 on i19 i20 ix sp pc stp pr pc2 b0 mm im oa).2.2 b j) = (HZ g c0 s0 bg mf b8 sta trp st mo w i15 on i19 i20 ix sp pc stp pr pc2 b0 mm im oa).2.2 b j
  by_cases h : b = 124285616140
  · subst h
    by_cases h2 : j = 14
    · subst h2; rfl
    · simp [HZ, h2]
  · simp [HZ, h]
theorem HZ_r14 {g : Nat → Nat → Value} {c0 s0 : Nat} {bg : Nat} {mf : Int32} {b8 : Int32} {sta : Int32} {trp : Int32} {st : Int32} {mo : Int32} {pl : Int32} {i15 : Int32} {on : Int32} {i19 : Int32} {i20 : Int32} {ix : Int32} {sp : Int32} {pc : Int32} {stp : Int32} {pr : Int32} {pc2 : Int32} {b0 : Int32} {mm : Nat → Int32} {im : Nat → Int32} {oa : Nat → Int32} : am_g (HZ g c0 s0 bg mf b8 sta trp st mo pl i15 on i19 i20 ix sp pc stp pr pc2 b0 mm im oa) 124285616140 15 = .int i15 := rfl
theorem HZ_w14 {g : Nat → Nat → Value} {c0 s0 : Nat} {bg : Nat} {mf : Int32} {b8 : Int32} {sta : Int32} {trp : Int32} {st : Int32} {mo : Int32} {pl : Int32} {i15 : Int32} {on : Int32} {i19 : Int32} {i20 : Int32} {ix : Int32} {sp : Int32} {pc : Int32} {stp : Int32} {pr : Int32} {pc2 : Int32} {b0 : Int32} {mm : Nat → Int32} {im : Nat → Int32} {oa : Nat → Int32} {w : Int32} : am_p (HZ g c0 s0 bg mf b8 sta trp st mo pl i15 on i19 i20 ix sp pc stp pr pc2 b0 mm im oa) 124285616140 15 (.int w) = HZ g c0 s0 bg mf b8 sta trp st mo pl w on i19 i20 ix sp pc stp pr pc2 b0 mm im oa := by
  refine Prod.ext rfl (Prod.ext rfl ?_)
  funext b j
  show (if b = 124285616140 ∧ j = 15 then _ else (HZ g c0 s0 bg mf b8 sta trp st mo pl i15 on i19 i20 ix sp pc stp pr pc2 b0 mm im oa).2.2 b j) = (HZ g c0 s0 bg mf b8 sta trp st mo pl w on i19 i20 ix sp pc stp pr pc2 b0 mm im oa).2.2 b j
  by_cases h : b = 124285616140
  · subst h
    by_cases h2 : j = 15
    · subst h2; rfl
    · simp [HZ, h2]
  · simp [HZ, h]
theorem HZ_r15 {g : Nat → Nat → Value} {c0 s0 : Nat} {bg : Nat} {mf : Int32} {b8 : Int32} {sta : Int32} {trp : Int32} {st : Int32} {mo : Int32} {pl : Int32} {i15 : Int32} {on : Int32} {i19 : Int32} {i20 : Int32} {ix : Int32} {sp : Int32} {pc : Int32} {stp : Int32} {pr : Int32} {pc2 : Int32} {b0 : Int32} {mm : Nat → Int32} {im : Nat → Int32} {oa : Nat → Int32} : am_g (HZ g c0 s0 bg mf b8 sta trp st mo pl i15 on i19 i20 ix sp pc stp pr pc2 b0 mm im oa) 124285616140 18 = .int on := rfl
theorem HZ_w15 {g : Nat → Nat → Value} {c0 s0 : Nat} {bg : Nat} {mf : Int32} {b8 : Int32} {sta : Int32} {trp : Int32} {st : Int32} {mo : Int32} {pl : Int32} {i15 : Int32} {on : Int32} {i19 : Int32} {i20 : Int32} {ix : Int32} {sp : Int32} {pc : Int32} {stp : Int32} {pr : Int32} {pc2 : Int32} {b0 : Int32} {mm : Nat → Int32} {im : Nat → Int32} {oa : Nat → Int32} {w : Int32} : am_p (HZ g c0 s0 bg mf b8 sta trp st mo pl i15 on i19 i20 ix sp pc stp pr pc2 b0 mm im oa) 124285616140 18 (.int w) = HZ g c0 s0 bg mf b8 sta trp st mo pl i15 w i19 i20 ix sp pc stp pr pc2 b0 mm im oa := by
  refine Prod.ext rfl (Prod.ext rfl ?_)
  funext b j
  show (if b = 124285616140 ∧ j = 18 then _ else (HZ g c0 s0 bg mf b8 sta trp st mo pl i15 on i19 i20 ix sp pc stp pr pc2 b0 mm im oa).2.2 b j) = (HZ g c0 s0 bg mf b8 sta trp st mo pl i15 w i19 i20 ix sp pc stp pr pc2 b0 mm im oa).2.2 b j
  by_cases h : b = 124285616140
  · subst h
    by_cases h2 : j = 18
    · subst h2; rfl
    · simp [HZ, h2]
  · simp [HZ, h]
theorem HZ_r16 {g : Nat → Nat → Value} {c0 s0 : Nat} {bg : Nat} {mf : Int32} {b8 : Int32} {sta : Int32} {trp : Int32} {st : Int32} {mo : Int32} {pl : Int32} {i15 : Int32} {on : Int32} {i19 : Int32} {i20 : Int32} {ix : Int32} {sp : Int32} {pc : Int32} {stp : Int32} {pr : Int32} {pc2 : Int32} {b0 : Int32} {mm : Nat → Int32} {im : Nat → Int32} {oa : Nat → Int32} : am_g (HZ g c0 s0 bg mf b8 sta trp st mo pl i15 on i19 i20 ix sp pc stp pr pc2 b0 mm im oa) 124285616140 19 = .int i19 := rfl
theorem HZ_w16 {g : Nat → Nat → Value} {c0 s0 : Nat} {bg : Nat} {mf : Int32} {b8 : Int32} {sta : Int32} {trp : Int32} {st : Int32} {mo : Int32} {pl : Int32} {i15 : Int32} {on : Int32} {i19 : Int32} {i20 : Int32} {ix : Int32} {sp : Int32} {pc : Int32} {stp : Int32} {pr : Int32} {pc2 : Int32} {b0 : Int32} {mm : Nat → Int32} {im : Nat → Int32} {oa : Nat → Int32} {w : Int32} : am_p (HZ g c0 s0 bg mf b8 sta trp st mo pl i15 on i19 i20 ix sp pc stp pr pc2 b0 mm im oa) 124285616140 19 (.int w) = HZ g c0 s0 bg mf b8 sta trp st mo pl i15 on w i20 ix sp pc stp pr pc2 b0 mm im oa := by
  refine Prod.ext rfl (Prod.ext rfl ?_)
  funext b j
  show (if b = 124285616140 ∧ j = 19 then _ else (HZ g c0 s0 bg mf b8 sta trp st mo pl i15 on i19 i20 ix sp pc stp pr pc2 b0 mm im oa).2.2 b j) = (HZ g c0 s0 bg mf b8 sta trp st mo pl i15 on w i20 ix sp pc stp pr pc2 b0 mm im oa).2.2 b j
  by_cases h : b = 124285616140
  · subst h
    by_cases h2 : j = 19
    · subst h2; rfl
    · simp [HZ, h2]
  · simp [HZ, h]
theorem HZ_r17 {g : Nat → Nat → Value} {c0 s0 : Nat} {bg : Nat} {mf : Int32} {b8 : Int32} {sta : Int32} {trp : Int32} {st : Int32} {mo : Int32} {pl : Int32} {i15 : Int32} {on : Int32} {i19 : Int32} {i20 : Int32} {ix : Int32} {sp : Int32} {pc : Int32} {stp : Int32} {pr : Int32} {pc2 : Int32} {b0 : Int32} {mm : Nat → Int32} {im : Nat → Int32} {oa : Nat → Int32} : am_g (HZ g c0 s0 bg mf b8 sta trp st mo pl i15 on i19 i20 ix sp pc stp pr pc2 b0 mm im oa) 124285616140 20 = .int i20 := rfl
theorem HZ_w17 {g : Nat → Nat → Value} {c0 s0 : Nat} {bg : Nat} {mf : Int32} {b8 : Int32} {sta : Int32} {trp : Int32} {st : Int32} {mo : Int32} {pl : Int32} {i15 : Int32} {on : Int32} {i19 : Int32} {i20 : Int32} {ix : Int32} {sp : Int32} {pc : Int32} {stp : Int32} {pr : Int32} {pc2 : Int32} {b0 : Int32} {mm : Nat → Int32} {im : Nat → Int32} {oa : Nat → Int32} {w : Int32} : am_p (HZ g c0 s0 bg mf b8 sta trp st mo pl i15 on i19 i20 ix sp pc stp pr pc2 b0 mm im oa) 124285616140 20 (.int w) = HZ g c0 s0 bg mf b8 sta trp st mo pl i15 on i19 w ix sp pc stp pr pc2 b0 mm im oa := by
  refine Prod.ext rfl (Prod.ext rfl ?_)
  funext b j
  show (if b = 124285616140 ∧ j = 20 then _ else (HZ g c0 s0 bg mf b8 sta trp st mo pl i15 on i19 i20 ix sp pc stp pr pc2 b0 mm im oa).2.2 b j) = (HZ g c0 s0 bg mf b8 sta trp st mo pl i15 on i19 w ix sp pc stp pr pc2 b0 mm im oa).2.2 b j
  by_cases h : b = 124285616140
  · subst h
    by_cases h2 : j = 20
    · subst h2; rfl
    · simp [HZ, h2]
  · simp [HZ, h]
theorem HZ_r18 {g : Nat → Nat → Value} {c0 s0 : Nat} {bg : Nat} {mf : Int32} {b8 : Int32} {sta : Int32} {trp : Int32} {st : Int32} {mo : Int32} {pl : Int32} {i15 : Int32} {on : Int32} {i19 : Int32} {i20 : Int32} {ix : Int32} {sp : Int32} {pc : Int32} {stp : Int32} {pr : Int32} {pc2 : Int32} {b0 : Int32} {mm : Nat → Int32} {im : Nat → Int32} {oa : Nat → Int32} : am_g (HZ g c0 s0 bg mf b8 sta trp st mo pl i15 on i19 i20 ix sp pc stp pr pc2 b0 mm im oa) 124302393357 0 = .ref 124323364905 := rfl
theorem HZ_r19 {g : Nat → Nat → Value} {c0 s0 : Nat} {bg : Nat} {mf : Int32} {b8 : Int32} {sta : Int32} {trp : Int32} {st : Int32} {mo : Int32} {pl : Int32} {i15 : Int32} {on : Int32} {i19 : Int32} {i20 : Int32} {ix : Int32} {sp : Int32} {pc : Int32} {stp : Int32} {pr : Int32} {pc2 : Int32} {b0 : Int32} {mm : Nat → Int32} {im : Nat → Int32} {oa : Nat → Int32} : am_g (HZ g c0 s0 bg mf b8 sta trp st mo pl i15 on i19 i20 ix sp pc stp pr pc2 b0 mm im oa) 124302393357 1 = .ref 124335948328 := rfl
theorem HZ_r20 {g : Nat → Nat → Value} {c0 s0 : Nat} {bg : Nat} {mf : Int32} {b8 : Int32} {sta : Int32} {trp : Int32} {st : Int32} {mo : Int32} {pl : Int32} {i15 : Int32} {on : Int32} {i19 : Int32} {i20 : Int32} {ix : Int32} {sp : Int32} {pc : Int32} {stp : Int32} {pr : Int32} {pc2 : Int32} {b0 : Int32} {mm : Nat → Int32} {im : Nat → Int32} {oa : Nat → Int32} : am_g (HZ g c0 s0 bg mf b8 sta trp st mo pl i15 on i19 i20 ix sp pc stp pr pc2 b0 mm im oa) 124302393357 2 = .ref 124352725544 := rfl
theorem HZ_r21 {g : Nat → Nat → Value} {c0 s0 : Nat} {bg : Nat} {mf : Int32} {b8 : Int32} {sta : Int32} {trp : Int32} {st : Int32} {mo : Int32} {pl : Int32} {i15 : Int32} {on : Int32} {i19 : Int32} {i20 : Int32} {ix : Int32} {sp : Int32} {pc : Int32} {stp : Int32} {pr : Int32} {pc2 : Int32} {b0 : Int32} {mm : Nat → Int32} {im : Nat → Int32} {oa : Nat → Int32} : am_g (HZ g c0 s0 bg mf b8 sta trp st mo pl i15 on i19 i20 ix sp pc stp pr pc2 b0 mm im oa) 124302393357 8 = .ref 124285616140 := rfl
theorem HZ_r22 {g : Nat → Nat → Value} {c0 s0 : Nat} {bg : Nat} {mf : Int32} {b8 : Int32} {sta : Int32} {trp : Int32} {st : Int32} {mo : Int32} {pl : Int32} {i15 : Int32} {on : Int32} {i19 : Int32} {i20 : Int32} {ix : Int32} {sp : Int32} {pc : Int32} {stp : Int32} {pr : Int32} {pc2 : Int32} {b0 : Int32} {mm : Nat → Int32} {im : Nat → Int32} {oa : Nat → Int32} : am_g (HZ g c0 s0 bg mf b8 sta trp st mo pl i15 on i19 i20 ix sp pc stp pr pc2 b0 mm im oa) 124302393357 3 = .int ix := rfl
theorem HZ_w22 {g : Nat → Nat → Value} {c0 s0 : Nat} {bg : Nat} {mf : Int32} {b8 : Int32} {sta : Int32} {trp : Int32} {st : Int32} {mo : Int32} {pl : Int32} {i15 : Int32} {on : Int32} {i19 : Int32} {i20 : Int32} {ix : Int32} {sp : Int32} {pc : Int32} {stp : Int32} {pr : Int32} {pc2 : Int32} {b0 : Int32} {mm : Nat → Int32} {im : Nat → Int32} {oa : Nat → Int32} {w : Int32} : am_p (HZ g c0 s0 bg mf b8 sta trp st mo pl i15 on i19 i20 ix sp pc stp pr pc2 b0 mm im oa) 124302393357 3 (.int w) = HZ g c0 s0 bg mf b8 sta trp st mo pl i15 on i19 i20 w sp pc stp pr pc2 b0 mm im oa := by
  refine Prod.ext rfl (Prod.ext rfl ?_)
  funext b j
  show (if b = 124302393357 ∧ j = 3 then _ else (HZ g c0 s0 bg mf b8 sta trp st mo pl i15 on i19 i20 ix sp pc stp pr pc2 b0 mm im oa).2.2 b j) = (HZ g c0 s0 bg mf b8 sta trp st mo pl i15 on i19 i20 w sp pc stp pr pc2 b0 mm im oa).2.2 b j
  by_cases h : b = 124302393357
  · subst h
    by_cases h2 : j = 3
    · subst h2; rfl
    · simp [HZ, h2]
  · simp [HZ, h]
theorem HZ_r23 {g : Nat → Nat → Value} {c0 s0 : Nat} {bg : Nat} {mf : Int32} {b8 : Int32} {sta : Int32} {trp : Int32} {st : Int32} {mo : Int32} {pl : Int32} {i15 : Int32} {on : Int32} {i19 : Int32} {i20 : Int32} {ix : Int32} {sp : Int32} {pc : Int32} {stp : Int32} {pr : Int32} {pc2 : Int32} {b0 : Int32} {mm : Nat → Int32} {im : Nat → Int32} {oa : Nat → Int32} : am_g (HZ g c0 s0 bg mf b8 sta trp st mo pl i15 on i19 i20 ix sp pc stp pr pc2 b0 mm im oa) 124302393357 5 = .int sp := rfl
theorem HZ_w23 {g : Nat → Nat → Value} {c0 s0 : Nat} {bg : Nat} {mf : Int32} {b8 : Int32} {sta : Int32} {trp : Int32} {st : Int32} {mo : Int32} {pl : Int32} {i15 : Int32} {on : Int32} {i19 : Int32} {i20 : Int32} {ix : Int32} {sp : Int32} {pc : Int32} {stp : Int32} {pr : Int32} {pc2 : Int32} {b0 : Int32} {mm : Nat → Int32} {im : Nat → Int32} {oa : Nat → Int32} {w : Int32} : am_p (HZ g c0 s0 bg mf b8 sta trp st mo pl i15 on i19 i20 ix sp pc stp pr pc2 b0 mm im oa) 124302393357 5 (.int w) = HZ g c0 s0 bg mf b8 sta trp st mo pl i15 on i19 i20 ix w pc stp pr pc2 b0 mm im oa := by
  refine Prod.ext rfl (Prod.ext rfl ?_)
  funext b j
  show (if b = 124302393357 ∧ j = 5 then _ else (HZ g c0 s0 bg mf b8 sta trp st mo pl i15 on i19 i20 ix sp pc stp pr pc2 b0 mm im oa).2.2 b j) = (HZ g c0 s0 bg mf b8 sta trp st mo pl i15 on i19 i20 ix w pc stp pr pc2 b0 mm im oa).2.2 b j
  by_cases h : b = 124302393357
  · subst h
    by_cases h2 : j = 5
    · subst h2; rfl
    · simp [HZ, h2]
  · simp [HZ, h]
theorem HZ_r24 {g : Nat → Nat → Value} {c0 s0 : Nat} {bg : Nat} {mf : Int32} {b8 : Int32} {sta : Int32} {trp : Int32} {st : Int32} {mo : Int32} {pl : Int32} {i15 : Int32} {on : Int32} {i19 : Int32} {i20 : Int32} {ix : Int32} {sp : Int32} {pc : Int32} {stp : Int32} {pr : Int32} {pc2 : Int32} {b0 : Int32} {mm : Nat → Int32} {im : Nat → Int32} {oa : Nat → Int32} : am_g (HZ g c0 s0 bg mf b8 sta trp st mo pl i15 on i19 i20 ix sp pc stp pr pc2 b0 mm im oa) 124302393357 6 = .int pc := rfl
theorem HZ_w24 {g : Nat → Nat → Value} {c0 s0 : Nat} {bg : Nat} {mf : Int32} {b8 : Int32} {sta : Int32} {trp : Int32} {st : Int32} {mo : Int32} {pl : Int32} {i15 : Int32} {on : Int32} {i19 : Int32} {i20 : Int32} {ix : Int32} {sp : Int32} {pc : Int32} {stp : Int32} {pr : Int32} {pc2 : Int32} {b0 : Int32} {mm : Nat → Int32} {im : Nat → Int32} {oa : Nat → Int32} {w : Int32} : am_p (HZ g c0 s0 bg mf b8 sta trp st mo pl i15 on i19 i20 ix sp pc stp pr pc2 b0 mm im oa) 124302393357 6 (.int w) = HZ g c0 s0 bg mf b8 sta trp st mo pl i15 on i19 i20 ix sp w stp pr pc2 b0 mm im oa := by
  refine Prod.ext rfl (Prod.ext rfl ?_)
  funext b j
  show (if b = 124302393357 ∧ j = 6 then _ else (HZ g c0 s0 bg mf b8 sta trp st mo pl i15 on i19 i20 ix sp pc stp pr pc2 b0 mm im oa).2.2 b j) = (HZ g c0 s0 bg mf b8 sta trp st mo pl i15 on i19 i20 ix sp w stp pr pc2 b0 mm im oa).2.2 b j
  by_cases h : b = 124302393357
  · subst h
    by_cases h2 : j = 6
    · subst h2; rfl
    · simp [HZ, h2]
  · simp [HZ, h]
theorem HZ_r25 {g : Nat → Nat → Value} {c0 s0 : Nat} {bg : Nat} {mf : Int32} {b8 : Int32} {sta : Int32} {trp : Int32} {st : Int32} {mo : Int32} {pl : Int32} {i15 : Int32} {on : Int32} {i19 : Int32} {i20 : Int32} {ix : Int32} {sp : Int32} {pc : Int32} {stp : Int32} {pr : Int32} {pc2 : Int32} {b0 : Int32} {mm : Nat → Int32} {im : Nat → Int32} {oa : Nat → Int32} : am_g (HZ g c0 s0 bg mf b8 sta trp st mo pl i15 on i19 i20 ix sp pc stp pr pc2 b0 mm im oa) 124302393357 7 = .int stp := rfl
theorem HZ_w25 {g : Nat → Nat → Value} {c0 s0 : Nat} {bg : Nat} {mf : Int32} {b8 : Int32} {sta : Int32} {trp : Int32} {st : Int32} {mo : Int32} {pl : Int32} {i15 : Int32} {on : Int32} {i19 : Int32} {i20 : Int32} {ix : Int32} {sp : Int32} {pc : Int32} {stp : Int32} {pr : Int32} {pc2 : Int32} {b0 : Int32} {mm : Nat → Int32} {im : Nat → Int32} {oa : Nat → Int32} {w : Int32} : am_p (HZ g c0 s0 bg mf b8 sta trp st mo pl i15 on i19 i20 ix sp pc stp pr pc2 b0 mm im oa) 124302393357 7 (.int w) = HZ g c0 s0 bg mf b8 sta trp st mo pl i15 on i19 i20 ix sp pc w pr pc2 b0 mm im oa := by
  refine Prod.ext rfl (Prod.ext rfl ?_)
  funext b j
  show (if b = 124302393357 ∧ j = 7 then _ else (HZ g c0 s0 bg mf b8 sta trp st mo pl i15 on i19 i20 ix sp pc stp pr pc2 b0 mm im oa).2.2 b j) = (HZ g c0 s0 bg mf b8 sta trp st mo pl i15 on i19 i20 ix sp pc w pr pc2 b0 mm im oa).2.2 b j
  by_cases h : b = 124302393357
  · subst h
    by_cases h2 : j = 7
    · subst h2; rfl
    · simp [HZ, h2]
  · simp [HZ, h]
theorem HZ_r26 {g : Nat → Nat → Value} {c0 s0 : Nat} {bg : Nat} {mf : Int32} {b8 : Int32} {sta : Int32} {trp : Int32} {st : Int32} {mo : Int32} {pl : Int32} {i15 : Int32} {on : Int32} {i19 : Int32} {i20 : Int32} {ix : Int32} {sp : Int32} {pc : Int32} {stp : Int32} {pr : Int32} {pc2 : Int32} {b0 : Int32} {mm : Nat → Int32} {im : Nat → Int32} {oa : Nat → Int32} : am_g (HZ g c0 s0 bg mf b8 sta trp st mo pl i15 on i19 i20 ix sp pc stp pr pc2 b0 mm im oa) 124302393357 9 = .int pr := rfl
theorem HZ_w26 {g : Nat → Nat → Value} {c0 s0 : Nat} {bg : Nat} {mf : Int32} {b8 : Int32} {sta : Int32} {trp : Int32} {st : Int32} {mo : Int32} {pl : Int32} {i15 : Int32} {on : Int32} {i19 : Int32} {i20 : Int32} {ix : Int32} {sp : Int32} {pc : Int32} {stp : Int32} {pr : Int32} {pc2 : Int32} {b0 : Int32} {mm : Nat → Int32} {im : Nat → Int32} {oa : Nat → Int32} {w : Int32} : am_p (HZ g c0 s0 bg mf b8 sta trp st mo pl i15 on i19 i20 ix sp pc stp pr pc2 b0 mm im oa) 124302393357 9 (.int w) = HZ g c0 s0 bg mf b8 sta trp st mo pl i15 on i19 i20 ix sp pc stp w pc2 b0 mm im oa := by
  refine Prod.ext rfl (Prod.ext rfl ?_)
  funext b j
  show (if b = 124302393357 ∧ j = 9 then _ else (HZ g c0 s0 bg mf b8 sta trp st mo pl i15 on i19 i20 ix sp pc stp pr pc2 b0 mm im oa).2.2 b j) = (HZ g c0 s0 bg mf b8 sta trp st mo pl i15 on i19 i20 ix sp pc stp w pc2 b0 mm im oa).2.2 b j
  by_cases h : b = 124302393357
  · subst h
    by_cases h2 : j = 9
    · subst h2; rfl
    · simp [HZ, h2]
  · simp [HZ, h]
theorem HZ_r27 {g : Nat → Nat → Value} {c0 s0 : Nat} {bg : Nat} {mf : Int32} {b8 : Int32} {sta : Int32} {trp : Int32} {st : Int32} {mo : Int32} {pl : Int32} {i15 : Int32} {on : Int32} {i19 : Int32} {i20 : Int32} {ix : Int32} {sp : Int32} {pc : Int32} {stp : Int32} {pr : Int32} {pc2 : Int32} {b0 : Int32} {mm : Nat → Int32} {im : Nat → Int32} {oa : Nat → Int32} : am_g (HZ g c0 s0 bg mf b8 sta trp st mo pl i15 on i19 i20 ix sp pc stp pr pc2 b0 mm im oa) 124302393357 10 = .int pc2 := rfl
theorem HZ_w27 {g : Nat → Nat → Value} {c0 s0 : Nat} {bg : Nat} {mf : Int32} {b8 : Int32} {sta : Int32} {trp : Int32} {st : Int32} {mo : Int32} {pl : Int32} {i15 : Int32} {on : Int32} {i19 : Int32} {i20 : Int32} {ix : Int32} {sp : Int32} {pc : Int32} {stp : Int32} {pr : Int32} {pc2 : Int32} {b0 : Int32} {mm : Nat → Int32} {im : Nat → Int32} {oa : Nat → Int32} {w : Int32} : am_p (HZ g c0 s0 bg mf b8 sta trp st mo pl i15 on i19 i20 ix sp pc stp pr pc2 b0 mm im oa) 124302393357 10 (.int w) = HZ g c0 s0 bg mf b8 sta trp st mo pl i15 on i19 i20 ix sp pc stp pr w b0 mm im oa := by
  refine Prod.ext rfl (Prod.ext rfl ?_)
  funext b j
  show (if b = 124302393357 ∧ j = 10 then _ else (HZ g c0 s0 bg mf b8 sta trp st mo pl i15 on i19 i20 ix sp pc stp pr pc2 b0 mm im oa).2.2 b j) = (HZ g c0 s0 bg mf b8 sta trp st mo pl i15 on i19 i20 ix sp pc stp pr w b0 mm im oa).2.2 b j
  by_cases h : b = 124302393357
  · subst h
    by_cases h2 : j = 10
    · subst h2; rfl
    · simp [HZ, h2]
  · simp [HZ, h]
theorem HZ_r28 {g : Nat → Nat → Value} {c0 s0 : Nat} {bg : Nat} {mf : Int32} {b8 : Int32} {sta : Int32} {trp : Int32} {st : Int32} {mo : Int32} {pl : Int32} {i15 : Int32} {on : Int32} {i19 : Int32} {i20 : Int32} {ix : Int32} {sp : Int32} {pc : Int32} {stp : Int32} {pr : Int32} {pc2 : Int32} {b0 : Int32} {mm : Nat → Int32} {im : Nat → Int32} {oa : Nat → Int32} : am_g (HZ g c0 s0 bg mf b8 sta trp st mo pl i15 on i19 i20 ix sp pc stp pr pc2 b0 mm im oa) 124335948328 0 = .int 0 := rfl
theorem HZ_r29 {g : Nat → Nat → Value} {c0 s0 : Nat} {bg : Nat} {mf : Int32} {b8 : Int32} {sta : Int32} {trp : Int32} {st : Int32} {mo : Int32} {pl : Int32} {i15 : Int32} {on : Int32} {i19 : Int32} {i20 : Int32} {ix : Int32} {sp : Int32} {pc : Int32} {stp : Int32} {pr : Int32} {pc2 : Int32} {b0 : Int32} {mm : Nat → Int32} {im : Nat → Int32} {oa : Nat → Int32} : am_g (HZ g c0 s0 bg mf b8 sta trp st mo pl i15 on i19 i20 ix sp pc stp pr pc2 b0 mm im oa) 124335948328 1 = .int 0 := rfl
theorem HZ_r30 {g : Nat → Nat → Value} {c0 s0 : Nat} {bg : Nat} {mf : Int32} {b8 : Int32} {sta : Int32} {trp : Int32} {st : Int32} {mo : Int32} {pl : Int32} {i15 : Int32} {on : Int32} {i19 : Int32} {i20 : Int32} {ix : Int32} {sp : Int32} {pc : Int32} {stp : Int32} {pr : Int32} {pc2 : Int32} {b0 : Int32} {mm : Nat → Int32} {im : Nat → Int32} {oa : Nat → Int32} : am_g (HZ g c0 s0 bg mf b8 sta trp st mo pl i15 on i19 i20 ix sp pc stp pr pc2 b0 mm im oa) 124335948328 2 = .int 0 := rfl
theorem HZ_r31 {g : Nat → Nat → Value} {c0 s0 : Nat} {bg : Nat} {mf : Int32} {b8 : Int32} {sta : Int32} {trp : Int32} {st : Int32} {mo : Int32} {pl : Int32} {i15 : Int32} {on : Int32} {i19 : Int32} {i20 : Int32} {ix : Int32} {sp : Int32} {pc : Int32} {stp : Int32} {pr : Int32} {pc2 : Int32} {b0 : Int32} {mm : Nat → Int32} {im : Nat → Int32} {oa : Nat → Int32} : am_g (HZ g c0 s0 bg mf b8 sta trp st mo pl i15 on i19 i20 ix sp pc stp pr pc2 b0 mm im oa) 124335948328 3 = .int 0 := rfl
theorem HZ_r32 {g : Nat → Nat → Value} {c0 s0 : Nat} {bg : Nat} {mf : Int32} {b8 : Int32} {sta : Int32} {trp : Int32} {st : Int32} {mo : Int32} {pl : Int32} {i15 : Int32} {on : Int32} {i19 : Int32} {i20 : Int32} {ix : Int32} {sp : Int32} {pc : Int32} {stp : Int32} {pr : Int32} {pc2 : Int32} {b0 : Int32} {mm : Nat → Int32} {im : Nat → Int32} {oa : Nat → Int32} : am_g (HZ g c0 s0 bg mf b8 sta trp st mo pl i15 on i19 i20 ix sp pc stp pr pc2 b0 mm im oa) 124335948328 4 = .int 0 := rfl
theorem HZ_r33 {g : Nat → Nat → Value} {c0 s0 : Nat} {bg : Nat} {mf : Int32} {b8 : Int32} {sta : Int32} {trp : Int32} {st : Int32} {mo : Int32} {pl : Int32} {i15 : Int32} {on : Int32} {i19 : Int32} {i20 : Int32} {ix : Int32} {sp : Int32} {pc : Int32} {stp : Int32} {pr : Int32} {pc2 : Int32} {b0 : Int32} {mm : Nat → Int32} {im : Nat → Int32} {oa : Nat → Int32} : am_g (HZ g c0 s0 bg mf b8 sta trp st mo pl i15 on i19 i20 ix sp pc stp pr pc2 b0 mm im oa) 124335948328 5 = .int 0 := rfl
theorem HZ_r34 {g : Nat → Nat → Value} {c0 s0 : Nat} {bg : Nat} {mf : Int32} {b8 : Int32} {sta : Int32} {trp : Int32} {st : Int32} {mo : Int32} {pl : Int32} {i15 : Int32} {on : Int32} {i19 : Int32} {i20 : Int32} {ix : Int32} {sp : Int32} {pc : Int32} {stp : Int32} {pr : Int32} {pc2 : Int32} {b0 : Int32} {mm : Nat → Int32} {im : Nat → Int32} {oa : Nat → Int32} : am_g (HZ g c0 s0 bg mf b8 sta trp st mo pl i15 on i19 i20 ix sp pc stp pr pc2 b0 mm im oa) 124335948328 6 = .int 0 := rfl
theorem HZ_r35 {g : Nat → Nat → Value} {c0 s0 : Nat} {bg : Nat} {mf : Int32} {b8 : Int32} {sta : Int32} {trp : Int32} {st : Int32} {mo : Int32} {pl : Int32} {i15 : Int32} {on : Int32} {i19 : Int32} {i20 : Int32} {ix : Int32} {sp : Int32} {pc : Int32} {stp : Int32} {pr : Int32} {pc2 : Int32} {b0 : Int32} {mm : Nat → Int32} {im : Nat → Int32} {oa : Nat → Int32} : am_g (HZ g c0 s0 bg mf b8 sta trp st mo pl i15 on i19 i20 ix sp pc stp pr pc2 b0 mm im oa) 124335948328 7 = .int 0 := rfl
theorem HZ_r36 {g : Nat → Nat → Value} {c0 s0 : Nat} {bg : Nat} {mf : Int32} {b8 : Int32} {sta : Int32} {trp : Int32} {st : Int32} {mo : Int32} {pl : Int32} {i15 : Int32} {on : Int32} {i19 : Int32} {i20 : Int32} {ix : Int32} {sp : Int32} {pc : Int32} {stp : Int32} {pr : Int32} {pc2 : Int32} {b0 : Int32} {mm : Nat → Int32} {im : Nat → Int32} {oa : Nat → Int32} : am_g (HZ g c0 s0 bg mf b8 sta trp st mo pl i15 on i19 i20 ix sp pc stp pr pc2 b0 mm im oa) 124386280296 0 = .int mf := rfl
theorem HZ_r37 {g : Nat → Nat → Value} {c0 s0 : Nat} {bg : Nat} {mf : Int32} {b8 : Int32} {sta : Int32} {trp : Int32} {st : Int32} {mo : Int32} {pl : Int32} {i15 : Int32} {on : Int32} {i19 : Int32} {i20 : Int32} {ix : Int32} {sp : Int32} {pc : Int32} {stp : Int32} {pr : Int32} {pc2 : Int32} {b0 : Int32} {mm : Nat → Int32} {im : Nat → Int32} {oa : Nat → Int32} : am_g (HZ g c0 s0 bg mf b8 sta trp st mo pl i15 on i19 i20 ix sp pc stp pr pc2 b0 mm im oa) 124419834728 0 = .int b0 := rfl
theorem HZ_w37 {g : Nat → Nat → Value} {c0 s0 : Nat} {bg : Nat} {mf : Int32} {b8 : Int32} {sta : Int32} {trp : Int32} {st : Int32} {mo : Int32} {pl : Int32} {i15 : Int32} {on : Int32} {i19 : Int32} {i20 : Int32} {ix : Int32} {sp : Int32} {pc : Int32} {stp : Int32} {pr : Int32} {pc2 : Int32} {b0 : Int32} {mm : Nat → Int32} {im : Nat → Int32} {oa : Nat → Int32} {w : Int32} : am_p (HZ g c0 s0 bg mf b8 sta trp st mo pl i15 on i19 i20 ix sp pc stp pr pc2 b0 mm im oa) 124419834728 0 (.int w) = HZ g c0 s0 bg mf b8 sta trp st mo pl i15 on i19 i20 ix sp pc stp pr pc2 w mm im oa := by
  refine Prod.ext rfl (Prod.ext rfl ?_)
  funext b j
  show (if b = 124419834728 ∧ j = 0 then _ else (HZ g c0 s0 bg mf b8 sta trp st mo pl i15 on i19 i20 ix sp pc stp pr pc2 b0 mm im oa).2.2 b j) = (HZ g c0 s0 bg mf b8 sta trp st mo pl i15 on i19 i20 ix sp pc stp pr pc2 w mm im oa).2.2 b j
  by_cases h : b = 124419834728
  · subst h
    by_cases h2 : j = 0
    · subst h2; rfl
    · simp [HZ, h2]
  · simp [HZ, h]
theorem HZ_a0 {g : Nat → Nat → Value} {c0 s0 : Nat} {bg : Nat} {mf : Int32} {b8 : Int32} {sta : Int32} {trp : Int32} {st : Int32} {mo : Int32} {pl : Int32} {i15 : Int32} {on : Int32} {i19 : Int32} {i20 : Int32} {ix : Int32} {sp : Int32} {pc : Int32} {stp : Int32} {pr : Int32} {pc2 : Int32} {b0 : Int32} {mm : Nat → Int32} {im : Nat → Int32} {oa : Nat → Int32} {j : Nat} : am_g (HZ g c0 s0 bg mf b8 sta trp st mo pl i15 on i19 i20 ix sp pc stp pr pc2 b0 mm im oa) 124323364905 j = .int (mm j) := rfl
theorem HZ_b0 {g : Nat → Nat → Value} {c0 s0 : Nat} {bg : Nat} {mf : Int32} {b8 : Int32} {sta : Int32} {trp : Int32} {st : Int32} {mo : Int32} {pl : Int32} {i15 : Int32} {on : Int32} {i19 : Int32} {i20 : Int32} {ix : Int32} {sp : Int32} {pc : Int32} {stp : Int32} {pr : Int32} {pc2 : Int32} {b0 : Int32} {mm : Nat → Int32} {im : Nat → Int32} {oa : Nat → Int32} {j : Nat} {w : Int32} : am_p (HZ g c0 s0 bg mf b8 sta trp st mo pl i15 on i19 i20 ix sp pc stp pr pc2 b0 mm im oa) 124323364905 j (.int w) = HZ g c0 s0 bg mf b8 sta trp st mo pl i15 on i19 i20 ix sp pc stp pr pc2 b0 (up mm j w) im oa := by
  refine Prod.ext rfl (Prod.ext rfl ?_)
  funext b i
  show (if b = 124323364905 ∧ i = j then _ else (HZ g c0 s0 bg mf b8 sta trp st mo pl i15 on i19 i20 ix sp pc stp pr pc2 b0 mm im oa).2.2 b i) = (HZ g c0 s0 bg mf b8 sta trp st mo pl i15 on i19 i20 ix sp pc stp pr pc2 b0 (up mm j w) im oa).2.2 b i
  by_cases h : b = 124323364905
  · subst h
    by_cases h2 : i = j
    · subst h2; simp [HZ, up]
    · simp [HZ, up, h2]
  · simp [HZ, h]
theorem HZ_a1 {g : Nat → Nat → Value} {c0 s0 : Nat} {bg : Nat} {mf : Int32} {b8 : Int32} {sta : Int32} {trp : Int32} {st : Int32} {mo : Int32} {pl : Int32} {i15 : Int32} {on : Int32} {i19 : Int32} {i20 : Int32} {ix : Int32} {sp : Int32} {pc : Int32} {stp : Int32} {pr : Int32} {pc2 : Int32} {b0 : Int32} {mm : Nat → Int32} {im : Nat → Int32} {oa : Nat → Int32} {j : Nat} : am_g (HZ g c0 s0 bg mf b8 sta trp st mo pl i15 on i19 i20 ix sp pc stp pr pc2 b0 mm im oa) 124373696553 j = .int (im j) := rfl
theorem HZ_b1 {g : Nat → Nat → Value} {c0 s0 : Nat} {bg : Nat} {mf : Int32} {b8 : Int32} {sta : Int32} {trp : Int32} {st : Int32} {mo : Int32} {pl : Int32} {i15 : Int32} {on : Int32} {i19 : Int32} {i20 : Int32} {ix : Int32} {sp : Int32} {pc : Int32} {stp : Int32} {pr : Int32} {pc2 : Int32} {b0 : Int32} {mm : Nat → Int32} {im : Nat → Int32} {oa : Nat → Int32} {j : Nat} {w : Int32} : am_p (HZ g c0 s0 bg mf b8 sta trp st mo pl i15 on i19 i20 ix sp pc stp pr pc2 b0 mm im oa) 124373696553 j (.int w) = HZ g c0 s0 bg mf b8 sta trp st mo pl i15 on i19 i20 ix sp pc stp pr pc2 b0 mm (up im j w) oa := by
  refine Prod.ext rfl (Prod.ext rfl ?_)
  funext b i
  show (if b = 124373696553 ∧ i = j then _ else (HZ g c0 s0 bg mf b8 sta trp st mo pl i15 on i19 i20 ix sp pc stp pr pc2 b0 mm im oa).2.2 b i) = (HZ g c0 s0 bg mf b8 sta trp st mo pl i15 on i19 i20 ix sp pc stp pr pc2 b0 mm (up im j w) oa).2.2 b i
  by_cases h : b = 124373696553
  · subst h
    by_cases h2 : i = j
    · subst h2; simp [HZ, up]
    · simp [HZ, up, h2]
  · simp [HZ, h]
theorem HZ_a2 {g : Nat → Nat → Value} {c0 s0 : Nat} {bg : Nat} {mf : Int32} {b8 : Int32} {sta : Int32} {trp : Int32} {st : Int32} {mo : Int32} {pl : Int32} {i15 : Int32} {on : Int32} {i19 : Int32} {i20 : Int32} {ix : Int32} {sp : Int32} {pc : Int32} {stp : Int32} {pr : Int32} {pc2 : Int32} {b0 : Int32} {mm : Nat → Int32} {im : Nat → Int32} {oa : Nat → Int32} {j : Nat} : am_g (HZ g c0 s0 bg mf b8 sta trp st mo pl i15 on i19 i20 ix sp pc stp pr pc2 b0 mm im oa) 124436739113 j = .int (oa j) := rfl
theorem HZ_b2 {g : Nat → Nat → Value} {c0 s0 : Nat} {bg : Nat} {mf : Int32} {b8 : Int32} {sta : Int32} {trp : Int32} {st : Int32} {mo : Int32} {pl : Int32} {i15 : Int32} {on : Int32} {i19 : Int32} {i20 : Int32} {ix : Int32} {sp : Int32} {pc : Int32} {stp : Int32} {pr : Int32} {pc2 : Int32} {b0 : Int32} {mm : Nat → Int32} {im : Nat → Int32} {oa : Nat → Int32} {j : Nat} {w : Int32} : am_p (HZ g c0 s0 bg mf b8 sta trp st mo pl i15 on i19 i20 ix sp pc stp pr pc2 b0 mm im oa) 124436739113 j (.int w) = HZ g c0 s0 bg mf b8 sta trp st mo pl i15 on i19 i20 ix sp pc stp pr pc2 b0 mm im (up oa j w) := by
  refine Prod.ext rfl (Prod.ext rfl ?_)
  funext b i
  show (if b = 124436739113 ∧ i = j then _ else (HZ g c0 s0 bg mf b8 sta trp st mo pl i15 on i19 i20 ix sp pc stp pr pc2 b0 mm im oa).2.2 b i) = (HZ g c0 s0 bg mf b8 sta trp st mo pl i15 on i19 i20 ix sp pc stp pr pc2 b0 mm im (up oa j w)).2.2 b i
  by_cases h : b = 124436739113
  · subst h
    by_cases h2 : i = j
    · subst h2; simp [HZ, up]
    · simp [HZ, up, h2]
  · simp [HZ, h]
theorem HZ_cp {g : Nat → Nat → Value} {c0 s0 : Nat} {bg : Nat} {mf : Int32} {b8 : Int32} {sta : Int32} {trp : Int32} {st : Int32} {mo : Int32} {pl : Int32} {i15 : Int32} {on : Int32} {i19 : Int32} {i20 : Int32} {ix : Int32} {sp : Int32} {pc : Int32} {stp : Int32} {pr : Int32} {pc2 : Int32} {b0 : Int32} {mm : Nat → Int32} {im : Nat → Int32} {oa : Nat → Int32} : am_copy (HZ g c0 s0 bg mf b8 sta trp st mo pl i15 on i19 i20 ix sp pc stp pr pc2 b0 mm im oa) 124373696553 124323364905 0 0 65536 = HZ g c0 s0 bg mf b8 sta trp st mo pl i15 on i19 i20 ix sp pc stp pr pc2 b0 (fun k => if k < 65536 then im k else mm k) im oa := by
  refine Prod.ext rfl (Prod.ext rfl ?_)
  funext b j
  show (if b = 124323364905 ∧ 0 ≤ j ∧ j < 0 + 65536 then am_g (HZ g c0 s0 bg mf b8 sta trp st mo pl i15 on i19 i20 ix sp pc stp pr pc2 b0 mm im oa) 124373696553 (0 + (j - 0)) else (HZ g c0 s0 bg mf b8 sta trp st mo pl i15 on i19 i20 ix sp pc stp pr pc2 b0 mm im oa).2.2 b j) = (HZ g c0 s0 bg mf b8 sta trp st mo pl i15 on i19 i20 ix sp pc stp pr pc2 b0 (fun k => if k < 65536 then im k else mm k) im oa).2.2 b j
  by_cases h : b = 124323364905
  · subst h
    by_cases h2 : j < 65536
    · rw [if_pos ⟨rfl, by omega, by omega⟩]
      show Value.int (im (0 + (j - 0))) = Value.int (if j < 65536 then im j else mm j)
      rw [if_pos h2, show 0 + (j - 0) = j by omega]
    · rw [if_neg (by omega)]
      show Value.int (mm j) = Value.int (if j < 65536 then im j else mm j)
      rw [if_neg h2]
  · rw [if_neg (by omega)]
    simp [HZ, h]
theorem HZ_poke {d : Nat} {g : Nat → Nat → Value} {c0 s0 : Nat} {bg : Nat} {mf : Int32} {b8 : Int32} {sta : Int32} {trp : Int32} {st : Int32} {mo : Int32} {pl : Int32} {i15 : Int32} {on : Int32} {i19 : Int32} {i20 : Int32} {ix : Int32} {sp : Int32} {pc : Int32} {stp : Int32} {pr : Int32} {pc2 : Int32} {b0 : Int32} {im : Nat → Int32} {oa : Nat → Int32} {m : Nat → Nat} {n v : Nat} (hn : n < 65536) : am_M (d + 1) 215 [.ref 124302393357, .int (Int32.ofNat n), .int (Int32.ofNat v)] (HZ g c0 s0 bg mf b8 sta trp st mo pl i15 on i19 i20 ix sp pc stp pr pc2 b0 (mF m) im oa) = some (none, HZ g c0 s0 bg mf b8 sta trp st mo pl i15 on i19 i20 ix sp pc stp pr pc2 b0 (mF (up m n v)) im oa) := by
  have e : n % 65536 = n := Nat.mod_eq_of_lt hn
  rw [e215]
  simp (disch := (refine id ?_; first | with_unfolding_all exact rfl | assumption | with_unfolding_all exact Nat.le_of_ble_eq_true rfl | (simp only [am_cat_nil, am_cat_int, am_cat_ref, am_cat_null, am_cat_long, Nat.reduceAdd, Nat.reduceLeDiff]; done) | exact rd_lt | exact rd_l | exact wd_lt | exact wd_l | omega | (have := @rd_lt; have := @wd_lt; omega) | exact i_nel (by omega) (by omega) (by omega) | exact i_bnd2 (by simp only [am_n, Nat.reduceDiv, Nat.reduceMod, Nat.reduceMul, Nat.reduceAdd]; omega) | decide | fail)) only [z215_0, z215_1, z215_4, z215_5, z215_7, z215_8, z215_9, z215_10, z215_11, HZ_r0, HZ_r1, HZ_r2, HZ_r3, HZ_r4, HZ_r5, HZ_r6, HZ_r7, HZ_r8, HZ_r9, HZ_r10, HZ_r11, HZ_r12, HZ_r13, HZ_r14, HZ_r15, HZ_r16, HZ_r17, HZ_r18, HZ_r19, HZ_r20, HZ_r21, HZ_r22, HZ_r23, HZ_r24, HZ_r25, HZ_r26, HZ_r27, HZ_r28, HZ_r29, HZ_r30, HZ_r31, HZ_r32, HZ_r33, HZ_r34, HZ_r35, HZ_r36, HZ_r37, HZ_a0, HZ_a1, HZ_a2, HZ_w8, HZ_w9, HZ_w10, HZ_w11, HZ_w12, HZ_w13, HZ_w14, HZ_w15, HZ_w16, HZ_w17, HZ_w22, HZ_w23, HZ_w24, HZ_w25, HZ_w26, HZ_w27, HZ_w37, HZ_b0, HZ_b1, HZ_b2, ↓reduceIte, Int32.reduceAdd, ad2, Nat.reduceAdd, i_10, i_00, i_m1, i_m3, i_m6, i_m7, i_m8, i_m12, i_m15, n_and65535, n_and255, n_and4095, n_and15, n_and1, n_shr8, n_shr7, n_shr1, n_shl8, n_shl1, n_shl7, n_or8, n_or8', mF_rd, mF_up, i8_8, hl_id, wd_e, e, i_eqll, i_lell, i_ltll, Nat.reduceEqDiff, Nat.reduceLeDiff, Nat.reduceLT, am_then_some, am_tl1, am_tl0, i_addl, i_sub1, tn_of, tn_lit]
theorem HZ_pw {d : Nat} {g : Nat → Nat → Value} {c0 s0 : Nat} {bg : Nat} {mf : Int32} {b8 : Int32} {sta : Int32} {trp : Int32} {st : Int32} {mo : Int32} {pl : Int32} {i15 : Int32} {on : Int32} {i19 : Int32} {i20 : Int32} {ix : Int32} {sp : Int32} {pc : Int32} {stp : Int32} {pr : Int32} {pc2 : Int32} {b0 : Int32} {im : Nat → Int32} {oa : Nat → Int32} {m : Nat → Nat} {n v : Nat} (hn : n + 1 < 65536) (hv : v < 2147483648) : am_M (d + 2) 214 [.ref 124302393357, .int (Int32.ofNat n), .int (Int32.ofNat v)] (HZ g c0 s0 bg mf b8 sta trp st mo pl i15 on i19 i20 ix sp pc stp pr pc2 b0 (mF m) im oa) = some (none, HZ g c0 s0 bg mf b8 sta trp st mo pl i15 on i19 i20 ix sp pc stp pr pc2 b0 (mF (pw m n v)) im oa) := by
  rw [e214]
  simp (disch := (refine id ?_; first | with_unfolding_all exact rfl | assumption | with_unfolding_all exact Nat.le_of_ble_eq_true rfl | (simp only [am_cat_nil, am_cat_int, am_cat_ref, am_cat_null, am_cat_long, Nat.reduceAdd, Nat.reduceLeDiff]; done) | exact rd_lt | exact rd_l | exact wd_lt | exact wd_l | omega | (have := @rd_lt; have := @wd_lt; omega) | exact i_nel (by omega) (by omega) (by omega) | exact i_bnd2 (by simp only [am_n, Nat.reduceDiv, Nat.reduceMod, Nat.reduceMul, Nat.reduceAdd]; omega) | decide | fail)) only [z214_0, z214_1, z214_2, z214_3, z214_6, z214_7, z214_8, z214_9, z214_10, z214_11, z214_13, z214_14, z214_17, HZ_r0, HZ_r1, HZ_r2, HZ_r3, HZ_r4, HZ_r5, HZ_r6, HZ_r7, HZ_r8, HZ_r9, HZ_r10, HZ_r11, HZ_r12, HZ_r13, HZ_r14, HZ_r15, HZ_r16, HZ_r17, HZ_r18, HZ_r19, HZ_r20, HZ_r21, HZ_r22, HZ_r23, HZ_r24, HZ_r25, HZ_r26, HZ_r27, HZ_r28, HZ_r29, HZ_r30, HZ_r31, HZ_r32, HZ_r33, HZ_r34, HZ_r35, HZ_r36, HZ_r37, HZ_a0, HZ_a1, HZ_a2, HZ_w8, HZ_w9, HZ_w10, HZ_w11, HZ_w12, HZ_w13, HZ_w14, HZ_w15, HZ_w16, HZ_w17, HZ_w22, HZ_w23, HZ_w24, HZ_w25, HZ_w26, HZ_w27, HZ_w37, HZ_b0, HZ_b1, HZ_b2, ↓reduceIte, Int32.reduceAdd, ad2, Nat.reduceAdd, i_10, i_00, i_m1, i_m3, i_m6, i_m7, i_m8, i_m12, i_m15, n_and65535, n_and255, n_and4095, n_and15, n_and1, n_shr8, n_shr7, n_shr1, n_shl8, n_shl1, n_shl7, n_or8, n_or8', mF_rd, mF_up, i8_8, hl_id, wd_e, HZ_poke, i_eqll, i_lell, i_ltll, Nat.reduceEqDiff, Nat.reduceLeDiff, Nat.reduceLT, am_then_some, am_tl1, am_tl0, i_addl, i_sub1, tn_of, tn_lit]
  rfl
theorem HZ_p226 {d : Nat} {g : Nat → Nat → Value} {c0 s0 : Nat} {bg : Nat} {mf : Int32} {b8 : Int32} {sta : Int32} {trp : Int32} {st : Int32} {mo : Int32} {pl : Int32} {i15 : Int32} {on : Int32} {i19 : Int32} {i20 : Int32} {ix : Int32} {sp : Int32} {pc : Int32} {stp : Int32} {pr : Int32} {pc2 : Int32} {b0 : Int32} {im : Nat → Int32} {oa : Nat → Int32} {m : Nat → Nat} : am_M (d + 2) 214 [.ref 124302393357, .int 226, .int 8000] (HZ g c0 s0 bg mf b8 sta trp st mo pl i15 on i19 i20 ix sp pc stp pr pc2 b0 (mF m) im oa) = some (none, HZ g c0 s0 bg mf b8 sta trp st mo pl i15 on i19 i20 ix sp pc stp pr pc2 b0 (mF (pw m 226 8000)) im oa) := HZ_pw (n := 226) (v := 8000) (by decide) (by decide)
theorem HZ_p228 {d : Nat} {g : Nat → Nat → Value} {c0 s0 : Nat} {bg : Nat} {mf : Int32} {b8 : Int32} {sta : Int32} {trp : Int32} {st : Int32} {mo : Int32} {pl : Int32} {i15 : Int32} {on : Int32} {i19 : Int32} {i20 : Int32} {ix : Int32} {sp : Int32} {pc : Int32} {stp : Int32} {pr : Int32} {pc2 : Int32} {b0 : Int32} {im : Nat → Int32} {oa : Nat → Int32} {m : Nat → Nat} : am_M (d + 2) 214 [.ref 124302393357, .int 228, .int 0] (HZ g c0 s0 bg mf b8 sta trp st mo pl i15 on i19 i20 ix sp pc stp pr pc2 b0 (mF m) im oa) = some (none, HZ g c0 s0 bg mf b8 sta trp st mo pl i15 on i19 i20 ix sp pc stp pr pc2 b0 (mF (pw m 228 0)) im oa) := HZ_pw (n := 228) (v := 0) (by decide) (by decide)
theorem HZ_p230 {d : Nat} {g : Nat → Nat → Value} {c0 s0 : Nat} {bg : Nat} {mf : Int32} {b8 : Int32} {sta : Int32} {trp : Int32} {st : Int32} {mo : Int32} {pl : Int32} {i15 : Int32} {on : Int32} {i19 : Int32} {i20 : Int32} {ix : Int32} {sp : Int32} {pc : Int32} {stp : Int32} {pr : Int32} {pc2 : Int32} {b0 : Int32} {im : Nat → Int32} {oa : Nat → Int32} {m : Nat → Nat} : am_M (d + 2) 214 [.ref 124302393357, .int 230, .int 40960] (HZ g c0 s0 bg mf b8 sta trp st mo pl i15 on i19 i20 ix sp pc stp pr pc2 b0 (mF m) im oa) = some (none, HZ g c0 s0 bg mf b8 sta trp st mo pl i15 on i19 i20 ix sp pc stp pr pc2 b0 (mF (pw m 230 40960)) im oa) := HZ_pw (n := 230) (v := 40960) (by decide) (by decide)
theorem HZ_p232 {d : Nat} {g : Nat → Nat → Value} {c0 s0 : Nat} {bg : Nat} {mf : Int32} {b8 : Int32} {sta : Int32} {trp : Int32} {st : Int32} {mo : Int32} {pl : Int32} {i15 : Int32} {on : Int32} {i19 : Int32} {i20 : Int32} {ix : Int32} {sp : Int32} {pc : Int32} {stp : Int32} {pr : Int32} {pc2 : Int32} {b0 : Int32} {im : Nat → Int32} {oa : Nat → Int32} {m : Nat → Nat} : am_M (d + 2) 214 [.ref 124302393357, .int 232, .int 8192] (HZ g c0 s0 bg mf b8 sta trp st mo pl i15 on i19 i20 ix sp pc stp pr pc2 b0 (mF m) im oa) = some (none, HZ g c0 s0 bg mf b8 sta trp st mo pl i15 on i19 i20 ix sp pc stp pr pc2 b0 (mF (pw m 232 8192)) im oa) := HZ_pw (n := 232) (v := 8192) (by decide) (by decide)
theorem HZ_p234 {d : Nat} {g : Nat → Nat → Value} {c0 s0 : Nat} {bg : Nat} {mf : Int32} {b8 : Int32} {sta : Int32} {trp : Int32} {st : Int32} {mo : Int32} {pl : Int32} {i15 : Int32} {on : Int32} {i19 : Int32} {i20 : Int32} {ix : Int32} {sp : Int32} {pc : Int32} {stp : Int32} {pr : Int32} {pc2 : Int32} {b0 : Int32} {im : Nat → Int32} {oa : Nat → Int32} {m : Nat → Nat} : am_M (d + 2) 214 [.ref 124302393357, .int 234, .int 244] (HZ g c0 s0 bg mf b8 sta trp st mo pl i15 on i19 i20 ix sp pc stp pr pc2 b0 (mF m) im oa) = some (none, HZ g c0 s0 bg mf b8 sta trp st mo pl i15 on i19 i20 ix sp pc stp pr pc2 b0 (mF (pw m 234 244)) im oa) := HZ_pw (n := 234) (v := 244) (by decide) (by decide)
theorem mF_if {a b : Nat → Nat} : (fun k => if k < 65536 then mF a k else mF b k) = mF (fun k => if k < 65536 then a k else b k) := by
  funext k
  show (if k < 65536 then sb (Int32.ofNat (a k)) else sb (Int32.ofNat (b k))) = sb (Int32.ofNat (if k < 65536 then a k else b k))
  split <;> rfl
/-- start, the memory before its five words -/
theorem HZ_start {d : Nat} {g : Nat → Nat → Value} {c0 s0 : Nat} {bg : Nat} {mf : Int32} {b8 : Int32} {sta : Int32} {trp : Int32} {st : Int32} {mo : Int32} {pl : Int32} {i15 : Int32} {on : Int32} {i19 : Int32} {i20 : Int32} {ix : Int32} {sp : Int32} {pc : Int32} {stp : Int32} {pr : Int32} {pc2 : Int32} {b0 : Int32} {oa : Nat → Int32} {m mi : Nat → Nat} : am_M (d + 4) 207 [.ref 124285616140] (HZ g c0 s0 bg mf b8 sta trp st mo pl i15 on i19 i20 ix sp pc stp pr pc2 b0 (mF m) (mF mi) oa) = some (none, HZ g c0 s0 bg mf 1 1 0 0 (-1) (-1) 0 0 0 0 0 59392 (Int32.ofNat bg) stp pr pc2 mf (mF (pw (pw (pw (pw (pw (fun k => if k < 65536 then mi k else m k) 226 8000) 228 0) 230 40960) 232 8192) 234 244)) (mF mi) oa) := by
  rw [e207]
  simp (disch := (refine id ?_; first | with_unfolding_all exact rfl | assumption | with_unfolding_all exact Nat.le_of_ble_eq_true rfl | (simp only [am_cat_nil, am_cat_int, am_cat_ref, am_cat_null, am_cat_long, Nat.reduceAdd, Nat.reduceLeDiff]; done) | exact rd_lt | exact rd_l | exact wd_lt | exact wd_l | omega | (have := @rd_lt; have := @wd_lt; omega) | exact i_nel (by omega) (by omega) (by omega) | exact i_bnd2 (by simp only [am_n, Nat.reduceDiv, Nat.reduceMod, Nat.reduceMul, Nat.reduceAdd]; omega) | decide | fail)) only [z207_0, z207_1, z207_4, z207_5, z207_6, z207_9, z207_12, z207_13, z207_15, z207_18, z207_19, z207_22, z207_24, z207_27, z207_28, z207_31, z207_32, z207_35, z207_36, z207_39, z207_40, z207_43, z207_46, z207_47, z207_50, z207_53, z207_56, z207_59, z207_60, z207_63, z207_66, z207_67, z207_70, z207_71, z207_74, z207_77, z207_79, z207_82, z207_83, z207_86, z207_89, z207_92, z207_95, z207_96, z207_99, z207_102, z207_105, z207_108, z207_109, z207_110, z207_113, z207_116, z207_117, z207_118, z207_119, z207_120, z207_123, z207_126, z207_127, z207_130, z207_131, z207_132, z207_135, z207_136, z207_137, z207_138, z207_141, z207_144, z207_145, z207_146, z207_149, z207_150, z207_151, z207_154, z207_155, z207_156, z207_159, z207_160, z207_161, z207_164, z207_165, z207_166, z207_169, z207_170, z207_171, z207_174, z207_175, z207_176, z207_179, z207_180, z207_181, z207_184, z207_185, z207_186, z207_189, HZ_r0, HZ_r1, HZ_r2, HZ_r3, HZ_r4, HZ_r5, HZ_r6, HZ_r7, HZ_r8, HZ_r9, HZ_r10, HZ_r11, HZ_r12, HZ_r13, HZ_r14, HZ_r15, HZ_r16, HZ_r17, HZ_r18, HZ_r19, HZ_r20, HZ_r21, HZ_r22, HZ_r23, HZ_r24, HZ_r25, HZ_r26, HZ_r27, HZ_r28, HZ_r29, HZ_r30, HZ_r31, HZ_r32, HZ_r33, HZ_r34, HZ_r35, HZ_r36, HZ_r37, HZ_a0, HZ_a1, HZ_a2, HZ_w8, HZ_w9, HZ_w10, HZ_w11, HZ_w12, HZ_w13, HZ_w14, HZ_w15, HZ_w16, HZ_w17, HZ_w22, HZ_w23, HZ_w24, HZ_w25, HZ_w26, HZ_w27, HZ_w37, HZ_b0, HZ_b1, HZ_b2, ↓reduceIte, Int32.reduceAdd, ad2, Nat.reduceAdd, i_10, i_00, i_m1, i_m3, i_m6, i_m7, i_m8, i_m12, i_m15, n_and65535, n_and255, n_and4095, n_and15, n_and1, n_shr8, n_shr7, n_shr1, n_shl8, n_shl1, n_shl7, n_or8, n_or8', mF_rd, mF_up, i8_8, hl_id, wd_e, HZ_cp, mF_if, HZ_p226, HZ_p228, HZ_p230, HZ_p232, HZ_p234, i_bnd2, Int32.reduceLT, i_eqll, i_lell, i_ltll, Nat.reduceEqDiff, Nat.reduceLeDiff, Nat.reduceLT, am_then_some, am_tl1, am_tl0, i_addl, i_sub1, tn_of, tn_lit]
theorem hs_ite {a x y : Value} {c : Prop} [Decidable c] (h1 : c → a = x) (h2 : ¬ c → a = y) : a = if c then x else y := by
  by_cases h : c
  · rw [if_pos h]; exact h1 h
  · rw [if_neg h]; exact h2 h
theorem HR_of {h : am_H} {r0 : Int32} {r1 : Int32} {r2 : Int32} {r3 : Int32} {r4 : Int32} {r5 : Int32} {r6 : Int32} {r7 : Int32} {ix : Nat} {sp : Nat} {pc : Nat} {mm : Nat → Int32} {st : Nat} {lim : Nat} {pl : Int32} {mo : Int32} {on : Nat} {oa : Nat → Int32} {sta : Int32} {trp : Int32} {stp : Int32} {pr : Int32} {pc2 : Int32} (hc0 : am_g h 124285616140 0 = .ref 124302393357) (hc1 : am_g h 124285616140 7 = .ref 124419834728) (hc2 : am_g h 124285616140 8 = .int 1) (hc3 : am_g h 124285616140 16 = .ref 124436739113) (hc4 : am_g h 124285616140 9 = .int sta) (hc5 : am_g h 124285616140 10 = .int trp) (hc6 : am_g h 124285616140 11 = .int (Int32.ofNat st)) (hc7 : am_g h 124285616140 12 = .int (Int32.ofNat lim)) (hc8 : am_g h 124285616140 13 = .int mo) (hc9 : am_g h 124285616140 14 = .int pl) (hc10 : am_g h 124285616140 18 = .int (Int32.ofNat on)) (hc11 : am_g h 124285616140 15 = .int 0) (hc12 : am_g h 124302393357 0 = .ref 124323364905) (hc13 : am_g h 124302393357 1 = .ref 124335948328) (hc14 : am_g h 124302393357 2 = .ref 124352725544) (hc15 : am_g h 124302393357 8 = .ref 124285616140) (hc16 : am_g h 124302393357 3 = .int (Int32.ofNat ix)) (hc17 : am_g h 124302393357 5 = .int (Int32.ofNat sp)) (hc18 : am_g h 124302393357 6 = .int (Int32.ofNat pc)) (hc19 : am_g h 124302393357 7 = .int stp) (hc20 : am_g h 124302393357 9 = .int pr) (hc21 : am_g h 124302393357 10 = .int pc2) (hc22 : am_g h 124335948328 0 = .int r0) (hc23 : am_g h 124335948328 1 = .int r1) (hc24 : am_g h 124335948328 2 = .int r2) (hc25 : am_g h 124335948328 3 = .int r3) (hc26 : am_g h 124335948328 4 = .int r4) (hc27 : am_g h 124335948328 5 = .int r5) (hc28 : am_g h 124335948328 6 = .int r6) (hc29 : am_g h 124335948328 7 = .int r7) (ha0 : ∀ j, am_g h 124323364905 j = .int (mm j)) (ha1 : ∀ j, am_g h 124436739113 j = .int (oa j)) : h = HR h.2.2 h.1 h.2.1 r0 r1 r2 r3 r4 r5 r6 r7 ix sp pc mm st lim pl mo on oa sta trp stp pr pc2 := by
  refine Prod.ext rfl (Prod.ext rfl ?_)
  funext b j
  refine hs_ite (fun e => ?_) (fun _ => ?_)
  · subst e
    refine hs_ite (fun e => by subst e; exact hc0) (fun _ => ?_)
    refine hs_ite (fun e => by subst e; exact hc1) (fun _ => ?_)
    refine hs_ite (fun e => by subst e; exact hc2) (fun _ => ?_)
    refine hs_ite (fun e => by subst e; exact hc3) (fun _ => ?_)
    refine hs_ite (fun e => by subst e; exact hc4) (fun _ => ?_)
    refine hs_ite (fun e => by subst e; exact hc5) (fun _ => ?_)
    refine hs_ite (fun e => by subst e; exact hc6) (fun _ => ?_)
    refine hs_ite (fun e => by subst e; exact hc7) (fun _ => ?_)
    refine hs_ite (fun e => by subst e; exact hc8) (fun _ => ?_)
    refine hs_ite (fun e => by subst e; exact hc9) (fun _ => ?_)
    refine hs_ite (fun e => by subst e; exact hc10) (fun _ => ?_)
    refine hs_ite (fun e => by subst e; exact hc11) (fun _ => ?_)
    rfl
  refine hs_ite (fun e => ?_) (fun _ => ?_)
  · subst e
    refine hs_ite (fun e => by subst e; exact hc12) (fun _ => ?_)
    refine hs_ite (fun e => by subst e; exact hc13) (fun _ => ?_)
    refine hs_ite (fun e => by subst e; exact hc14) (fun _ => ?_)
    refine hs_ite (fun e => by subst e; exact hc15) (fun _ => ?_)
    refine hs_ite (fun e => by subst e; exact hc16) (fun _ => ?_)
    refine hs_ite (fun e => by subst e; exact hc17) (fun _ => ?_)
    refine hs_ite (fun e => by subst e; exact hc18) (fun _ => ?_)
    refine hs_ite (fun e => by subst e; exact hc19) (fun _ => ?_)
    refine hs_ite (fun e => by subst e; exact hc20) (fun _ => ?_)
    refine hs_ite (fun e => by subst e; exact hc21) (fun _ => ?_)
    rfl
  refine hs_ite (fun e => ?_) (fun _ => ?_)
  · subst e
    refine hs_ite (fun e => by subst e; exact hc22) (fun _ => ?_)
    refine hs_ite (fun e => by subst e; exact hc23) (fun _ => ?_)
    refine hs_ite (fun e => by subst e; exact hc24) (fun _ => ?_)
    refine hs_ite (fun e => by subst e; exact hc25) (fun _ => ?_)
    refine hs_ite (fun e => by subst e; exact hc26) (fun _ => ?_)
    refine hs_ite (fun e => by subst e; exact hc27) (fun _ => ?_)
    refine hs_ite (fun e => by subst e; exact hc28) (fun _ => ?_)
    refine hs_ite (fun e => by subst e; exact hc29) (fun _ => ?_)
    rfl
  refine hs_ite (fun e => by subst e; exact ha0 _) (fun _ => ?_)
  refine hs_ite (fun e => by subst e; exact ha1 _) (fun _ => ?_)
  rfl
theorem HZ_HR {g : Nat → Nat → Value} {c0 s0 : Nat} {bg : Nat} {mf : Int32} {b8 : Int32} {sta : Int32} {trp : Int32} {st : Int32} {mo : Int32} {pl : Int32} {i15 : Int32} {on : Int32} {i19 : Int32} {i20 : Int32} {ix : Int32} {sp : Int32} {pc : Int32} {stp : Int32} {pr : Int32} {pc2 : Int32} {b0 : Int32} {im : Nat → Int32} {m : Nat → Nat} : HZ g c0 s0 bg mf 1 1 0 0 (-1) (-1) 0 0 0 0 0 59392 (Int32.ofNat bg) stp pr pc2 mf (mF m) im (fun _ => 0) = HR (HZ g c0 s0 bg mf 1 1 0 0 (-1) (-1) 0 0 0 0 0 59392 (Int32.ofNat bg) stp pr pc2 mf (mF m) im (fun _ => 0)).2.2 c0 s0 0 0 0 0 0 0 0 0 0 59392 bg (mF m) 0 0 (-1) (-1) 0 (fun _ => 0) 1 0 stp pr pc2 := by
  apply HR_of
  all_goals first | rfl | (intro j; rfl)
theorem mw_start {d : Nat} {g : Nat → Nat → Value} {c0 s0 : Nat} {bg : Nat} {mf : Int32} {b8 : Int32} {sta : Int32} {trp : Int32} {st : Int32} {mo : Int32} {pl : Int32} {i15 : Int32} {on : Int32} {i19 : Int32} {i20 : Int32} {ix : Int32} {sp : Int32} {pc : Int32} {stp : Int32} {pr : Int32} {pc2 : Int32} {b0 : Int32} {oa : Nat → Int32} {m mi : Nat → Nat} (hg : g 4798283777 7 = .ref 124285616140) (hl : g 124285616140 6 = .int 1) : am_M (d + 5) 26 [.ref 4798283777] (HZ g c0 s0 bg mf b8 sta trp st mo pl i15 on i19 i20 ix sp pc stp pr pc2 b0 (mF m) (mF mi) oa) = some (some (.int 1), HZ g c0 s0 bg mf 1 1 0 0 (-1) (-1) 0 0 0 0 0 59392 (Int32.ofNat bg) stp pr pc2 mf (mF (pw (pw (pw (pw (pw (fun k => if k < 65536 then mi k else m k) 226 8000) 228 0) 230 40960) 232 8192) 234 244)) (mF mi) oa) := by
  have e1 : am_g (HZ g c0 s0 bg mf b8 sta trp st mo pl i15 on i19 i20 ix sp pc stp pr pc2 b0 (mF m) (mF mi) oa) 4798283777 7 = .ref 124285616140 := hg
  have e2 : am_g (HZ g c0 s0 bg mf b8 sta trp st mo pl i15 on i19 i20 ix sp pc stp pr pc2 b0 (mF m) (mF mi) oa) 124285616140 6 = .int 1 := hl
  rw [e26]
  simp (disch := (refine id ?_; first | with_unfolding_all exact rfl | assumption | with_unfolding_all exact Nat.le_of_ble_eq_true rfl | (simp only [am_cat_nil, am_cat_int, am_cat_ref, am_cat_null, am_cat_long, Nat.reduceAdd, Nat.reduceLeDiff]; done) | exact rd_lt | exact rd_l | exact wd_lt | exact wd_l | omega | (have := @rd_lt; have := @wd_lt; omega) | exact i_nel (by omega) (by omega) (by omega) | exact i_bnd2 (by simp only [am_n, Nat.reduceDiv, Nat.reduceMod, Nat.reduceMul, Nat.reduceAdd]; omega) | decide | fail)) only [z26_0, z26_1, z26_4, z26_7, z26_10, z26_11, z26_12, z26_13, z26_16, z26_19, z26_20, HZ_r0, HZ_r1, HZ_r2, HZ_r3, HZ_r4, HZ_r5, HZ_r6, HZ_r7, HZ_r8, HZ_r9, HZ_r10, HZ_r11, HZ_r12, HZ_r13, HZ_r14, HZ_r15, HZ_r16, HZ_r17, HZ_r18, HZ_r19, HZ_r20, HZ_r21, HZ_r22, HZ_r23, HZ_r24, HZ_r25, HZ_r26, HZ_r27, HZ_r28, HZ_r29, HZ_r30, HZ_r31, HZ_r32, HZ_r33, HZ_r34, HZ_r35, HZ_r36, HZ_r37, HZ_a0, HZ_a1, HZ_a2, HZ_w8, HZ_w9, HZ_w10, HZ_w11, HZ_w12, HZ_w13, HZ_w14, HZ_w15, HZ_w16, HZ_w17, HZ_w22, HZ_w23, HZ_w24, HZ_w25, HZ_w26, HZ_w27, HZ_w37, HZ_b0, HZ_b1, HZ_b2, ↓reduceIte, Int32.reduceAdd, ad2, Nat.reduceAdd, i_10, i_00, i_m1, i_m3, i_m6, i_m7, i_m8, i_m12, i_m15, n_and65535, n_and255, n_and4095, n_and15, n_and1, n_shr8, n_shr7, n_shr1, n_shl8, n_shl1, n_shl7, n_or8, n_or8', mF_rd, mF_up, i8_8, hl_id, wd_e, e1, e2, HZ_start, i_eqll, i_lell, i_ltll, Nat.reduceEqDiff, Nat.reduceLeDiff, Nat.reduceLT, am_then_some, am_tl1, am_tl0, i_addl, i_sub1, tn_of, tn_lit]
