/-! compile joined (printed by gen/comp9.py) -/
set_option maxRecDepth 100000
set_option maxHeartbeats 8000000
def A7F (V : Nat → Nat → Value) (y : Int32) : Nat → Nat → Value := (ws (ws (ws (ws (ws (ws (ws V 124470165508 3 (.int y)) 4798283777 10 (.int 0)) 4798283777 11 (.int (-1))) 4798283777 8 (.ref 4898947076)) 4898947076 1 (.int 0)) 124470165508 1 (.int 1)) 4882170669 0 (.ref 124470165508))
theorem cp_32 {W C : Nat → Nat → Value} {s d n : Nat} {sx : Nat → Int32} {two pl il : Nat → Int64} (G : GS W) (c : CF W C) (hn : n ≤ 26) : ∃ tk tp tf ts V ni y, RD tk tp tf ts 0 0 (allL (cmL sx n)) ∧ K6 W C (lawT sx n) pl il tk tp tf ts (cd6 sx n) ni V ∧ 2 ≤ ni ∧ ni ≤ 20 ∧ am_M (d + 30) 2 [.ref 4798283777, .ref 124772155947] (HL (hp (LC C) C) 7443 s (lawT sx n) two pl il) = some (some (.int 0), (7504 + ni, s + 1236 + 7 * ni, A7F V y)) := by
  have tl := lawT_len (sx := sx) hn
  obtain ⟨tk, tp, tf, ts, R, E⟩ := cp_185 (s := s) (d := d) (sx := sx) (two := two) (pl := pl) (il := il) G c hn
  obtain ⟨V, ni, K, g1, g2, I⟩ := cp_6 (s := s) (two := two) (pl := pl) (il := il) (m := (allL (cmL sx n)).length + 1) (n2 := 31 + (rowL (cmL sx n)).length + 4) G c hn R
  have K' := K
  obtain ⟨lo, ps, mw, m9, m12, h0, sp, s2, s4, s5, s6, t0, t1, by_, kd, pp, ff, ss, mb, it, io, pla, inn, hb, ix⟩ := K'
  obtain ⟨y, Y⟩ := cp_E (A := V) (c := 7504 + ni) (s := s + 1236 + 7 * ni) (sz := (lawT sx n).length) (len := (lawT sx n).length) (b := bF (TF (lawT sx n))) (k4 := 37) (k5 := 0) ((sp 0 (by decide) (by decide) (by decide) (by decide)).trans rfl) t0 t1 by_ (by omega) s2 s6 s4 s5 ((mw 3 (by decide) (by decide) (by decide) (by decide)).trans ((c.1 4798283777 3 (by decide) (by decide)).trans rfl)) h0 ((K6_low c ps rfl).trans rfl) ((K6_low c ps rfl).trans rfl) ((K6_low c ps rfl).trans rfl) ((K6_low c ps rfl).trans rfl) ((K6_low c ps rfl).trans rfl) ((K6_low c ps rfl).trans rfl) ((K6_low c ps rfl).trans rfl) ((K6_low c ps rfl).trans rfl) ((K6_low c ps rfl).trans rfl) ((K6_low c ps rfl).trans rfl) ((K6_low c ps rfl).trans rfl) ((K6_low c ps rfl).trans rfl) ((K6_low c ps rfl).trans rfl) ((K6_low c ps rfl).trans rfl) ((K6_low c ps rfl).trans rfl) ((K6_low c ps rfl).trans rfl) ((K6_low c ps rfl).trans rfl) ((K6_low c ps rfl).trans rfl) ((K6_low c ps rfl).trans rfl) ((K6_low c ps rfl).trans rfl) ((K6_low c ps rfl).trans rfl) ((K6_low c ps rfl).trans rfl) ((K6_low c ps rfl).trans rfl) ((K6_low c ps rfl).trans rfl)
  refine ⟨tk, tp, tf, ts, V, ni, y, R, K, g1, g2, ?_⟩
  have Y' : am_G (d + 28) 32 163 [some (.ref 4798283777), some (.int (Int32.ofNat (lawT sx n).length)), some (.ref 124470165508), none, none] [.int 1] (7504 + ni, s + 1236 + 7 * ni, V) = some (some (.int 0), (7504 + ni, s + 1236 + 7 * ni, A7F V y)) := Y (d + 25)
  have M : am_M (d + 29) 32 [.ref 4798283777, .int (Int32.ofNat (lawT sx n).length)] (HW (gL (hp (LC C) C) pl il) 7443 s (padT (lawT sx n)).length (bF (TF (padT (lawT sx n)))) (up (qF (lawT sx n)) 0 0) two) = some (some (.int 0), (7504 + ni, s + 1236 + 7 * ni, A7F V y)) := by
    rw [E, I d, am_kc_s]
    exact Y'
  have F := mw_feedlast (g := gL (hp (LC C) C) pl il) (c0 := 7443) (s0 := s) (two := two) (t := lawT sx n) (d := d + 27) tl
  refine F.trans ?_
  have M' : am_M (d + 27 + 2) 32 [.ref 4798283777, .int (Int32.ofNat (lawT sx n).length)] (HW (gL (hp (LC C) C) pl il) 7443 s (padT (lawT sx n)).length (bF (TF (padT (lawT sx n)))) (up (qF (lawT sx n)) 0 0) two) = _ := M
  rw [M', am_then_some]
  exact z2_46
