/-! The simulation: what the law does with a command, the compiled code does -/
set_option maxRecDepth 100000
set_option maxHeartbeats 4000000
def VM (m : Nat → Nat) (v : Nat → Int) : Prop := ∀ j, j < 8 → wd m (59392 + 2 * j) = us (v j) ∧ -32768 ≤ v j ∧ v j ≤ 32767
/-- the memory while the body runs: code, variables, the words of space, activity, the frame -/
def MI (C0 : List Nat) (ret sl : Nat) (m : Nat → Nat) (v : Nat → Int) : Prop := KM m ∧ CB m 2048 C0 ∧ C0.length < 8000 ∧ VM m v ∧ wd m 226 = 7800 ∧ wd m 228 = 1 ∧ wd m 232 = 8192 ∧ wd m 59386 = 200 ∧ wd m 59390 = ret ∧ wd m 59384 = sl
theorem MI_Kz {C0 : List Nat} {ret sl : Nat} {m m' : Nat → Nat} {v : Nat → Int} (h : MI C0 ret sl m v) (k : Kz 59324 m m') : MI C0 ret sl m' v := by
  obtain ⟨a, b, b2, c, d, e, f, g, i, j⟩ := h
  refine ⟨Kz_KM k a (by omega), CB_Kz k (by omega) (by omega) b, b2, fun q hq => ?_, ?_, ?_, ?_, ?_, ?_, ?_⟩
  · rw [Kz_wd k (by omega) (by omega)]; exact c q hq
  · rw [Kz_wd k (by omega) (by omega), d]
  · rw [Kz_wd k (by omega) (by omega), e]
  · rw [Kz_wd k (by omega) (by omega), f]
  · rw [Kz_wd k (by omega) (by omega), g]
  · rw [Kz_wd k (by omega) (by omega), i]
  · rw [Kz_wd k (by omega) (by omega), j]
/-- a word becomes a variable's value; nothing else that matters changes -/
theorem MI_set {C0 : List Nat} {ret sl j : Nat} {m m' : Nat → Nat} {v : Nat → Int} {r : Int} (h : MI C0 ret sl m v) (hj : j < 8) (h1 : -32768 ≤ r) (h2 : r ≤ 32767) (hw : wd m' (59392 + 2 * j) = us r) (hs : ∀ k, ¬ (k = 59392 + 2 * j ∨ k = 59392 + 2 * j + 1) → (k < 59322 ∨ 59324 ≤ k) → m' k = m k) : MI C0 ret sl m' (up v j r) := by
  obtain ⟨a, b, b2, c, d, e, f, g, i, l⟩ := h
  have hr : ∀ k, ¬ (k = 59392 + 2 * j ∨ k = 59392 + 2 * j + 1) → (k < 59322 ∨ 59324 ≤ k) → rd m' k = rd m k := fun k p q => by unfold rd; rw [hs k p q]
  have hd : ∀ k, (k + 1 < 59322 ∨ 59324 ≤ k) → (k + 1 < 59392 + 2 * j ∨ 59392 + 2 * j + 1 < k) → wd m' k = wd m k := fun k p q => by unfold wd; rw [hr k (by omega) (by omega), hr (k + 1) (by omega) (by omega)]
  refine ⟨fun k hk => (hr k (by omega) (by omega)).trans (a k hk), CB_same (fun k p q => hs k (by omega) (by omega)) b, b2, fun q hq => ?_, ?_, ?_, ?_, ?_, ?_, ?_⟩
  · by_cases z : q = j
    · subst z; rw [up_eq]; exact ⟨hw, h1, h2⟩
    · rw [up_ne z, hd _ (by omega) (by omega)]; exact c q hq
  · rw [hd _ (by omega) (by omega), d]
  · rw [hd _ (by omega) (by omega), e]
  · rw [hd _ (by omega) (by omega), f]
  · rw [hd _ (by omega) (by omega), g]
  · rw [hd _ (by omega) (by omega), i]
  · rw [hd _ (by omega) (by omega), l]
theorem MI_pw {C0 : List Nat} {ret sl j : Nat} {m : Nat → Nat} {v : Nat → Int} {r : Int} (h : MI C0 ret sl m v) (hj : j < 8) (h1 : -32768 ≤ r) (h2 : r ≤ 32767) : MI C0 ret sl (pw m (59392 + 2 * j) (us r)) (up v j r) :=
  MI_set h hj h1 h2 (pw_wd us_lt) (fun k p _ => (pw_Sm (m := m) (k := 59392 + 2 * j) (v := us r)) k (by omega))
theorem MI_wd {C0 : List Nat} {ret sl j : Nat} {m : Nat → Nat} {v : Nat → Int} (h : MI C0 ret sl m v) (hj : j < 8) : wd m (59392 + 2 * j) = us (v j) := (h.2.2.2.1 j hj).1
theorem MI_sg {C0 : List Nat} {ret sl j : Nat} {m : Nat → Nat} {v : Nat → Int} (h : MI C0 ret sl m v) (hj : j < 8) : sg (wd m (59392 + 2 * j)) = v j := by
  rw [MI_wd h hj]; exact sg_us (h.2.2.2.1 j hj).2.1 (h.2.2.2.1 j hj).2.2
/-- a stretch of the code -/
def CA (C0 : List Nat) (h : Nat) (l : List Nat) : Prop := ∃ p q, C0 = p ++ (l ++ q) ∧ h = 2048 + p.length
theorem CA_app {C0 l l2 : List Nat} {h : Nat} (c : CA C0 h (l ++ l2)) : CA C0 h l ∧ CA C0 (h + l.length) l2 := by
  obtain ⟨p, q, e, rfl⟩ := c
  exact ⟨⟨p, l2 ++ q, by rw [e, List.append_assoc], rfl⟩, p ++ l, q, by rw [e, List.append_assoc, List.append_assoc], by rw [List.length_append]; omega⟩
theorem CA_CB {C0 l : List Nat} {ret sl h : Nat} {m : Nat → Nat} {v : Nat → Int} (i : MI C0 ret sl m v) (c : CA C0 h l) : CB m h l := by
  obtain ⟨p, q, e, rfl⟩ := c
  have b := i.2.1
  rw [e, CB_app, CB_app] at b
  exact b.2.1
theorem CA_le {C0 l : List Nat} {ret sl h : Nat} {m : Nat → Nat} {v : Nat → Int} (i : MI C0 ret sl m v) (c : CA C0 h l) : 2048 ≤ h ∧ h + l.length < 10048 := by
  obtain ⟨p, q, e, rfl⟩ := c
  have b := i.2.2.1
  rw [e, List.length_append, List.length_append] at b
  omega
def AT (G : GE) (C0 : List Nat) (ret sl : Nat) (x : RT) (h : Nat) (v : Nat → Int) (P : PT) : Prop := ∃ a f bc de hl m, a < 256 ∧ bc < 65536 ∧ de < 65536 ∧ hl < 65536 ∧ MI C0 ret sl m v ∧ x = RL G a f bc de hl 59388 59324 h m P
/-- a trap's place (70: no such index, 64: overflow) -/
def TRAP (G : GE) (x : RT) (n : Nat) (P : PT) : Prop := ∃ a f bc de hl ix sp m, KM m ∧ wd m 226 = 7800 ∧ wd m 228 = 1 ∧ wd m 232 = 8192 ∧ x = RL G a f bc de hl ix sp n m P
/-- at the place where the chip asks, with no step left -/
def PAUSE (G : GE) (x : RT) (P : PT) : Prop := P.st = G.2.2.2 ∧ ∃ a f bc de hl ix sp m, KM m ∧ wd m 226 = 7800 ∧ wd m 228 = 1 ∧ wd m 232 = 8192 ∧ hl < 65536 ∧ sp + 1 < 65536 ∧ x = RL G a f bc de hl ix sp 8 m P
theorem TRAP_of {G : GE} {C0 : List Nat} {ret sl n : Nat} {m : Nat → Nat} {v : Nat → Int} {P : PT} {x : RT} (i : MI C0 ret sl m v) (h : TP G n m P x) : TRAP G x n P := by
  obtain ⟨a, f, bc, de, hl, ix, sp, m', k, s, e⟩ := h
  obtain ⟨-, -, -, -, d1, d2, d3, -⟩ := i
  have w : ∀ k, k + 1 < 236 → wd m' k = wd m k := fun k hk => by unfold wd rd; rw [s k (by omega), s (k + 1) hk]
  exact ⟨a, f, bc, de, hl, ix, sp, m', k, by rw [w _ (by omega), d1], by rw [w _ (by omega), d2], by rw [w _ (by omega), d3], e⟩
/-- what the law does with a statement: 0, or the trap's number; the variables -/
def chk (v : Nat → Int) (a : Nat) (r : Int) : Nat × (Nat → Int) := if -32768 ≤ r ∧ r ≤ 32767 then (0, up v a r) else (3, v)
def actF (s : St) (v : Nat → Int) : Nat × (Nat → Int) := match s with
  | (0, a, w, u) => chk v a (v w + v u)
  | (1, a, w, c) => chk v a (v w - c)
  | (2, a, w, u) => chk v a (v w * v u)
  | (3, a, w, c) => chk v a (v w / c)
  | (4, a, w, c) => chk v a (v w % c)
  | (5, _, w, u) => (0, up v (4 + (v w % 4).toNat) (v u))
  | (6, a, w, _) => if 0 ≤ v w ∧ v w ≤ 3 then (0, up v a (v (4 + (v w).toNat))) else (2, v)
  | (_, a, c, _) => (0, up v a c)
def EXS (G : GE) (C0 : List Nat) (ret sl : Nat) (x : RT) (h : Nat) (s : St) (v : Nat → Int) (P : PT) : Prop :=
  ((actF s v).1 = 0 → AT G C0 ret sl x (h + s.code.length) (actF s v).2 P) ∧ ((actF s v).1 ≠ 0 → TRAP G x (if (actF s v).1 = 2 then 70 else 64) P)
theorem ex_put {G : GE} {C0 : List Nat} {ret sl j h a bc de : Nat} {f : Int32} {m : Nat → Nat} {v : Nat → Int} {P : PT} {x : RT} {r : Int} (i : MI C0 ret sl m v) (c : CA C0 h [34, lo (vaN j), hi (vaN j)]) (hj : j < 4) (ha : a < 256) (hb : bc < 65536) (hd : de < 65536) (h1 : -32768 ≤ r) (h2 : r ≤ 32767)
    (e : x = RL G a f bc de (us r) 59388 59324 h m P) : AT G C0 ret sl x (h + 3) (up v j r) P := by
  have le := CA_le i c
  refine ⟨a, f, bc, de, us r, _, ha, hb, hd, us_lt, MI_pw i (by omega) h1 h2, e.trans ?_⟩
  exact b_st (X := vaN j) (CA_CB i c) us_lt (by unfold vaN; omega) (by omega)
theorem chk_ok {v : Nat → Int} {a : Nat} {r : Int} (h : -32768 ≤ r ∧ r ≤ 32767) : chk v a r = (0, up v a r) := if_pos h
theorem chk_no {v : Nat → Int} {a : Nat} {r : Int} (h : ¬ (-32768 ≤ r ∧ r ≤ 32767)) : chk v a r = (3, v) := if_neg h
section
variable {G : GE} {C0 : List Nat} {ret sl h : Nat} {v : Nat → Int} {P : PT} {x : RT}
theorem ex_add {j w u : Nat} (hj : j < 4) (hw : w < 4) (hu : u < 4) (c : CA C0 h (St.add j w u).code) (t : AT G C0 ret sl x h v P) : EXS G C0 ret sl x h (St.add j w u) v P := by
  obtain ⟨a, f, bc, de, hl, m, ha, hb, hd, hh, i, e⟩ := t
  have c' : CA C0 h ([42, lo (vaN w), hi (vaN w), 237, 91, lo (vaN u), hi (vaN u), 183, 237, 90, 234, 64, 0] ++ [34, lo (vaN j), hi (vaN j)]) := c
  obtain ⟨c1, c2⟩ := CA_app c'
  have le := CA_le i c1
  have b := b_add (G := G) (P := P) (a := a) (f := f) (bc := bc) (de := de) (hl := hl) (ix := 59388) (sp := 59324) i.1 (CA_CB i c1) (by unfold vaN; omega) (by unfold vaN; omega) ha (by omega)
  have e1 : sg (wd m (vaN w)) = v w := MI_sg i (by omega)
  have e2 : sg (wd m (vaN u)) = v u := MI_sg i (by omega)
  rw [e1, e2, ← e] at b
  have q : actF (St.add j w u) v = chk v j (v w + v u) := rfl
  unfold EXS
  rw [q]
  by_cases r : -32768 ≤ v w + v u ∧ v w + v u ≤ 32767
  · rw [if_pos r] at b
    obtain ⟨f', de', hd', b⟩ := b
    rw [chk_ok r]
    exact ⟨fun _ => ex_put i c2 hj ha hb hd' r.1 r.2 b, fun z => absurd rfl z⟩
  · rw [if_neg r] at b
    rw [chk_no r]
    exact ⟨fun z => absurd z (show ¬ (3 : Nat) = 0 by decide), fun _ => TRAP_of i b⟩
theorem us_nat {c : Nat} (h : c < 65536) : us (c : Int) = c := by unfold us; omega
theorem sg_nat {c : Nat} (h : c < 32768) : sg c = c := by unfold sg; rw [if_pos h]
theorem ex_sub {j w k : Nat} (hj : j < 4) (hw : w < 4) (hk : k < 32768) (c : CA C0 h (St.sub j w k).code) (t : AT G C0 ret sl x h v P) : EXS G C0 ret sl x h (St.sub j w k) v P := by
  obtain ⟨a, f, bc, de, hl, m, ha, hb, hd, hh, i, e⟩ := t
  have c' : CA C0 h ([42, lo (vaN w), hi (vaN w), 17, lo k, hi k, 183, 237, 82, 234, 64, 0] ++ [34, lo (vaN j), hi (vaN j)]) := c
  obtain ⟨c1, c2⟩ := CA_app c'
  have le := CA_le i c1
  have b := b_sub (G := G) (P := P) (a := a) (f := f) (bc := bc) (de := de) (hl := hl) (ix := 59388) (sp := 59324) i.1 (CA_CB i c1) (by unfold vaN; omega) (by omega) ha (by omega)
  have e1 : sg (wd m (vaN w)) = v w := MI_sg i (by omega)
  rw [e1, sg_nat hk, ← e] at b
  have q : actF (St.sub j w k) v = chk v j (v w - k) := rfl
  unfold EXS
  rw [q]
  by_cases r : -32768 ≤ v w - (k : Int) ∧ v w - (k : Int) ≤ 32767
  · rw [if_pos r] at b
    obtain ⟨f', b⟩ := b
    rw [chk_ok r]
    exact ⟨fun _ => ex_put i c2 hj ha hb (by omega) r.1 r.2 b, fun z => absurd rfl z⟩
  · rw [if_neg r] at b
    rw [chk_no r]
    exact ⟨fun z => absurd z (show ¬ (3 : Nat) = 0 by decide), fun _ => TRAP_of i b⟩
theorem ex_mul {j w u : Nat} (hj : j < 4) (hw : w < 4) (hu : u < 4) (c : CA C0 h (St.mul j w u).code) (t : AT G C0 ret sl x h v P) : EXS G C0 ret sl x h (St.mul j w u) v P := by
  obtain ⟨a, f, bc, de, hl, m, ha, hb, hd, hh, i, e⟩ := t
  have c' : CA C0 h ([42, lo (vaN w), hi (vaN w), 237, 91, lo (vaN u), hi (vaN u), 205, 109, 0] ++ [34, lo (vaN j), hi (vaN j)]) := c
  obtain ⟨c1, c2⟩ := CA_app c'
  have le := CA_le i c1
  have b := b_mul (G := G) (P := P) (a := a) (f := f) (bc := bc) (de := de) (hl := hl) (ix := 59388) (sp := 59324) i.1 (CA_CB i c1) (by unfold vaN; omega) (by unfold vaN; omega) ha hb (by omega) (by omega) (by omega)
  have e1 : sg (wd m (vaN w)) = v w := MI_sg i (by omega)
  have e2 : sg (wd m (vaN u)) = v u := MI_sg i (by omega)
  rw [e1, e2, ← e] at b
  have q : actF (St.mul j w u) v = chk v j (v w * v u) := rfl
  unfold EXS
  rw [q]
  by_cases r : -32768 ≤ v w * v u ∧ v w * v u ≤ 32767
  · rw [if_pos r] at b
    obtain ⟨m', a', f', bc', de', q1, q2, q3, q4, q5, b⟩ := b
    rw [chk_ok r]
    exact ⟨fun _ => ex_put (MI_Kz i q2) c2 hj q3 q4 q5 r.1 r.2 b, fun z => absurd rfl z⟩
  · rw [if_neg r] at b
    rw [chk_no r]
    exact ⟨fun z => absurd z (show ¬ (3 : Nat) = 0 by decide), fun _ => TRAP_of i b⟩
theorem dv_rng {z : Int} {k : Nat} (h1 : -32768 ≤ z) (h2 : z ≤ 32767) (hk : 0 < k) : -32768 ≤ z / (k : Int) ∧ z / (k : Int) ≤ 32767 := by
  have hk' : (0 : Int) < k := by omega
  constructor
  · apply Int.le_ediv_of_mul_le hk'
    have : (-32768 : Int) * k ≤ -32768 * 1 := by
      rw [Int.neg_mul, Int.neg_mul]
      apply Int.neg_le_neg
      exact Int.mul_le_mul_of_nonneg_left (by omega) (by decide)
    omega
  · by_cases c : 0 ≤ z
    · exact Int.le_trans (Int.ediv_le_self _ c) h2
    · have := Int.ediv_neg_of_neg_of_pos (show z < 0 by omega) hk'
      omega
theorem md_rng {z : Int} {k : Nat} (hk : 0 < k) (hk2 : k < 32768) : -32768 ≤ z % (k : Int) ∧ z % (k : Int) ≤ 32767 := by
  have h1 := Int.emod_nonneg z (show (k : Int) ≠ 0 by omega)
  have h2 := Int.emod_lt_of_pos z (show (0 : Int) < k by omega)
  omega
theorem ex_div {j w k : Nat} (hj : j < 4) (hw : w < 4) (hk0 : 0 < k) (hk : k < 32768) (c : CA C0 h (St.div j w k).code) (t : AT G C0 ret sl x h v P) : EXS G C0 ret sl x h (St.div j w k) v P := by
  obtain ⟨a, f, bc, de, hl, m, ha, hb, hd, hh, i, e⟩ := t
  have c' : CA C0 h ([42, lo (vaN w), hi (vaN w), 17, lo k, hi k, 205, 118, 0] ++ [34, lo (vaN j), hi (vaN j)]) := c
  obtain ⟨c1, c2⟩ := CA_app c'
  have le := CA_le i c1
  obtain ⟨m', a', f', bc', de', q1, q2, q3, q4, q5, b⟩ := b_div (G := G) (P := P) (a := a) (f := f) (bc := bc) (de := de) (hl := hl) (ix := 59388) (sp := 59324) i.1 (CA_CB i c1) (by unfold vaN; omega) hk0 hk hb (by omega) (by omega) (by omega)
  have e1 : sg (wd m (vaN w)) = v w := MI_sg i (by omega)
  rw [e1, ← e] at b
  have q : actF (St.div j w k) v = chk v j (v w / k) := rfl
  have r := dv_rng (i.2.2.2.1 w (by omega)).2.1 (i.2.2.2.1 w (by omega)).2.2 hk0
  unfold EXS
  rw [q, chk_ok r]
  exact ⟨fun _ => ex_put (MI_Kz i q2) c2 hj q3 q4 q5 r.1 r.2 b, fun z => absurd rfl z⟩
theorem ex_mod {j w k : Nat} (hj : j < 4) (hw : w < 4) (hk0 : 0 < k) (hk : k < 32768) (c : CA C0 h (St.mod j w k).code) (t : AT G C0 ret sl x h v P) : EXS G C0 ret sl x h (St.mod j w k) v P := by
  obtain ⟨a, f, bc, de, hl, m, ha, hb, hd, hh, i, e⟩ := t
  have c' : CA C0 h ([42, lo (vaN w), hi (vaN w), 17, lo k, hi k, 205, 121, 0] ++ [34, lo (vaN j), hi (vaN j)]) := c
  obtain ⟨c1, c2⟩ := CA_app c'
  have le := CA_le i c1
  obtain ⟨m', a', f', bc', de', q1, q2, q3, q4, q5, b⟩ := b_mod (G := G) (P := P) (a := a) (f := f) (bc := bc) (de := de) (hl := hl) (ix := 59388) (sp := 59324) i.1 (CA_CB i c1) (by unfold vaN; omega) hk0 hk hb (by omega) (by omega) (by omega)
  have e1 : sg (wd m (vaN w)) = v w := MI_sg i (by omega)
  rw [e1, ← e] at b
  have q : actF (St.mod j w k) v = chk v j (v w % k) := rfl
  have r := md_rng (z := v w) hk0 hk
  unfold EXS
  rw [q, chk_ok r]
  exact ⟨fun _ => ex_put (MI_Kz i q2) c2 hj q3 q4 q5 r.1 r.2 b, fun z => absurd rfl z⟩
theorem ex_con {j k : Nat} (hj : j < 4) (hk : k < 32768) (c : CA C0 h (St.con j k).code) (t : AT G C0 ret sl x h v P) : EXS G C0 ret sl x h (St.con j k) v P := by
  obtain ⟨a, f, bc, de, hl, m, ha, hb, hd, hh, i, e⟩ := t
  have c' : CA C0 h ([33, lo k, hi k] ++ [34, lo (vaN j), hi (vaN j)]) := c
  obtain ⟨c1, c2⟩ := CA_app c'
  have le := CA_le i c1
  have b := b_ldc (G := G) (P := P) (a := a) (f := f) (bc := bc) (de := de) (hl := hl) (ix := 59388) (sp := 59324) (CA_CB i c1) (by omega)
  rw [← e] at b
  have q : actF (St.con j k) v = (0, up v j (k : Int)) := rfl
  unfold EXS
  rw [q]
  refine ⟨fun _ => ex_put (a := a) (f := f) (bc := bc) (de := de) (m := m) i c2 hj ha hb hd (r := (k : Int)) (by omega) (by omega) ?_, fun z => absurd rfl z⟩
  rw [us_nat (by omega)]
  exact b
theorem ex_get {j w : Nat} (hj : j < 4) (hw : w < 4) (c : CA C0 h (St.get j w).code) (t : AT G C0 ret sl x h v P) : EXS G C0 ret sl x h (St.get j w) v P := by
  obtain ⟨a, f, bc, de, hl, m, ha, hb, hd, hh, i, e⟩ := t
  have c' : CA C0 h ([42, lo (vaN w), hi (vaN w)] ++ ([205, 214, 0, 0, 0, 3, 0, 41, 17, 8, 232, 25] ++ ([94, 35, 86, 235] ++ [34, lo (vaN j), hi (vaN j)]))) := c
  obtain ⟨c1, c2⟩ := CA_app c'
  obtain ⟨c2, c3⟩ := CA_app c2
  obtain ⟨c3, c4⟩ := CA_app c3
  have le := CA_le i c2
  have b := b_ld (G := G) (P := P) (a := a) (f := f) (bc := bc) (de := de) (hl := hl) (ix := 59388) (sp := 59324) (CA_CB i c1) (by unfold vaN; omega) (by omega)
  have e1 : wd m (vaN w) = us (v w) := MI_wd i (by omega)
  have rw' := (i.2.2.2.1 w (by omega)).2
  rw [e1, ← e] at b
  have b2 := b_idx (G := G) (P := P) (a := a) (f := f) (bc := bc) (de := de) (hl := us (v w)) (ix := 59388) (sp := 59324) i.1 (CA_CB i c2) ha hb hd us_lt (by omega) (by omega) (by omega) (by omega)
  rw [show h + [42, lo (vaN w), hi (vaN w)].length = h + 3 from rfl, ← b] at b2
  have q : actF (St.get j w) v = if 0 ≤ v w ∧ v w ≤ 3 then (0, up v j (v (4 + (v w).toNat))) else (2, v) := rfl
  unfold EXS
  rw [q]
  by_cases r : 0 ≤ v w ∧ v w ≤ 3
  · have u4 : us (v w) < 4 := by unfold us; omega
    rw [if_pos u4] at b2
    obtain ⟨m', a', f', bc', de', q1, q2, q3, q4, q5, b2⟩ := b2
    have i2 := MI_Kz i q2
    have le3 := CA_le i2 c3
    have b3 := b_get (G := G) (P := P) (a := a') (f := f') (bc := bc') (de := de') (hl := 59400 + 2 * us (v w)) (ix := 59388) (sp := 59324) (CA_CB i2 c3) q5 (by omega) (by omega)
    rw [show h + [42, lo (vaN w), hi (vaN w)].length + [205, 214, 0, 0, 0, 3, 0, 41, 17, 8, 232, 25].length = h + 3 + 12 from rfl, ← b2] at b3
    have un : us (v w) = (v w).toNat := by unfold us; omega
    have e4 : wd m' (59400 + 2 * us (v w)) = us (v (4 + (v w).toNat)) := by
      have := MI_wd i2 (j := 4 + (v w).toNat) (by omega)
      rw [← this, un]; congr 1; omega
    have r4 := (i2.2.2.2.1 (4 + (v w).toNat) (by omega)).2
    rw [e4] at b3
    rw [if_pos r]
    exact ⟨fun _ => ex_put i2 c4 hj q3 q4 (by omega) r4.1 r4.2 b3, fun z => absurd rfl z⟩
  · have u4 : ¬ us (v w) < 4 := by unfold us; omega
    rw [if_neg u4] at b2
    rw [if_neg r]
    exact ⟨fun z => absurd z (show ¬ (2 : Nat) = 0 by decide), fun _ => TRAP_of i b2⟩
theorem ex_set {w u : Nat} (hw : w < 4) (hu : u < 4) (c : CA C0 h (St.set w u).code) (t : AT G C0 ret sl x h v P) : EXS G C0 ret sl x h (St.set w u) v P := by
  obtain ⟨a, f, bc, de, hl, m, ha, hb, hd, hh, i, e⟩ := t
  have c' : CA C0 h ([42, lo (vaN w), hi (vaN w), 17, lo 4, hi 4, 205, 121, 0] ++ ([205, 214, 0, 0, 0, 3, 0, 41, 17, 8, 232, 25] ++ [229, 42, lo (vaN u), hi (vaN u), 235, 225, 115, 35, 114])) := c
  obtain ⟨c1, c2⟩ := CA_app c'
  obtain ⟨c2, c3⟩ := CA_app c2
  have le := CA_le i c1
  have le2 := CA_le i c2
  obtain ⟨m1, a1, f1, bc1, de1, q1, q2, q3, q4, q5, b⟩ := b_mod (G := G) (P := P) (a := a) (f := f) (bc := bc) (de := de) (hl := hl) (ix := 59388) (sp := 59324) i.1 (CA_CB i c1) (by unfold vaN; omega) (by decide) (by decide) hb (by omega) (by omega) (by omega)
  have e1 : sg (wd m (vaN w)) = v w := MI_sg i (by omega)
  rw [e1, ← e] at b
  have i1 := MI_Kz i q2
  have m0 := Int.emod_nonneg (v w) (show (4 : Int) ≠ 0 by omega)
  have m4 := Int.emod_lt_of_pos (v w) (show (0 : Int) < 4 by omega)
  obtain ⟨k, hk⟩ : ∃ k, k = (v w % 4).toNat := ⟨_, rfl⟩
  have uk : us (v w % ((4 : Nat) : Int)) = k := by
    show us (v w % 4) = k
    unfold us; omega
  rw [uk] at b
  have b2 := b_idx (G := G) (P := P) (a := a1) (f := f1) (bc := bc1) (de := de1) (hl := k) (ix := 59388) (sp := 59324) i1.1 (CA_CB i1 c2) q3 q4 q5 (by omega) (by omega) (by omega) (by omega) (by omega)
  rw [show h + [42, lo (vaN w), hi (vaN w), 17, lo 4, hi 4, 205, 121, 0].length = h + 9 from rfl, ← b, if_pos (by omega)] at b2
  obtain ⟨m2, a2, f2, bc2, de2, r1, r2, r3, r4, r5, b2⟩ := b2
  have i2 := MI_Kz i1 r2
  have le3 := CA_le i2 c3
  obtain ⟨de3, hl3, m3, s1, s2, s3, s4, b3⟩ := b_set (G := G) (P := P) (a := a2) (f := f2) (bc := bc2) (de := de2) (hl := 59400 + 2 * k) (ix := 59388) (sp := 59324) (Y := vaN u) i2.1 (CA_CB i2 c3) r5 (by omega) (by unfold vaN; omega) (by unfold vaN; omega) (by omega) (by omega) (by omega) (by omega) (by omega)
  rw [show h + [42, lo (vaN w), hi (vaN w), 17, lo 4, hi 4, 205, 121, 0].length + [205, 214, 0, 0, 0, 3, 0, 41, 17, 8, 232, 25].length = h + 9 + 12 from rfl, ← b2] at b3
  have q : actF (St.set w u) v = (0, up v (4 + (v w % 4).toNat) (v u)) := rfl
  have ru := (i.2.2.2.1 u (by omega)).2
  unfold EXS
  rw [q, ← hk]
  refine ⟨fun _ => ⟨a2, f2, bc2, de3, hl3, m3, r3, r4, s1, s2, ?_, b3⟩, fun z => absurd rfl z⟩
  refine MI_set i2 (by omega) ru.1 ru.2 ?_ ?_
  · rw [show 59392 + 2 * (4 + k) = 59400 + 2 * k by omega, s3]
    exact MI_wd i2 (by omega)
  · intro y h1 h2
    exact s4 y (by omega) (by omega)
/-- every statement -/
theorem ex_st {s : St} (hs : s.ok) (c : CA C0 h s.code) (t : AT G C0 ret sl x h v P) : EXS G C0 ret sl x h s v P := by
  have H : CA C0 h s.code → EXS G C0 ret sl x h s v P := by
    refine St.all (p := fun s => CA C0 h s.code → EXS G C0 ret sl x h s v P) ?_ ?_ ?_ ?_ ?_ ?_ ?_ ?_ hs
    · intro a w u ok c; exact ex_add ok.1 ok.2.1 ok.2.2 c t
    · intro a w k ok c; exact ex_sub ok.1 ok.2.1 ok.2.2 c t
    · intro a w u ok c; exact ex_mul ok.1 ok.2.1 ok.2.2 c t
    · intro a w k ok c; exact ex_div ok.1 ok.2.1 ok.2.2.1 ok.2.2.2 c t
    · intro a w k ok c; exact ex_mod ok.1 ok.2.1 ok.2.2.1 ok.2.2.2 c t
    · intro w u ok c; exact ex_set ok.2.1 ok.2.2 c t
    · intro a w ok c; exact ex_get ok.2.1 ok.2.2 c t
    · intro a k ok c; exact ex_con ok.2.1 ok.2.2 c t
  exact H c
end
