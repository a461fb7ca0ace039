/-! The simulation: commands -/
set_option maxRecDepth 100000
set_option maxHeartbeats 4000000
def do1 (L : Nat) (s : St) (pi : Nat) (v : Nat → Int) (P : PT) : Nat × (Nat → Int) × PT := if P.st = L then (100, v, P) else ((actF s v).1, (actF s v).2, P.ask pi)
def loopR (L : Nat) (s : St) (w u pl pi : Nat) : Nat → (Nat → Int) → PT → Nat × (Nat → Int) × PT
  | 0, v, P => (100, v, P)
  | n + 1, v, P => if (do1 L s pi v P).1 ≠ 0 then do1 L s pi v P else if (do1 L s pi v P).2.1 w < (do1 L s pi v P).2.1 u then do1 L s pi v P else if (do1 L s pi v P).2.2.st = L then (100, (do1 L s pi v P).2.1, (do1 L s pi v P).2.2) else loopR L s w u pl pi n (do1 L s pi v P).2.1 ((do1 L s pi v P).2.2.ask pl)
def loopW (L : Nat) (s : St) (w u pl pi : Nat) : Nat → (Nat → Int) → PT → Nat × (Nat → Int) × PT
  | 0, v, P => (100, v, P)
  | n + 1, v, P => if v w > v u then (if (do1 L s pi v P).1 ≠ 0 then do1 L s pi v P else if (do1 L s pi v P).2.2.st = L then (100, (do1 L s pi v P).2.1, (do1 L s pi v P).2.2) else loopW L s w u pl pi n (do1 L s pi v P).2.1 ((do1 L s pi v P).2.2.ask pl)) else (0, v, P)
def loopF (L : Nat) (s : St) (a c pl pi : Nat) : Nat → (Nat → Int) → PT → Nat × (Nat → Int) × PT
  | 0, v, P => (100, v, P)
  | n + 1, v, P => if (do1 L s pi v P).1 ≠ 0 then do1 L s pi v P else if (c : Int) < (do1 L s pi v P).2.1 a + 3 then do1 L s pi v P else if (do1 L s pi v P).2.2.st = L then (100, up (do1 L s pi v P).2.1 a ((do1 L s pi v P).2.1 a + 3), (do1 L s pi v P).2.2) else loopF L s a c pl pi n (up (do1 L s pi v P).2.1 a ((do1 L s pi v P).2.1 a + 3)) ((do1 L s pi v P).2.2.ask pl)
/-- what the law does with a command whose place is pl, the place of the statement within pi, at most L steps in all -/
def doC (L : Nat) (c : Cmd) (pl pi : Nat) (v : Nat → Int) (P : PT) : Nat × (Nat → Int) × PT := if P.st = L then (100, v, P) else match c with
  | (1, _, _, _, s) => ((actF s v).1, (actF s v).2, P.ask pl)
  | (2, w, u, _, s) => if v w < v u then do1 L s pi v (P.ask pl) else (0, v, P.ask pl)
  | (3, a, w, c, s) => if (c : Int) < v w then (0, up v a (v w), P.ask pl) else loopF L s a c pl pi (L + 1) (up v a (v w)) (P.ask pl)
  | (4, a, c, _, _) => (0, v, (P.ask pl).wou ((P.ask pl).ou ++ wr (v a) c))
  | (5, w, u, _, s) => loopR L s w u pl pi (L + 1) v (P.ask pl)
  | (6, w, u, _, s) => loopW L s w u pl pi (L + 1) v (P.ask pl)
  | _ => (0, v, P)
/-- how a run of the code ends: behind the command; with no step left; in a trap -/
def OUT (G : GE) (C0 : List Nat) (ret : Nat) (x : RT) (h : Nat) (r : Nat × (Nat → Int) × PT) : Prop :=
  (r.1 = 0 → r.2.2.st ≤ G.2.2.2 ∧ ∃ sl, AT G C0 ret sl x h r.2.1 r.2.2) ∧ (r.1 = 100 → PAUSE G x r.2.2) ∧ (r.1 ≠ 0 → r.1 ≠ 100 → TRAP G x (if r.1 = 2 then 70 else 64) r.2.2)
section
variable {G : GE} {C0 : List Nat} {ret sl h : Nat} {v : Nat → Int} {P : PT} {x : RT}
theorem MI_w {m : Nat → Nat} (i : MI C0 ret sl m v) : KM m ∧ wd m 226 = 7800 ∧ wd m 228 = 1 ∧ wd m 232 = 8192 := ⟨i.1, i.2.2.2.2.1, i.2.2.2.2.2.1, i.2.2.2.2.2.2.1⟩
theorem ex_ask {pl : Nat} (hpl : pl < 65536) (c : CA C0 h (stp pl)) (t : AT G C0 ret sl x h v P) : (P.st < G.2.2.2 → AT G C0 ret sl x (h + 4) v (P.ask pl)) ∧ (P.st = G.2.2.2 → PAUSE G x P) := by
  obtain ⟨a, f, bc, de, hl, m, ha, hb, hd, hh, i, e⟩ := t
  have le := CA_le i c
  have b := b_ask (G := G) (P := P) (a := a) (f := f) (bc := bc) (de := de) (hl := hl) (ix := 59388) (sp := 59324) (pl := pl) (CA_CB i c) (by omega) (by omega) (by omega)
  rw [← e] at b
  have k : Kz 59324 m (pu m 59324 (h + 4)) := Kz_Sm (pu_Sm (by omega)) (by omega) (by omega)
  have i2 := MI_Kz i k
  constructor
  · intro hs
    refine ⟨a, f, bc, de, pl, _, ha, hb, hd, hpl, i2, b.trans ?_⟩
    exact b_asked i2.1 hpl (by omega) (by omega) (by omega) hs
  · intro hs
    obtain ⟨w0, w1, w2, w3⟩ := MI_w i2
    exact ⟨hs, a, f, bc, de, pl, 59388, 59322, _, w0, w1, w2, w3, hpl, by decide, b⟩
theorem ex_do1 {s : St} {pi : Nat} (hs : s.ok) (hpi : pi < 65536) (hP : P.st ≤ G.2.2.2) (c : CA C0 h (stp pi ++ s.code)) (t : AT G C0 ret sl x h v P) :
    ((do1 G.2.2.2 s pi v P).1 = 0 → (do1 G.2.2.2 s pi v P).2.2.st = P.st + 1 ∧ P.st < G.2.2.2 ∧ AT G C0 ret sl x (h + 4 + s.code.length) (do1 G.2.2.2 s pi v P).2.1 (do1 G.2.2.2 s pi v P).2.2) ∧ ((do1 G.2.2.2 s pi v P).1 = 100 → PAUSE G x (do1 G.2.2.2 s pi v P).2.2) ∧ ((do1 G.2.2.2 s pi v P).1 ≠ 0 → (do1 G.2.2.2 s pi v P).1 ≠ 100 → TRAP G x (if (do1 G.2.2.2 s pi v P).1 = 2 then 70 else 64) (do1 G.2.2.2 s pi v P).2.2) := by
  obtain ⟨c1, c2⟩ := CA_app c
  obtain ⟨t1, t2⟩ := ex_ask hpi c1 t
  unfold do1
  by_cases z : P.st = G.2.2.2
  · rw [if_pos z]
    exact ⟨fun q => absurd q (show ¬ (100 : Nat) = 0 by decide), fun _ => t2 z, fun _ q => absurd rfl q⟩
  · rw [if_neg z]
    have t3 := t1 (by omega)
    obtain ⟨e1, e2⟩ := ex_st hs c2 t3
    have nh : (actF s v).1 ≠ 100 := by
      have n0 : ¬ (0 : Nat) = 100 := by decide
      have n2 : ¬ (2 : Nat) = 100 := by decide
      have n3 : ¬ (3 : Nat) = 100 := by decide
      have ch : ∀ a r, (chk v a r).1 ≠ 100 := by intro a r; unfold chk; split; exact n0; exact n3
      unfold actF
      split <;> first | exact ch _ _ | exact n0 | (split; exact n0; exact n2)
    exact ⟨fun q => ⟨rfl, by omega, e1 q⟩, fun q => absurd q nh, fun q _ => e2 q⟩
theorem AT_bnd (t : AT G C0 ret sl x h v P) {j : Nat} (hj : j < 8) : -32768 ≤ v j ∧ v j ≤ 32767 := by
  obtain ⟨a, f, bc, de, hl, m, -, -, -, -, i, -⟩ := t
  exact (i.2.2.2.1 j hj).2
theorem ex_lt {w u T : Nat} (hw : w < 4) (hu : u < 4) (c : CA C0 h (condL w u T)) (t : AT G C0 ret sl x h v P) : AT G C0 ret sl x (if v w < v u then h + 13 else T) v P := by
  obtain ⟨a, f, bc, de, hl, m, ha, hb, hd, hh, i, e⟩ := t
  have le := CA_le i c
  obtain ⟨m', a', f', de', hl', q1, q2, q3, q4, q5, b⟩ := b_lt (G := G) (P := P) (a := a) (f := f) (bc := bc) (de := de) (hl := hl) (ix := 59388) (sp := 59324) (X := vaN w) (Y := vaN u) (T := T) i.1 (CA_CB i c) (by unfold vaN; omega) (by unfold vaN; omega) ha (by omega) (by omega) (by omega) (by omega)
  have e1 : sg (wd m (vaN w)) = v w := MI_sg i (by omega)
  have e2 : sg (wd m (vaN u)) = v u := MI_sg i (by omega)
  rw [e1, e2] at b
  exact ⟨a', f', bc, de', hl', m', q3, hb, q4, q5, MI_Kz i q2, e.trans b⟩
theorem ex_gt {w u T : Nat} (hw : w < 4) (hu : u < 4) (c : CA C0 h (condG w u T)) (t : AT G C0 ret sl x h v P) : AT G C0 ret sl x (if v w > v u then h + 14 else T) v P := by
  obtain ⟨a, f, bc, de, hl, m, ha, hb, hd, hh, i, e⟩ := t
  have le := CA_le i c
  obtain ⟨m', a', f', de', hl', q1, q2, q3, q4, q5, b⟩ := b_gt (G := G) (P := P) (a := a) (f := f) (bc := bc) (de := de) (hl := hl) (ix := 59388) (sp := 59324) (X := vaN w) (Y := vaN u) (T := T) i.1 (CA_CB i c) (by unfold vaN; omega) (by unfold vaN; omega) ha (by omega) (by omega) (by omega) (by omega)
  have e1 : sg (wd m (vaN w)) = v w := MI_sg i (by omega)
  have e2 : sg (wd m (vaN u)) = v u := MI_sg i (by omega)
  rw [e1, e2] at b
  exact ⟨a', f', bc, de', hl', m', q3, hb, q4, q5, MI_Kz i q2, e.trans b⟩
theorem ex_jp {T : Nat} (c : CA C0 h [195, lo T, hi T]) (t : AT G C0 ret sl x h v P) : AT G C0 ret sl x T v P := by
  obtain ⟨a, f, bc, de, hl, m, ha, hb, hd, hh, i, e⟩ := t
  have le := CA_le i c
  exact ⟨a, f, bc, de, hl, m, ha, hb, hd, hh, i, e.trans (b_jp (CA_CB i c) (by omega))⟩
/-- REPEAT, from the statement within on -/
theorem ex_loopR {s : St} {w u pl pi h0 : Nat} (hs : s.ok) (hw : w < 4) (hu : u < 4) (hpl : pl < 65536) (hpi : pi < 65536) (c0 : CA C0 h0 (stp pl)) (c1 : CA C0 (h0 + 4) (stp pi ++ s.code)) (c2 : CA C0 (h0 + 4 + (4 + s.code.length)) (condL w u h0)) :
    ∀ (n : Nat) {v : Nat → Int} {P : PT}, AT G C0 ret sl x (h0 + 4) v P → P.st ≤ G.2.2.2 → G.2.2.2 < P.st + n → OUT G C0 ret x (h0 + 4 + (4 + s.code.length) + 13) (loopR G.2.2.2 s w u pl pi n v P) := by
  intro n
  induction n with
  | zero => intro v P t h1 h2; omega
  | succ n ih =>
    intro v P t h1 h2
    obtain ⟨d1, d2, d3⟩ := ex_do1 hs hpi h1 c1 t
    unfold loopR
    by_cases z : (do1 G.2.2.2 s pi v P).1 ≠ 0
    · rw [if_pos z]
      exact ⟨fun q => absurd q z, d2, d3⟩
    · rw [if_neg z]
      obtain ⟨e1, e0, e2⟩ := d1 (Classical.not_not.mp z)
      have e3 := ex_lt hw hu c2 (show AT G C0 ret sl x (h0 + 4 + (4 + s.code.length)) _ _ by rw [show h0 + 4 + (4 + s.code.length) = h0 + 4 + 4 + s.code.length by omega]; exact e2)
      by_cases y : (do1 G.2.2.2 s pi v P).2.1 w < (do1 G.2.2.2 s pi v P).2.1 u
      · rw [if_pos y] at e3
        rw [if_pos y]
        exact ⟨fun _ => ⟨by omega, sl, e3⟩, fun q => absurd (q.symm.trans (Classical.not_not.mp z)) (by decide), fun q => absurd (Classical.not_not.mp z) q⟩
      · rw [if_neg y] at e3
        rw [if_neg y]
        obtain ⟨a1, a2⟩ := ex_ask hpl c0 e3
        by_cases y2 : (do1 G.2.2.2 s pi v P).2.2.st = G.2.2.2
        · rw [if_pos y2]
          exact ⟨fun q => absurd q (show ¬ (100 : Nat) = 0 by decide), fun _ => a2 y2, fun _ q => absurd rfl q⟩
        · rw [if_neg y2]
          have st2 : ((do1 G.2.2.2 s pi v P).2.2.ask pl).st = (do1 G.2.2.2 s pi v P).2.2.st + 1 := rfl
          exact ih (a1 (by omega)) (by omega) (by omega)
/-- WHILE, from its condition on -/
theorem ex_loopW {s : St} {w u pl pi h0 : Nat} (hs : s.ok) (hw : w < 4) (hu : u < 4) (hpl : pl < 65536) (hpi : pi < 65536) (c0 : CA C0 h0 (stp pl)) (c1 : CA C0 (h0 + 4) (condG w u (h0 + 25 + s.code.length))) (c2 : CA C0 (h0 + 18) (stp pi ++ s.code)) (c3 : CA C0 (h0 + 18 + (4 + s.code.length)) [195, lo h0, hi h0]) :
    ∀ (n : Nat) {v : Nat → Int} {P : PT}, AT G C0 ret sl x (h0 + 4) v P → P.st ≤ G.2.2.2 → G.2.2.2 < P.st + n → OUT G C0 ret x (h0 + 25 + s.code.length) (loopW G.2.2.2 s w u pl pi n v P) := by
  intro n
  induction n with
  | zero => intro v P t h1 h2; omega
  | succ n ih =>
    intro v P t h1 h2
    have e3 := ex_gt hw hu c1 t
    unfold loopW
    by_cases y : v w > v u
    · rw [if_pos y] at e3
      rw [if_pos y]
      obtain ⟨d1, d2, d3⟩ := ex_do1 hs hpi h1 c2 e3
      by_cases z : (do1 G.2.2.2 s pi v P).1 ≠ 0
      · rw [if_pos z]
        exact ⟨fun q => absurd q z, d2, d3⟩
      · rw [if_neg z]
        obtain ⟨e1, e0, e2⟩ := d1 (Classical.not_not.mp z)
        have e4 := ex_jp c3 (show AT G C0 ret sl x (h0 + 18 + (4 + s.code.length)) _ _ by rw [show h0 + 18 + (4 + s.code.length) = h0 + 18 + 4 + s.code.length by omega]; exact e2)
        obtain ⟨a1, a2⟩ := ex_ask hpl c0 e4
        by_cases y2 : (do1 G.2.2.2 s pi v P).2.2.st = G.2.2.2
        · rw [if_pos y2]
          exact ⟨fun q => absurd q (show ¬ (100 : Nat) = 0 by decide), fun _ => a2 y2, fun _ q => absurd rfl q⟩
        · rw [if_neg y2]
          have st2 : ((do1 G.2.2.2 s pi v P).2.2.ask pl).st = (do1 G.2.2.2 s pi v P).2.2.st + 1 := rfl
          exact ih (a1 (by omega)) (by omega) (by omega)
    · rw [if_neg y] at e3
      rw [if_neg y]
      exact ⟨fun _ => ⟨h1, sl, e3⟩, fun q => absurd q (show ¬ (0 : Nat) = 100 by decide), fun q => absurd rfl q⟩
/-- memories that are one below the variables and the stack have the same code -/
theorem CB_lo {m m' : Nat → Nat} {l : List Nat} {h : Nat} (hs : ∀ k, 256 ≤ k → k < 50000 → m' k = m k) (h1 : 256 ≤ h) (h2 : h + l.length < 50000) (hc : CB m h l) : CB m' h l := CB_same (fun k a b => hs k (by omega) (by omega)) hc
/-- FOR's beginning -/
theorem ex_for0 {a0 w k T : Nat} (ha0 : a0 < 4) (hw : w < 4) (hk : k < 32768) (c : CA C0 h (forA a0 w k T)) (t : AT G C0 ret sl x h v P) : AT G C0 ret k x (if (k : Int) < v w then T else h + 33) (up v a0 (v w)) P := by
  obtain ⟨a, f, bc, de, hl, m, ha, hb, hd, hh, i, e⟩ := t
  have le := CA_le i c
  have le2 : (forA a0 w k T).length = 33 := rfl
  have cb := CA_CB i c
  obtain ⟨y, hy⟩ : ∃ y, y = us (v w) := ⟨_, rfl⟩
  have ly : y < 65536 := by rw [hy]; exact us_lt
  have rw' := (i.2.2.2.1 w (by omega)).2
  have sy : sg y = v w := by rw [hy]; exact sg_us rw'.1 rw'.2
  have ew : wd m (vaN w) = y := by rw [hy]; exact MI_wd i (by omega)
  have hva : vaN a0 < 59400 ∧ 59392 ≤ vaN a0 := by unfold vaN; omega
  have hvw : vaN w < 59400 ∧ 59392 ≤ vaN w := by unfold vaN; omega
  obtain ⟨M1, hM1⟩ : ∃ M, M = pu m 59324 y := ⟨_, rfl⟩
  have t1 : Sm 59322 59324 m M1 := by rw [hM1]; exact pu_Sm (sp := 59324) (by omega)
  have w1 : wd M1 59322 = y := by rw [hM1]; exact pu_wd (sp := 59324) (by omega) ly
  obtain ⟨M2, hM2⟩ : ∃ M, M = up (up M1 59384 (k % 256)) 59385 (k / 256) := ⟨_, rfl⟩
  have t2 : Sm 59384 59386 M1 M2 := by rw [hM2]; exact Sm_up (Sm_up Sm_r (by omega) (by omega)) (by omega) (by omega)
  have r2a : rd M2 59384 = k % 256 := by rw [hM2, rd_ne (by omega), rd_eq]; omega
  have r2b : rd M2 59385 = k / 256 := by rw [hM2, rd_eq]; omega
  have w2 : wd M2 59322 = y := by rw [Sm_wd t2 (by omega), w1]
  obtain ⟨M3, hM3⟩ : ∃ M, M = pw M2 (vaN a0) y := ⟨_, rfl⟩
  have t3 : Sm (vaN a0) (vaN a0 + 2) M2 M3 := by rw [hM3]; exact pw_Sm
  have w3 : wd M3 (vaN a0) = y := by rw [hM3]; exact pw_wd ly
  have r3a : rd M3 59384 = k % 256 := by rw [Sm_rd t3 (by omega), r2a]
  have r3b : rd M3 59385 = k / 256 := by rw [Sm_rd t3 (by omega), r2b]
  obtain ⟨M4, hM4⟩ : ∃ M, M = pu M3 59324 (h + 30) := ⟨_, rfl⟩
  have t4 : Sm 59322 59324 M3 M4 := by rw [hM4]; exact pu_Sm (sp := 59324) (by omega)
  have w4 : wd M4 59322 = h + 30 := by rw [hM4]; exact pu_wd (sp := 59324) (by omega) (by omega)
  have lo1 : ∀ q, 256 ≤ q → q < 50000 → M1 q = m q := fun q _ _ => t1 q (by omega)
  have lo2 : ∀ q, 256 ≤ q → q < 50000 → M2 q = m q := fun q p p2 => (t2 q (by omega)).trans (lo1 q p p2)
  have lo3 : ∀ q, 256 ≤ q → q < 50000 → M3 q = m q := fun q p p2 => (t3 q (by omega)).trans (lo2 q p p2)
  have lo4 : ∀ q, 256 ≤ q → q < 50000 → M4 q = m q := fun q p p2 => (t4 q (by omega)).trans (lo3 q p p2)
  have cb1 := CB_lo lo1 (by omega) (by omega) cb
  have lo2' : ∀ q, 256 ≤ q → q < 50000 → up M1 59384 (k % 256) q = m q := fun q p p2 => by rw [up_ne (by omega)]; exact lo1 q p p2
  have cb2' := CB_lo lo2' (by omega) (by omega) cb
  have cb2 := CB_lo lo2 (by omega) (by omega) cb
  have cb3 := CB_lo lo3 (by omega) (by omega) cb
  have cb4 := CB_lo lo4 (by omega) (by omega) cb
  have i4 : MI C0 ret k M4 (up v a0 (v w)) := by
    have j1 : MI C0 ret sl M1 v := MI_Kz i (Kz_Sm t1 (by omega) (by omega))
    have j2 : MI C0 ret k M2 v := by
      obtain ⟨p1, p2, p3, p4, p5, p6, p7, p8, p9, p10⟩ := j1
      refine ⟨Sm_KM t2 p1 (by omega), CB_same (fun q z z2 => t2 q (by omega)) p2, p3, fun j hj => ?_, ?_, ?_, ?_, ?_, ?_, ?_⟩
      · rw [Sm_wd t2 (by omega)]; exact p4 j hj
      · rw [Sm_wd t2 (by omega), p5]
      · rw [Sm_wd t2 (by omega), p6]
      · rw [Sm_wd t2 (by omega), p7]
      · rw [Sm_wd t2 (by omega), p8]
      · rw [Sm_wd t2 (by omega), p9]
      · exact wd_of r2a r2b
    have j3 : MI C0 ret k M3 (up v a0 (v w)) := by rw [hM3, hy]; exact MI_pw j2 (by omega) rw'.1 rw'.2
    exact MI_Kz j3 (Kz_Sm t4 (by omega) (by omega))
  have j252 : jr 59388 252 = 59384 := by decide
  have j253 : jr 59388 253 = 59385 := by decide
  obtain ⟨b0, b1, b2, b3, -⟩ := cb
  obtain ⟨-, -, -, -, d4, d5, d6, d7, d8, d9, -⟩ := cb1
  obtain ⟨-, -, -, -, -, -, -, -, -, -, p10, p11, p12, -⟩ := cb2'
  obtain ⟨-, -, -, -, -, -, -, -, -, -, -, -, -, g13, g14, g15, g16, -⟩ := cb2
  obtain ⟨-, -, -, -, -, -, -, -, -, -, -, -, -, -, -, -, -, q17, q18, q19, q20, q21, q22, q23, q24, q25, q26, q27, q28, q29, -⟩ := cb3
  obtain ⟨-, -, -, -, -, -, -, -, -, -, -, -, -, -, -, -, -, -, -, -, -, -, -, -, -, -, -, -, -, -, s30, s31, s32, -⟩ := cb4
  obtain ⟨a', f', de', hl', ec, z1, z2, z3, z4⟩ := rt_cmp (G := G) (a := a) (bc := bc) (de := y) (hl := k) (ix := 59388) (sp := 59322) (f := f) (P := P) i4.1 (by omega) ly (by omega)
  rw [sy, sg_nat hk] at z4
  refine ⟨a', f', bc, de', hl', M4, z1, hb, z2, z3, i4, e.trans ?_⟩
  have w01 : wd m (h + 1) = vaN w := wd_of b1 b2
  have x252 : rd M1 (h + 7 + 2) = 252 := d9
  have x253 : rd (up M1 59384 (k % 256)) (h + 10 + 2) = 253 := p12
  have y252 : rd M3 (h + 20 + 2) = 252 := q22
  have y253 : rd M3 (h + 23 + 2) = 253 := q25
  have de1 : rd M3 59385 * 256 + (de / 256 * 256 + rd M3 59384) % 256 = k := by rw [r3a, r3b]; omega
  have w16 : wd M2 (h + 14 + 1) = vaN a0 := wd_of g15 g16
  have w18 : wd M3 (h + 17 + 1) = vaN a0 := wd_of q18 q19
  have w31 : wd M4 (h + 30 + 1) = T := wd_of s31 s32
  rw [rl_2A (pc := h) b0 (by omega) (by rw [w01]; omega), w01, ew, rl_E5 (pc := h + 3) b3 (by omega) (by omega) (by omega) ly, show up (up m (59324 - 1) (y / 256)) (59324 - 2) y = M1 from hM1.symm, rl_21 (pc := h + 4) d4 (by omega), show wd M1 (h + 4 + 1) = k from wd_of d5 d6,
    rl_DD75 (pc := h + 7) d7 d8 (by omega) (by omega) (by omega), x252, j252, rl_DD74 (pc := h + 10) p10 p11 (by omega) (by omega) (by omega), x253, j253, ← hM2, rl_E1 (pc := h + 13) g13 (by omega) (by omega), show wd M2 (59324 - 2) = y from w2, show 59324 - 2 + 2 = 59324 from rfl,
    rl_22 (pc := h + 14) g14 (by omega) ly (by rw [w16]; omega), w16, show up (up M2 (vaN a0) y) (vaN a0 + 1) (y / 256) = M3 from hM3.symm, rl_2A (pc := h + 17) q17 (by omega) (by rw [w18]; omega), w18, w3,
    rl_DD5E (pc := h + 20) q20 q21 (by omega) (by omega) hd, y252, j252, rl_DD56 (pc := h + 23) q23 q24 (by omega) (by omega) (by rw [r3a]; omega), y253, j253, de1, rl_EB (pc := h + 26) q26 (by omega) ly (by omega),
    b_call (h := h + 27) (t := 103) ⟨q27, q28, q29, trivial⟩ (by omega) (by omega) (by omega), show h + 27 + 3 = h + 30 by omega, ← hM4, k_103 i4.1, show 59324 - 2 = 59322 from rfl, ec, w4, rl_DA (pc := h + 30) s30 (by omega), w31]
  simp only [z4]
  split <;> rfl
end
