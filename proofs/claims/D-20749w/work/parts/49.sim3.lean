/-! The simulation: FOR, WriteInt, a row of commands -/
set_option maxRecDepth 100000
set_option maxHeartbeats 4000000
section
variable {G : GE} {C0 : List Nat} {ret sl h : Nat} {v : Nat → Int} {P : PT} {x : RT}
/-- FOR's next -/
theorem ex_for1 {a0 k T : Nat} (ha0 : a0 < 4) (hk : k < 32768) (c : CA C0 h (forB a0 T)) (t : AT G C0 ret k x h v P) :
    ((k : Int) < v a0 + 3 → AT G C0 ret k x T v P) ∧ (¬ (k : Int) < v a0 + 3 → AT G C0 ret k x (h + 21) (up v a0 (v a0 + 3)) P) := by
  obtain ⟨a, f, bc, de, hl, m, ha, hb, hd, hh, i, e⟩ := t
  have le := CA_le i c
  have le2 : (forB a0 T).length = 21 := rfl
  have cb := CA_CB i c
  obtain ⟨y, hy⟩ : ∃ y, y = us (v a0) := ⟨_, rfl⟩
  have ly : y < 65536 := by rw [hy]; exact us_lt
  have rw' := (i.2.2.2.1 a0 (by omega)).2
  have sy : sg y = v a0 := by rw [hy]; exact sg_us rw'.1 rw'.2
  have ew : wd m (vaN a0) = y := by rw [hy]; exact MI_wd i (by omega)
  have hva : vaN a0 < 59400 ∧ 59392 ≤ vaN a0 := by unfold vaN; omega
  obtain ⟨M1, hM1⟩ : ∃ M, M = pu m 59324 (h + 12) := ⟨_, rfl⟩
  have t1 : Sm 59322 59324 m M1 := by rw [hM1]; exact pu_Sm (sp := 59324) (by omega)
  have w1 : wd M1 59322 = h + 12 := by rw [hM1]; exact pu_wd (sp := 59324) (by omega) (by omega)
  have i1 : MI C0 ret k M1 v := MI_Kz i (Kz_Sm t1 (by omega) (by omega))
  have cb1 := CA_CB i1 c
  obtain ⟨b0, b1, b2, b3, b4, b5, b6, b7, b8, b9, b10, b11, -⟩ := cb
  obtain ⟨-, -, -, -, -, -, -, -, -, -, -, -, d12, d13, d14, -⟩ := cb1
  obtain ⟨a', f', bc', de', hl', m', z1, z2, z3, z4, z5, ec, zc, zh⟩ := rt_nxt (G := G) (a := a) (bc := bc) (b := k) (v := y) (ix := 59388) (sp := 59322) (RA := h + 12) (f := f) (P := P) i1.1 ha hb (by omega) ly (by omega) (by omega) w1 (by omega) (by omega) d12 d13 d14
  rw [sy, sg_nat hk] at zc zh
  have i2 : MI C0 ret k m' v := MI_Kz i1 (Kz_Kp z5 (by omega) (by omega))
  have cb2 := CA_CB i2 c
  obtain ⟨-, -, -, -, -, -, -, -, -, -, -, -, -, -, -, p15, p16, p17, p18, p19, p20, -⟩ := cb2
  have j252 : jr 59388 252 = 59384 := by decide
  have j253 : jr 59388 253 = 59385 := by decide
  have w01 : wd m (h + 1) = vaN a0 := wd_of b1 b2
  have x252 : rd m (h + 3 + 2) = 252 := b5
  have x253 : rd m (h + 6 + 2) = 253 := b8
  have sk : rd m 59384 + 256 * rd m 59385 = k := by have := i.2.2.2.2.2.2.2.2.2; unfold wd at this; omega
  have r8 : rd m 59384 < 256 := by unfold rd; exact Nat.mod_lt _ (by decide)
  have de1 : rd m 59385 * 256 + (de / 256 * 256 + rd m 59384) % 256 = k := by omega
  have w15 : wd m' (h + 15 + 1) = T := wd_of p16 p17
  have w18 : wd m' (h + 18 + 1) = vaN a0 := wd_of p19 p20
  have E : x = if cC f' then RL G a' f' bc' de' hl' 59388 59324 T m' P else RL G a' f' bc' de' hl' 59388 59324 (h + 18) m' P := by
    refine e.trans ?_
    rw [rl_2A (pc := h) b0 (by omega) (by rw [w01]; omega), w01, ew, rl_DD5E (pc := h + 3) b3 b4 (by omega) (by omega) hd, x252, j252, rl_DD56 (pc := h + 6) b6 b7 (by omega) (by omega) (by omega), x253, j253, de1,
      b_call (h := h + 9) (t := 208) ⟨b9, b10, b11, trivial⟩ (by omega) (by omega) (by omega), show h + 9 + 3 = h + 12 by omega, ← hM1, k_208 i1.1, show 59324 - 2 = 59322 from rfl, ec, show 59322 + 2 = 59324 from rfl, show h + 12 + 3 = h + 15 by omega, rl_DA (pc := h + 15) p15 (by omega), w15]
  simp only [zc] at E
  constructor
  · intro hc
    rw [if_pos hc] at E
    exact ⟨a', f', bc', de', hl', m', z1, z2, z3, z4, i2, E⟩
  · intro hc
    rw [if_neg hc] at E
    have hh' := zh hc
    subst hh'
    have b5' := b_st (G := G) (P := P) (a := a') (f := f') (bc := bc') (de := de') (hl := us (v a0 + 3)) (ix := 59388) (sp := 59324) (X := vaN a0) (m := m') (h := h + 18) ⟨p18, p19, p20, trivial⟩ us_lt (by omega) (by omega)
    refine ⟨a', f', bc', de', us (v a0 + 3), _, z1, z2, z3, us_lt, MI_pw i2 (j := a0) (r := v a0 + 3) (by omega) (by omega) (by omega), E.trans b5'⟩
/-- FOR, from the statement within on -/
theorem ex_loopF {s : St} {a0 k pl pi h0 : Nat} (hs : s.ok) (ha0 : a0 < 4) (hk : k < 32768) (hpl : pl < 65536) (hpi : pi < 65536) (c1 : CA C0 h0 (stp pi ++ s.code)) (c2 : CA C0 (h0 + (4 + s.code.length)) (forB a0 (h0 + 32 + s.code.length))) (c3 : CA C0 (h0 + (4 + s.code.length) + 21) (stp pl)) (c4 : CA C0 (h0 + (4 + s.code.length) + 21 + 4) [195, lo h0, hi h0]) :
    ∀ (n : Nat) {v : Nat → Int} {P : PT}, AT G C0 ret k x h0 v P → P.st ≤ G.2.2.2 → G.2.2.2 < P.st + n → OUT G C0 ret x (h0 + 32 + s.code.length) (loopF G.2.2.2 s a0 k pl pi n v P) := by
  intro n
  induction n with
  | zero => intro v P t h1 h2; omega
  | succ n ih =>
    intro v P t h1 h2
    obtain ⟨d1, d2, d3⟩ := ex_do1 hs hpi h1 c1 t
    unfold loopF
    by_cases z : (do1 G.2.2.2 s pi v P).1 ≠ 0
    · rw [if_pos z]
      exact ⟨fun q => absurd q z, d2, d3⟩
    · rw [if_neg z]
      obtain ⟨e1, e0, e2⟩ := d1 (Classical.not_not.mp z)
      obtain ⟨e3, e4⟩ := ex_for1 ha0 hk c2 (show AT G C0 ret k x (h0 + (4 + s.code.length)) _ _ by rw [show h0 + (4 + s.code.length) = h0 + 4 + s.code.length by omega]; exact e2)
      by_cases y : (k : Int) < (do1 G.2.2.2 s pi v P).2.1 a0 + 3
      · rw [if_pos y]
        exact ⟨fun _ => ⟨by omega, k, e3 y⟩, fun q => absurd (q.symm.trans (Classical.not_not.mp z)) (by decide), fun q => absurd (Classical.not_not.mp z) q⟩
      · rw [if_neg y]
        obtain ⟨a1, a2⟩ := ex_ask hpl c3 (e4 y)
        by_cases y2 : (do1 G.2.2.2 s pi v P).2.2.st = G.2.2.2
        · rw [if_pos y2]
          exact ⟨fun q => absurd q (show ¬ (100 : Nat) = 0 by decide), fun _ => a2 y2, fun _ q => absurd rfl q⟩
        · rw [if_neg y2]
          have st2 : ((do1 G.2.2.2 s pi v P).2.2.ask pl).st = (do1 G.2.2.2 s pi v P).2.2.st + 1 := rfl
          exact ih (ex_jp c4 (a1 (by omega))) (by omega) (by omega)
theorem ex_wri {a0 w : Nat} (ha0 : a0 < 4) (hw : w < 8) (hP : P.ou.length + 20 < 1999) (c : CA C0 h [42, lo (vaN a0), hi (vaN a0), 229, 33, lo w, hi w, 229, 209, 225, 205, 175, 0]) (t : AT G C0 ret sl x h v P) : AT G C0 ret sl x (h + 13) v (P.wou (P.ou ++ wr (v a0) w)) := by
  obtain ⟨a, f, bc, de, hl, m, ha, hb, hd, hh, i, e⟩ := t
  have le := CA_le i c
  obtain ⟨m', a', f', bc', de', hl', q1, q2, q3, q4, q5, q6, b⟩ := b_wri (G := G) (P := P) (a := a) (f := f) (bc := bc) (de := de) (hl := hl) (ix := 59388) (sp := 59324) (X := vaN a0) (w := w) i.1 (CA_CB i c) hw ha hb (by unfold vaN; omega) (by omega) (by omega) (by omega) (by omega) hP
  have e1 : sg (wd m (vaN a0)) = v a0 := MI_sg i (by omega)
  rw [e1] at b
  exact ⟨a', f', bc', de', hl', m', q3, q4, q5, q6, MI_Kz i q2, e.trans b⟩
theorem OUT_0 {r : Nat × (Nat → Int) × PT} (h0 : r.1 = 0) (h1 : r.2.2.st ≤ G.2.2.2) (t : AT G C0 ret sl x h r.2.1 r.2.2) : OUT G C0 ret x h r := ⟨fun _ => ⟨h1, sl, t⟩, fun q => absurd (q.symm.trans h0) (by decide), fun q => absurd h0 q⟩
theorem OUT_100 {r : Nat × (Nat → Int) × PT} (h0 : r.1 = 100) (t : PAUSE G x r.2.2) : OUT G C0 ret x h r := ⟨fun q => absurd (h0.symm.trans q) (by decide), fun _ => t, fun _ q => absurd h0 q⟩
theorem act_100 {s : St} {v : Nat → Int} : (actF s v).1 ≠ 100 := by
  have n0 : ¬ (0 : Nat) = 100 := by decide
  have n2 : ¬ (2 : Nat) = 100 := by decide
  have n3 : ¬ (3 : Nat) = 100 := by decide
  have ch : ∀ a r, (chk v a r).1 ≠ 100 := by intro a r; unfold chk; split; exact n0; exact n3
  unfold actF
  split <;> first | exact ch _ _ | exact n0 | (split; exact n0; exact n2)
theorem OUT_do1 {s : St} {pi : Nat} (hs : s.ok) (hpi : pi < 65536) (hP : P.st ≤ G.2.2.2) (c : CA C0 h (stp pi ++ s.code)) (t : AT G C0 ret sl x h v P) : OUT G C0 ret x (h + 4 + s.code.length) (do1 G.2.2.2 s pi v P) := by
  obtain ⟨a, b, d⟩ := ex_do1 hs hpi hP c t
  exact ⟨fun q => ⟨by have := a q; omega, sl, (a q).2.2⟩, b, d⟩
/-- every command -/
theorem ex_cm {cm : Cmd} {pl pi : Nat} (hc : cm.ok) (hpl : pl < 65536) (hpi : pi < 65536) (hP : P.st ≤ G.2.2.2) (hou : P.ou.length + 20 < 1999) (c : CA C0 h (cm.code h pl pi)) (t : AT G C0 ret sl x h v P) : OUT G C0 ret x (h + (cm.code h pl pi).length) (doC G.2.2.2 cm pl pi v P) := by
  have sk : (P.ask pl).st = P.st + 1 := rfl
  have l4 : ∀ q, (stp q).length = 4 := fun _ => rfl
  have H : CA C0 h (cm.code h pl pi) → OUT G C0 ret x (h + (cm.code h pl pi).length) (doC G.2.2.2 cm pl pi v P) := by
    by_cases hz : P.st = G.2.2.2
    · intro c
      have e : doC G.2.2.2 cm pl pi v P = (100, v, P) := by unfold doC; exact if_pos hz
      rw [e]
      obtain ⟨l, hl⟩ : ∃ l, cm.code h pl pi = stp pl ++ l := by
        refine Cmd.all (p := fun cm => ∃ l, cm.code h pl pi = stp pl ++ l) ?_ ?_ ?_ ?_ ?_ ?_ hc
        all_goals intros; exact ⟨_, rfl⟩
      rw [hl] at c
      exact OUT_100 (r := (100, v, P)) rfl ((ex_ask hpl (CA_app c).1 t).2 hz)
    refine Cmd.all (p := fun cm => CA C0 h (cm.code h pl pi) → OUT G C0 ret x (h + (cm.code h pl pi).length) (doC G.2.2.2 cm pl pi v P)) ?_ ?_ ?_ ?_ ?_ ?_ hc
    · intro s ok c
      obtain ⟨c1, c2⟩ := CA_app (show CA C0 h (stp pl ++ s.code) from c)
      obtain ⟨t1, -⟩ := ex_ask hpl c1 t
      rw [show doC G.2.2.2 (Cmd.one s) pl pi v P = ((actF s v).1, (actF s v).2, P.ask pl) by unfold doC; exact if_neg hz]
      obtain ⟨e1, e2⟩ := ex_st ok.2.2.2 c2 (t1 (by omega))
      rw [show h + ((Cmd.one s).code h pl pi).length = h + 4 + s.code.length by show h + (stp pl ++ s.code).length = _; rw [List.length_append, l4]; omega]
      exact ⟨fun q => ⟨show P.st + 1 ≤ _ by omega, sl, e1 q⟩, fun q => absurd q act_100, fun q _ => e2 q⟩
    · intro w u s ok c
      obtain ⟨c1, c2⟩ := CA_app (show CA C0 h (stp pl ++ (condL w u (h + 21 + s.code.length) ++ (stp pi ++ s.code))) from c)
      obtain ⟨c2, c3⟩ := CA_app c2
      obtain ⟨t1, -⟩ := ex_ask hpl c1 t
      have e := ex_lt ok.2.1 ok.2.2.1 c2 (t1 (by omega))
      rw [show doC G.2.2.2 (Cmd.iff w u s) pl pi v P = if v w < v u then do1 G.2.2.2 s pi v (P.ask pl) else (0, v, P.ask pl) by unfold doC; exact if_neg hz]
      rw [show h + ((Cmd.iff w u s).code h pl pi).length = h + 4 + 13 + 4 + s.code.length by show h + (stp pl ++ (condL w u (h + 21 + s.code.length) ++ (stp pi ++ s.code))).length = _; rw [List.length_append, List.length_append, List.length_append, l4, l4, show (condL w u (h + 21 + s.code.length)).length = 13 from rfl]; omega]
      by_cases y : v w < v u
      · rw [if_pos y] at e
        rw [if_pos y]
        exact OUT_do1 ok.2.2.2 hpi (by omega) c3 e
      · rw [if_neg y] at e
        rw [if_neg y]
        refine OUT_0 (sl := sl) rfl (show P.st + 1 ≤ _ by omega) ?_
        rw [show h + 4 + 13 + 4 + s.code.length = h + 21 + s.code.length by omega]
        exact e
    · intro a0 w k s ok c
      obtain ⟨c1, c2⟩ := CA_app (show CA C0 h (stp pl ++ (forA a0 w k (h + 69 + s.code.length) ++ ((stp pi ++ s.code) ++ (forB a0 (h + 69 + s.code.length) ++ (stp pl ++ [195, lo (h + 37), hi (h + 37)]))))) from c)
      obtain ⟨c2, c3⟩ := CA_app c2
      obtain ⟨c3, c4⟩ := CA_app c3
      obtain ⟨c4, c5⟩ := CA_app c4
      obtain ⟨c5, c6⟩ := CA_app c5
      obtain ⟨t1, -⟩ := ex_ask hpl c1 t
      have l33 : (forA a0 w k (h + 69 + s.code.length)).length = 33 := rfl
      have l21 : (forB a0 (h + 69 + s.code.length)).length = 21 := rfl
      have e := ex_for0 ok.1 ok.2.1 ok.2.2.1 c2 (t1 (by omega))
      rw [show doC G.2.2.2 (Cmd.fo a0 w k s) pl pi v P = if (k : Int) < v w then (0, up v a0 (v w), P.ask pl) else loopF G.2.2.2 s a0 k pl pi (G.2.2.2 + 1) (up v a0 (v w)) (P.ask pl) by unfold doC; exact if_neg hz]
      rw [show h + ((Cmd.fo a0 w k s).code h pl pi).length = h + 69 + s.code.length by show h + (stp pl ++ (forA a0 w k (h + 69 + s.code.length) ++ ((stp pi ++ s.code) ++ (forB a0 (h + 69 + s.code.length) ++ (stp pl ++ [195, lo (h + 37), hi (h + 37)]))))).length = _; rw [List.length_append, List.length_append, List.length_append, List.length_append, List.length_append, List.length_append, l4, l4, l33, l21, show [195, lo (h + 37), hi (h + 37)].length = 3 from rfl]; omega]
      by_cases y : (k : Int) < v w
      · rw [if_pos y] at e
        rw [if_pos y]
        exact OUT_0 (sl := k) rfl (show P.st + 1 ≤ _ by omega) e
      · rw [if_neg y] at e
        rw [if_neg y]
        have ls : (stp pi ++ s.code).length = 4 + s.code.length := by rw [List.length_append, l4]
        rw [l4, l33] at c3
        rw [l4, l33, ls] at c4
        rw [l4, l33, ls, l21] at c5
        rw [l4, l33, ls, l21] at c6
        have z := ex_loopF (G := G) (C0 := C0) (ret := ret) (x := x) (h0 := h + 37) (s := s) (k := k) (pl := pl) (pi := pi) ok.2.2.2 ok.1 ok.2.2.1 hpl hpi (show CA C0 (h + 37) _ by rw [show h + 37 = h + 4 + 33 by omega]; exact c3)
          (show CA C0 (h + 37 + (4 + s.code.length)) (forB a0 (h + 37 + 32 + s.code.length)) by rw [show h + 37 = h + 4 + 33 by omega, show h + 4 + 33 + 32 = h + 69 by omega]; exact c4)
          (show CA C0 (h + 37 + (4 + s.code.length) + 21) _ by rw [show h + 37 = h + 4 + 33 by omega]; exact c5)
          (show CA C0 (h + 37 + (4 + s.code.length) + 21 + 4) _ by rw [show h + 37 + (4 + s.code.length) + 21 + 4 = h + 4 + 33 + (4 + s.code.length) + 21 + 4 by omega]; exact c6) (G.2.2.2 + 1) (v := up v a0 (v w)) (P := P.ask pl) (show AT G C0 ret k x (h + 37) _ _ by rw [show h + 37 = h + 4 + 33 by omega]; exact e) (by omega) (by omega)
        rw [show h + 37 + 32 + s.code.length = h + 69 + s.code.length by omega] at z
        exact z
    · intro a0 w ok c
      obtain ⟨c1, c2⟩ := CA_app (show CA C0 h (stp pl ++ [42, lo (vaN a0), hi (vaN a0), 229, 33, lo w, hi w, 229, 209, 225, 205, 175, 0]) from c)
      obtain ⟨t1, -⟩ := ex_ask hpl c1 t
      rw [show doC G.2.2.2 (Cmd.wri a0 w) pl pi v P = (0, v, (P.ask pl).wou ((P.ask pl).ou ++ wr (v a0) w)) by unfold doC; exact if_neg hz]
      have so : (P.ask pl).ou = P.ou := rfl
      exact OUT_0 (sl := sl) rfl (show P.st + 1 ≤ _ by omega) (ex_wri ok.2.2.1 ok.2.2.2 (by rw [so]; exact hou) c2 (t1 (by omega)))
    · intro w u s ok c
      obtain ⟨c1, c2⟩ := CA_app (show CA C0 h (stp pl ++ ((stp pi ++ s.code) ++ condL w u h)) from c)
      obtain ⟨c2, c3⟩ := CA_app c2
      obtain ⟨t1, -⟩ := ex_ask hpl c1 t
      rw [show doC G.2.2.2 (Cmd.rep w u s) pl pi v P = loopR G.2.2.2 s w u pl pi (G.2.2.2 + 1) v (P.ask pl) by unfold doC; exact if_neg hz]
      rw [show h + ((Cmd.rep w u s).code h pl pi).length = h + 4 + (4 + s.code.length) + 13 by show h + (stp pl ++ ((stp pi ++ s.code) ++ condL w u h)).length = _; rw [List.length_append, List.length_append, List.length_append, l4, l4, show (condL w u h).length = 13 from rfl]; omega]
      rw [List.length_append, l4, l4] at c3
      exact ex_loopR ok.2.2.2 ok.2.1 ok.2.2.1 hpl hpi c1 c2 c3 _ (t1 (by omega)) (by omega) (by omega)
    · intro w u s ok c
      obtain ⟨c1, c2⟩ := CA_app (show CA C0 h (stp pl ++ (condG w u (h + 25 + s.code.length) ++ ((stp pi ++ s.code) ++ [195, lo h, hi h]))) from c)
      obtain ⟨c2, c3⟩ := CA_app c2
      obtain ⟨c3, c4⟩ := CA_app c3
      obtain ⟨t1, -⟩ := ex_ask hpl c1 t
      rw [show doC G.2.2.2 (Cmd.whi w u s) pl pi v P = loopW G.2.2.2 s w u pl pi (G.2.2.2 + 1) v (P.ask pl) by unfold doC; exact if_neg hz]
      have l14 : (condG w u (h + 25 + s.code.length)).length = 14 := rfl
      rw [show h + ((Cmd.whi w u s).code h pl pi).length = h + 25 + s.code.length by show h + (stp pl ++ (condG w u (h + 25 + s.code.length) ++ ((stp pi ++ s.code) ++ [195, lo h, hi h]))).length = _; rw [List.length_append, List.length_append, List.length_append, List.length_append, l4, l4, l14, show [195, lo h, hi h].length = 3 from rfl]; omega]
      rw [l4, l14] at c3 c4
      rw [List.length_append, l4] at c4
      exact ex_loopW (h0 := h) ok.2.2.2 ok.2.1 ok.2.2.1 hpl hpi c1 c2 (show CA C0 (h + 18) _ by rw [show h + 18 = h + 4 + 14 by omega]; exact c3) (show CA C0 (h + 18 + (4 + s.code.length)) _ by rw [show h + 18 = h + 4 + 14 by omega]; exact c4) _ (t1 (by omega)) (by omega) (by omega)
  exact H c
/-- what the law does with a row of commands -/
def doR (L : Nat) : List (Cmd × Nat × Nat) → (Nat → Int) → PT → Nat × (Nat → Int) × PT
  | [], v, P => (0, v, P)
  | (c, pl, pi) :: r, v, P => if (doC L c pl pi v P).1 ≠ 0 then doC L c pl pi v P else doR L r (doC L c pl pi v P).2.1 (doC L c pl pi v P).2.2
theorem wr_le {y : Int} {w : Nat} (h : y.natAbs < 100000) (hw : w < 8) : (wr y w).length ≤ 20 := by
  have n5 := nd_le h
  unfold wr
  rw [List.length_append, List.length_append, List.length_replicate, List.length_map, List.length_reverse, List.length_range]
  split <;> simp <;> omega
theorem do1_ou {L pi : Nat} {s : St} {v : Nat → Int} {P : PT} : (do1 L s pi v P).2.2.ou = P.ou := by unfold do1; split <;> rfl
theorem loopR_ou {L w u pl pi : Nat} {s : St} (n : Nat) {v : Nat → Int} {P : PT} : (loopR L s w u pl pi n v P).2.2.ou = P.ou := by
  induction n generalizing v P with
  | zero => rfl
  | succ n ih =>
    unfold loopR
    split
    · exact do1_ou
    · split
      · exact do1_ou
      · split
        · exact do1_ou
        · rw [ih]; exact do1_ou
theorem loopW_ou {L w u pl pi : Nat} {s : St} (n : Nat) {v : Nat → Int} {P : PT} : (loopW L s w u pl pi n v P).2.2.ou = P.ou := by
  induction n generalizing v P with
  | zero => rfl
  | succ n ih =>
    unfold loopW
    split
    · split
      · exact do1_ou
      · split
        · exact do1_ou
        · rw [ih]; exact do1_ou
    · rfl
theorem loopF_ou {L a c pl pi : Nat} {s : St} (n : Nat) {v : Nat → Int} {P : PT} : (loopF L s a c pl pi n v P).2.2.ou = P.ou := by
  induction n generalizing v P with
  | zero => rfl
  | succ n ih =>
    unfold loopF
    split
    · exact do1_ou
    · split
      · exact do1_ou
      · split
        · exact do1_ou
        · rw [ih]; exact do1_ou
theorem doC_ou {L pl pi : Nat} {c : Cmd} {v : Nat → Int} {P : PT} (hc : c.ok) (hv : ∀ j, j < 4 → (v j).natAbs < 100000) : (doC L c pl pi v P).2.2.ou.length ≤ P.ou.length + 20 := by
  unfold doC
  split
  · show P.ou.length ≤ _; omega
  · refine Cmd.all (p := fun c => (match c with
  | (1, _, _, _, s) => ((actF s v).1, (actF s v).2, P.ask pl)
  | (2, w, u, _, s) => if v w < v u then do1 L s pi v (P.ask pl) else (0, v, P.ask pl)
  | (3, a, w, c, s) => if (c : Int) < v w then (0, up v a (v w), P.ask pl) else loopF L s a c pl pi (L + 1) (up v a (v w)) (P.ask pl)
  | (4, a, c, _, _) => (0, v, (P.ask pl).wou ((P.ask pl).ou ++ wr (v a) c))
  | (5, w, u, _, s) => loopR L s w u pl pi (L + 1) v (P.ask pl)
  | (6, w, u, _, s) => loopW L s w u pl pi (L + 1) v (P.ask pl)
  | _ => ((0, v, P) : Nat × (Nat → Int) × PT)).2.2.ou.length ≤ P.ou.length + 20) ?_ ?_ ?_ ?_ ?_ ?_ hc
    · intro s ok; show P.ou.length ≤ _; omega
    · intro w u s ok
      show (if v w < v u then do1 L s pi v (P.ask pl) else (0, v, P.ask pl)).2.2.ou.length ≤ _
      split
      · rw [do1_ou]; show P.ou.length ≤ _; omega
      · show P.ou.length ≤ _; omega
    · intro a w k s ok
      show (if (k : Int) < v w then (0, up v a (v w), P.ask pl) else loopF L s a k pl pi (L + 1) (up v a (v w)) (P.ask pl)).2.2.ou.length ≤ _
      split
      · show P.ou.length ≤ _; omega
      · rw [loopF_ou]; show P.ou.length ≤ _; omega
    · intro a c ok
      show (P.ou ++ wr (v a) c).length ≤ _
      rw [List.length_append]
      have := wr_le (hv a ok.2.2.1) ok.2.2.2
      omega
    · intro w u s ok
      show (loopR L s w u pl pi (L + 1) v (P.ask pl)).2.2.ou.length ≤ _
      rw [loopR_ou]; show P.ou.length ≤ _; omega
    · intro w u s ok
      show (loopW L s w u pl pi (L + 1) v (P.ask pl)).2.2.ou.length ≤ _
      rw [loopW_ou]; show P.ou.length ≤ _; omega
def okR : List (Cmd × Nat × Nat) → Prop
  | [] => True
  | (c, pl, pi) :: r => (c.ok ∧ pl < 65536 ∧ pi < 65536) ∧ okR r
/-- the row of commands -/
theorem ex_row : ∀ (l : List (Cmd × Nat × Nat)) (sl h : Nat) (v : Nat → Int) (P : PT), okR l → P.st ≤ G.2.2.2 → P.ou.length + 20 * l.length < 1979 → CA C0 h (codeR h l) → AT G C0 ret sl x h v P → OUT G C0 ret x (h + (codeR h l).length) (doR G.2.2.2 l v P)
  | [], sl, h, v, P, _, h1, _, _, t => OUT_0 (r := (0, v, P)) rfl h1 t
  | (c, pl, pi) :: r, sl, h, v, P, ok, h1, h2, ca, t => by
    obtain ⟨ok1, ok2⟩ := ok
    obtain ⟨ca1, ca2⟩ := CA_app (show CA C0 h (c.code h pl pi ++ codeR (h + (c.code h pl pi).length) r) from ca)
    rw [List.length_cons] at h2
    have o := ex_cm ok1.1 ok1.2.1 ok1.2.2 h1 (by omega) ca1 t
    have hv : ∀ j, j < 4 → (v j).natAbs < 100000 := fun j hj => by have := AT_bnd t (j := j) (by omega); omega
    have ou := doC_ou (L := G.2.2.2) (pl := pl) (pi := pi) (P := P) ok1.1 hv
    unfold doR
    by_cases z : (doC G.2.2.2 c pl pi v P).1 ≠ 0
    · rw [if_pos z]
      exact ⟨fun q => absurd q z, o.2.1, o.2.2⟩
    · rw [if_neg z]
      obtain ⟨o1, sl2, o2⟩ := o.1 (Classical.not_not.mp z)
      have e := ex_row r _ _ _ _ ok2 o1 (by omega) ca2 o2
      rw [show h + (codeR h ((c, pl, pi) :: r)).length = h + (c.code h pl pi).length + (codeR (h + (c.code h pl pi).length) r).length by show h + (c.code h pl pi ++ codeR (h + (c.code h pl pi).length) r).length = _; rw [List.length_append]; omega]
      exact e
end
/-! a greater limit changes nothing, where the limit isn't met -/
theorem do1_mono {L L' pi : Nat} {s : St} {v : Nat → Int} {P : PT} (h : P.st ≤ L) (h2 : L ≤ L') (z : (do1 L s pi v P).1 ≠ 100) : do1 L' s pi v P = do1 L s pi v P := by
  unfold do1 at z ⊢
  by_cases y : P.st = L
  · rw [if_pos y] at z; exact absurd rfl z
  · rw [if_neg y, if_neg (by omega)]
theorem do1_st {L pi : Nat} {s : St} {v : Nat → Int} {P : PT} (h : P.st ≤ L) : (do1 L s pi v P).2.2.st ≤ L := by
  unfold do1
  by_cases y : P.st = L
  · rw [if_pos y]; exact h
  · rw [if_neg y]; show P.st + 1 ≤ L; omega
theorem loopR_mono {L L' w u pl pi : Nat} {s : St} (h2 : L ≤ L') (n : Nat) : ∀ {n' : Nat} {v : Nat → Int} {P : PT}, n ≤ n' → P.st ≤ L → (loopR L s w u pl pi n v P).1 ≠ 100 → loopR L' s w u pl pi n' v P = loopR L s w u pl pi n v P := by
  induction n with
  | zero => intro n' v P _ _ z; exact absurd rfl z
  | succ n ih =>
    intro n' v P hn h z
    obtain ⟨n', rfl⟩ : ∃ k, n' = k + 1 := ⟨n' - 1, by omega⟩
    have st := do1_st (s := s) (pi := pi) (v := v) h
    unfold loopR at z ⊢
    have q : (do1 L s pi v P).1 ≠ 100 := by
      intro q; rw [if_pos (show (do1 L s pi v P).1 ≠ 0 by omega)] at z; exact z q
    rw [do1_mono h h2 q]
    by_cases c : (do1 L s pi v P).1 ≠ 0
    · rw [if_pos c, if_pos c]
    · rw [if_neg c] at z; rw [if_neg c, if_neg c]
      by_cases c : (do1 L s pi v P).2.1 w < (do1 L s pi v P).2.1 u
      · rw [if_pos c, if_pos c]
      · rw [if_neg c] at z; rw [if_neg c, if_neg c]
        by_cases c : (do1 L s pi v P).2.2.st = L
        · rw [if_pos c] at z; exact absurd rfl z
        · rw [if_neg c] at z; rw [if_neg c, if_neg (by omega)]
          exact ih (by omega) (show (do1 L s pi v P).2.2.st + 1 ≤ L by omega) z
theorem loopF_mono {L L' a k pl pi : Nat} {s : St} (h2 : L ≤ L') (n : Nat) : ∀ {n' : Nat} {v : Nat → Int} {P : PT}, n ≤ n' → P.st ≤ L → (loopF L s a k pl pi n v P).1 ≠ 100 → loopF L' s a k pl pi n' v P = loopF L s a k pl pi n v P := by
  induction n with
  | zero => intro n' v P _ _ z; exact absurd rfl z
  | succ n ih =>
    intro n' v P hn h z
    obtain ⟨n', rfl⟩ : ∃ k, n' = k + 1 := ⟨n' - 1, by omega⟩
    have st := do1_st (s := s) (pi := pi) (v := v) h
    unfold loopF at z ⊢
    have q : (do1 L s pi v P).1 ≠ 100 := by
      intro q; rw [if_pos (show (do1 L s pi v P).1 ≠ 0 by omega)] at z; exact z q
    rw [do1_mono h h2 q]
    by_cases c : (do1 L s pi v P).1 ≠ 0
    · rw [if_pos c, if_pos c]
    · rw [if_neg c] at z; rw [if_neg c, if_neg c]
      by_cases c : (k : Int) < (do1 L s pi v P).2.1 a + 3
      · rw [if_pos c, if_pos c]
      · rw [if_neg c] at z; rw [if_neg c, if_neg c]
        by_cases c : (do1 L s pi v P).2.2.st = L
        · rw [if_pos c] at z; exact absurd rfl z
        · rw [if_neg c] at z; rw [if_neg c, if_neg (by omega)]
          exact ih (by omega) (show (do1 L s pi v P).2.2.st + 1 ≤ L by omega) z
theorem loopW_mono {L L' w u pl pi : Nat} {s : St} (h2 : L ≤ L') (n : Nat) : ∀ {n' : Nat} {v : Nat → Int} {P : PT}, n ≤ n' → P.st ≤ L → (loopW L s w u pl pi n v P).1 ≠ 100 → loopW L' s w u pl pi n' v P = loopW L s w u pl pi n v P := by
  induction n with
  | zero => intro n' v P _ _ z; exact absurd rfl z
  | succ n ih =>
    intro n' v P hn h z
    obtain ⟨n', rfl⟩ : ∃ k, n' = k + 1 := ⟨n' - 1, by omega⟩
    have st := do1_st (s := s) (pi := pi) (v := v) h
    unfold loopW at z ⊢
    by_cases c : v w > v u
    · rw [if_pos c] at z; rw [if_pos c, if_pos c]
      have q : (do1 L s pi v P).1 ≠ 100 := by
        intro q; rw [if_pos (show (do1 L s pi v P).1 ≠ 0 by omega)] at z; exact z q
      rw [do1_mono h h2 q]
      by_cases c : (do1 L s pi v P).1 ≠ 0
      · rw [if_pos c, if_pos c]
      · rw [if_neg c] at z; rw [if_neg c, if_neg c]
        by_cases c : (do1 L s pi v P).2.2.st = L
        · rw [if_pos c] at z; exact absurd rfl z
        · rw [if_neg c] at z; rw [if_neg c, if_neg (by omega)]
          exact ih (by omega) (show (do1 L s pi v P).2.2.st + 1 ≤ L by omega) z
    · rw [if_neg c, if_neg c]
theorem loopR_st {L w u pl pi : Nat} {s : St} (n : Nat) {v : Nat → Int} {P : PT} (h : P.st ≤ L) : (loopR L s w u pl pi n v P).2.2.st ≤ L := by
  induction n generalizing v P with
  | zero => exact h
  | succ n ih =>
    have st := do1_st (s := s) (pi := pi) (v := v) h
    unfold loopR
    split
    · exact st
    · split
      · exact st
      · split
        · exact st
        · exact ih (show (do1 L s pi v P).2.2.st + 1 ≤ L by omega)
theorem loopF_st {L a k pl pi : Nat} {s : St} (n : Nat) {v : Nat → Int} {P : PT} (h : P.st ≤ L) : (loopF L s a k pl pi n v P).2.2.st ≤ L := by
  induction n generalizing v P with
  | zero => exact h
  | succ n ih =>
    have st := do1_st (s := s) (pi := pi) (v := v) h
    unfold loopF
    split
    · exact st
    · split
      · exact st
      · split
        · exact st
        · exact ih (show (do1 L s pi v P).2.2.st + 1 ≤ L by omega)
theorem loopW_st {L w u pl pi : Nat} {s : St} (n : Nat) {v : Nat → Int} {P : PT} (h : P.st ≤ L) : (loopW L s w u pl pi n v P).2.2.st ≤ L := by
  induction n generalizing v P with
  | zero => exact h
  | succ n ih =>
    have st := do1_st (s := s) (pi := pi) (v := v) h
    unfold loopW
    split
    · split
      · exact st
      · split
        · exact st
        · exact ih (show (do1 L s pi v P).2.2.st + 1 ≤ L by omega)
    · exact h
theorem doC_mono {L L' pl pi : Nat} {c : Cmd} {v : Nat → Int} {P : PT} (h : P.st ≤ L) (h2 : L ≤ L') (z : (doC L c pl pi v P).1 ≠ 100) : doC L' c pl pi v P = doC L c pl pi v P ∧ (doC L c pl pi v P).2.2.st ≤ L := by
  unfold doC at z ⊢
  by_cases y : P.st = L
  · rw [if_pos y] at z; exact absurd rfl z
  · rw [if_neg y] at z
    rw [if_neg y, if_neg (by omega)]
    have sa : (P.ask pl).st ≤ L := show P.st + 1 ≤ L by omega
    split at z
    · exact ⟨rfl, sa⟩
    · split at z
      · rename_i k; rw [if_pos k, if_pos k]; exact ⟨do1_mono sa h2 z, do1_st sa⟩
      · rename_i k; rw [if_neg k, if_neg k]; exact ⟨rfl, sa⟩
    · split at z
      · rename_i k; rw [if_pos k, if_pos k]; exact ⟨rfl, sa⟩
      · rename_i k; rw [if_neg k, if_neg k]; exact ⟨loopF_mono h2 _ (by omega) sa z, loopF_st _ sa⟩
    · exact ⟨rfl, sa⟩
    · exact ⟨loopR_mono h2 _ (by omega) sa z, loopR_st _ sa⟩
    · exact ⟨loopW_mono h2 _ (by omega) sa z, loopW_st _ sa⟩
    · exact ⟨rfl, h⟩
theorem doR_mono {L L' : Nat} (h2 : L ≤ L') : ∀ (l : List (Cmd × Nat × Nat)) (v : Nat → Int) (P : PT), P.st ≤ L → (doR L l v P).1 ≠ 100 → doR L' l v P = doR L l v P
  | [], v, P, _, _ => rfl
  | (c, pl, pi) :: r, v, P, h, z => by
    unfold doR at z ⊢
    have q : (doC L c pl pi v P).1 ≠ 100 := by
      intro q; rw [if_pos (show (doC L c pl pi v P).1 ≠ 0 by omega)] at z; exact z q
    obtain ⟨m1, m2⟩ := doC_mono h h2 q
    rw [m1]
    by_cases c0 : (doC L c pl pi v P).1 ≠ 0
    · rw [if_pos c0, if_pos c0]
    · rw [if_neg c0] at z; rw [if_neg c0, if_neg c0]
      exact doR_mono h2 r _ _ m2 z
