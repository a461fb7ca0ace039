/-! The whole program on the chip: its call, ENTER, the row, LEAVE, the end; traps; the pause -/
set_option maxRecDepth 100000
set_option maxHeartbeats 4000000
def CODE (l : List (Cmd × Nat × Nat)) : List Nat := [205, 139, 0, 200, 0, 64, 0] ++ (codeR 2055 l ++ ([1, 0, 0, 195, 142, 0] ++ [205, 0, 8, 211, 5, 118]))
/-- the memory when the program starts -/
def MS (l : List (Cmd × Nat × Nat)) (m : Nat → Nat) : Prop := KM m ∧ CB m 2048 (CODE l) ∧ (codeR 2055 l).length < 7900 ∧ wd m 226 = 8000 ∧ wd m 228 = 0 ∧ wd m 232 = 8192 ∧ ∀ k, 59392 ≤ k → k < 59408 → m k = 0
def END (G : GE) (x : RT) (r : Nat × (Nat → Int) × PT) : Prop :=
  (r.1 = 0 → ∀ L, G.2.2.2 ≤ L → L < 2147483648 → ∃ a f bc de hl ix sp pc m, wd m 226 = 8000 ∧ wd m 232 = 8192 ∧ x L = RX G a f bc de hl ix sp pc m (r.2.2.wlim L) 2 0) ∧
  (r.1 = 100 → PAUSE G x r.2.2) ∧
  (r.1 ≠ 0 → r.1 ≠ 100 → ∀ L, G.2.2.2 ≤ L → L < 2147483648 → ∃ a f bc de hl ix sp pc m, wd m 226 = 7800 ∧ wd m 228 = 1 ∧ wd m 232 = 8192 ∧ x L = RX G a f bc de hl ix sp pc m (r.2.2.wlim L) 4 (if r.1 = 2 then 2 else 3))
theorem CODE_len {l : List (Cmd × Nat × Nat)} : (CODE l).length = (codeR 2055 l).length + 19 := by
  unfold CODE
  rw [List.length_append, List.length_append, List.length_append]
  show 7 + (_ + (6 + 6)) = _
  omega
theorem pause_x {G : GE} {x : RT} {P : PT} (h : PAUSE G x P) (hL : G.2.2.2 < 2147483648) : ∃ a f bc de hl ix sp m, wd m 226 = 7800 ∧ wd m 228 = 1 ∧ wd m 232 = 8192 ∧ x G.2.2.2 = RX G a f bc de hl ix sp 8 m (P.wlim G.2.2.2) 1 0 ∧ ∀ L, G.2.2.2 ≤ L → L < 2147483648 → x L = RQ G a f bc de hl ix sp 8 m (P.wlim L) := by
  obtain ⟨s, a, f, bc, de, hl, ix, sp, m, k, w1, w2, w3, q1, q2, e⟩ := h
  refine ⟨a, f, bc, de, hl, ix, sp, m, w1, w2, w3, ?_, fun L h1 h2 => by rw [e, RL_at h1 h2]⟩
  rw [e, RL_at (Nat.le_refl _) hL]
  exact rx_D301 (kb_8 k) (kb_9 k) (by decide) s
theorem trap_x {G : GE} {x : RT} {P : PT} {n : Nat} (h : TRAP G x n P) (hn : n = 70 ∨ n = 64) {L : Nat} (hL : G.2.2.2 ≤ L) (hL2 : L < 2147483648) : ∃ a f bc de hl ix sp pc m, wd m 226 = 7800 ∧ wd m 228 = 1 ∧ wd m 232 = 8192 ∧ x L = RX G a f bc de hl ix sp pc m (P.wlim L) 4 (if n = 70 then 2 else 3) := by
  obtain ⟨a, f, bc, de, hl, ix, sp, m, k, w1, w2, w3, e⟩ := h
  have b1 : rd m 1548 = 211 := (k 1548 (by omega)).trans (by decide)
  have b2 : rd m 1549 = 2 := (k 1549 (by omega)).trans (by decide)
  rcases hn with rfl | rfl
  · rw [k_70 k, k_266 k, k_268 k] at e
    refine ⟨2, f, bc, de, hl, ix, sp, 1550, m, w1, w2, w3, ?_⟩
    rw [e, RL_at hL hL2, rx_D302 b1 b2 (by decide)]
    rfl
  · rw [k_64 k, k_256 k, k_258 k] at e
    refine ⟨3, f, bc, de, hl, ix, sp, 1550, m, w1, w2, w3, ?_⟩
    rw [e, RL_at hL hL2, rx_D302 b1 b2 (by decide)]
    rfl
theorem CB_get {m : Nat → Nat} {h : Nat} {p l q : List Nat} (c : CB m h (p ++ (l ++ q))) : CB m (h + p.length) l := by
  rw [CB_app, CB_app] at c
  exact c.2.1
/-- from the start to the end -/
theorem ex_prog {G : GE} {l : List (Cmd × Nat × Nat)} {a bc de hl ix B : Nat} {f : Int32} {m : Nat → Nat} {P : PT} {x : RT} (ok : okR l) (hn : 20 * l.length < 1979) (hm : MS l m) (ha : a < 256) (hb : bc < 65536) (hd : de < 65536) (hh : hl < 65536) (hi : ix < 65536) (hs : P.st ≤ G.2.2.2) (ho : P.ou = []) (hB : B = 2061 + (codeR 2055 l).length)
    (e : x = RL G a f bc de hl ix 59392 B m P) : END G x (doR G.2.2.2 l (fun _ => 0) P) := by
  obtain ⟨k0, c0, n0, s0, a0, l0, z0⟩ := hm
  have cl := CODE_len (l := l)
  obtain ⟨ret, hret⟩ : ∃ r, r = B + 3 := ⟨_, rfl⟩
  have cA : CB m 2048 ([205, 139, 0, 200, 0, 64, 0] ++ (codeR 2055 l ++ ([1, 0, 0, 195, 142, 0] ++ [205, 0, 8, 211, 5, 118]))) := c0
  have q1 := CB_app.1 cA
  have q2 := CB_app.1 q1.2
  have q3 := CB_app.1 q2.2
  have p0 : CB m B [205, 0, 8, 211, 5, 118] := by
    have := q3.2
    rw [show 2048 + [205, 139, 0, 200, 0, 64, 0].length + (codeR 2055 l).length + [1, 0, 0, 195, 142, 0].length = B by rw [hB]; show 2048 + 7 + _ + 6 = _; omega] at this
    exact this
  obtain ⟨u0, u1, u2, u3, u4, u5, -⟩ := p0
  obtain ⟨M1, hM1⟩ : ∃ M, M = pu m 59392 (B + 3) := ⟨_, rfl⟩
  have t1 : Sm 59390 59392 m M1 := by rw [hM1]; exact pu_Sm (sp := 59392) (by omega)
  have w1 : wd M1 59390 = ret := by rw [hM1, hret]; exact pu_wd (sp := 59392) (by omega) (by omega)
  obtain ⟨M2, hM2⟩ : ∃ M, M = pu M1 59390 2051 := ⟨_, rfl⟩
  have t2 : Sm 59388 59390 M1 M2 := by rw [hM2]; exact pu_Sm (sp := 59390) (by omega)
  have w2 : wd M2 59388 = 2051 := by rw [hM2]; exact pu_wd (sp := 59390) (by omega) (by omega)
  have t12 : Sm 59388 59392 m M2 := Sm_t (Sm_w t1 (by omega) (by omega)) (Sm_w t2 (by omega) (by omega))
  have k2 : KM M2 := Sm_KM t12 k0 (by omega)
  have cb1 : CB M1 2048 (CODE l) := CB_same (fun k p q => t1 k (by omega)) c0
  have cb2 : CB M2 2048 (CODE l) := CB_same (fun k p q => t12 k (by omega)) c0
  have d1 : CB M1 2048 [205, 139, 0] := (CB_app.1 (show CB M1 2048 ([205, 139, 0] ++ ([200, 0, 64, 0] ++ (codeR 2055 l ++ ([1, 0, 0, 195, 142, 0] ++ [205, 0, 8, 211, 5, 118])))) from cb1)).1
  have d2 := (CB_app.1 (show CB M2 2048 ([205, 139, 0] ++ ([200, 0, 64, 0] ++ (codeR 2055 l ++ ([1, 0, 0, 195, 142, 0] ++ [205, 0, 8, 211, 5, 118])))) from cb2)).2
  obtain ⟨v0, v1, v2, v3, -⟩ := d2
  obtain ⟨a', f', bc', de', hl', m', z1, z2, z3, z4, z5, z6, z7, z8, z9, z10, ee⟩ := rt_ent (G := G) (a := a) (bc := bc) (de := de) (hl := hl) (ix := ix) (sp := 59388) (RA := 2051) (s := 8000) (ac := 0) (f := f) (P := P) k2 ha hb hd hi (by omega) (by omega) w2 (by omega) (by omega) v0 v1 v2 v3 (by rw [Sm_wd t12 (by omega), s0]) (by omega) (by rw [Sm_wd t12 (by omega), a0]) (by omega)
  have sm : ∀ k, 256 ≤ k → (k < 59324 ∨ 59392 ≤ k) → m' k = m k := fun k p q => (z6 k (by omega) (by omega) (by omega)).trans (t12 k (by omega))
  have smr : ∀ k, 256 ≤ k → (k < 59324 ∨ 59392 ≤ k) → rd m' k = rd m k := fun k p q => by unfold rd; rw [sm k p q]
  have E : x = RL G a' f' bc' de' hl' 59388 59324 2055 m' P := by
    refine e.trans ?_
    rw [b_call (h := B) (t := 2048) ⟨u0, u1, u2, trivial⟩ (by omega) (by omega) (by omega), ← hM1, show 59392 - 2 = 59390 from rfl, b_call (h := 2048) (t := 139) d1 (by omega) (by omega) (by omega), show 2048 + 3 = 2051 from rfl, ← hM2, show 59390 - 2 = 59388 from rfl, k_139 k2, ee]
  have i0 : MI (CODE l) ret (wd m' 59384) m' (fun _ => 0) := by
    refine ⟨z5, CB_same (fun k p q => sm k (by omega) (by omega)) c0, by omega, fun j hj => ⟨?_, show (-32768 : Int) ≤ 0 by decide, show (0 : Int) ≤ 32767 by decide⟩, z7, z8, ?_, z10, ?_, rfl⟩
    · unfold wd
      rw [smr _ (by omega) (by omega), smr _ (by omega) (by omega)]
      unfold rd
      rw [z0 _ (by omega) (by omega), z0 _ (by omega) (by omega)]
      rfl
    · have w : wd m' 232 = wd M2 232 := by unfold wd rd; rw [z6 232 (by omega) (by omega) (by omega), z6 233 (by omega) (by omega) (by omega)]
      rw [w, Sm_wd t12 (by omega), l0]
    · have w : wd m' 59390 = wd M2 59390 := by unfold wd rd; rw [z6 59390 (by omega) (by omega) (by omega), z6 59391 (by omega) (by omega) (by omega)]
      rw [w, Sm_wd t2 (by omega), w1]
  have t0 : AT G (CODE l) ret (wd m' 59384) x 2055 (fun _ => 0) P := ⟨a', f', bc', de', hl', m', z1, z2, z3, z4, i0, E⟩
  have ca : CA (CODE l) 2055 (codeR 2055 l) := ⟨[205, 139, 0, 200, 0, 64, 0], [1, 0, 0, 195, 142, 0] ++ [205, 0, 8, 211, 5, 118], rfl, rfl⟩
  have o := ex_row l _ _ _ _ ok hs (by rw [ho]; show 0 + _ < _; omega) ca t0
  refine ⟨fun q L hL hL2 => ?_, o.2.1, fun q1 q2 L hL hL2 => ?_⟩
  · obtain ⟨o1, sl, b, g, bc2, de2, hl2, m2, y1, y2, y3, y4, i2, e2⟩ := o.1 q
    have cb3 := CA_CB i2 (show CA (CODE l) (2055 + (codeR 2055 l).length) [1, 0, 0, 195, 142, 0] from ⟨[205, 139, 0, 200, 0, 64, 0] ++ codeR 2055 l, [205, 0, 8, 211, 5, 118], by unfold CODE; rw [List.append_assoc], by rw [List.length_append]; show _ = 2048 + (7 + _); omega⟩)
    obtain ⟨x0, x1, x2, x3, x4, x5, -⟩ := cb3
    have cb4 : CB m2 B [205, 0, 8, 211, 5, 118] := CA_CB i2 ⟨[205, 139, 0, 200, 0, 64, 0] ++ (codeR 2055 l ++ [1, 0, 0, 195, 142, 0]), [], by unfold CODE; rw [List.append_nil, List.append_assoc, List.append_assoc], by rw [List.length_append, List.length_append, hB]; show _ = 2048 + (7 + (_ + 6)); omega⟩
    obtain ⟨r0, r1, r2, r3, r4, r5, -⟩ := cb4
    obtain ⟨j1, j2, j3, j4, j5, j6, j7, j8, j9, j10⟩ := i2
    obtain ⟨b', g', bc3, de3, hl3, ix3, m3, p1, p2, p3, p4, p5, p6, p7, p8, p9, pe⟩ := rt_lev (G := G) (a := b) (de := de2) (hl := hl2) (ix := 59388) (sp := 59324) (s := 7800) (ac := 1) (ret := ret) (f := g) (P := (doR G.2.2.2 l (fun _ => 0) P).2.2) j1 y1 y3 y4 (by omega) (by omega) j5 (by omega) j6 (by omega) j8 j9
    have y16 : wd m2 (2055 + (codeR 2055 l).length + 1) = 0 := by rw [show (0:Nat) = 0 + 256 * 0 from rfl]; unfold wd; rw [x1, x2]
    have y19 : wd m2 (2055 + (codeR 2055 l).length + 3 + 1) = 142 := by unfold wd; rw [show 2055 + (codeR 2055 l).length + 3 + 1 = 2055 + (codeR 2055 l).length + 1 + 1 + 1 + 1 from rfl, x4, x5]
    have F : x = RL G b' g' bc3 de3 hl3 ix3 (59388 + 4) ret m3 (doR G.2.2.2 l (fun _ => 0) P).2.2 := by
      refine e2.trans ?_
      rw [rl_01 (pc := 2055 + (codeR 2055 l).length) x0 (by omega), y16, rl_C3 (pc := 2055 + (codeR 2055 l).length + 3) x3 (by omega), y19, k_142 j1, pe]
    have smc : ∀ k, 256 ≤ k → k < 59324 → rd m3 k = rd m2 k := fun k p q => by unfold rd; rw [p7 k (by omega) (by omega) (by omega)]
    refine ⟨b', g', bc3, de3, hl3, ix3, 59388 + 4, ret + 2, m3, p8, ?_, ?_⟩
    · have w : wd m3 232 = wd m2 232 := by unfold wd rd; rw [p7 232 (by omega) (by omega) (by omega), p7 233 (by omega) (by omega) (by omega)]
      rw [w, j7]
    · rw [F, RL_at hL hL2]
      exact rx_D305 (by rw [smc _ (by omega) (by omega), hret]; exact r3) (by rw [smc _ (by omega) (by omega), hret]; exact r4) (by omega)
  · have t := trap_x (o.2.2 q1 q2) (by split <;> simp) hL hL2
    by_cases c : (doR G.2.2.2 l (fun _ => 0) P).1 = 2
    · rw [if_pos c] at t ⊢; exact t
    · rw [if_neg c] at t ⊢; exact t
