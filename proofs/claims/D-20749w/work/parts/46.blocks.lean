/-! The compiled code, block by block (printed by gen/rtpart.py of pure/) -/
set_option maxRecDepth 100000
set_option maxHeartbeats 4000000
/-- code at a place -/
def CB (m : Nat → Nat) : Nat → List Nat → Prop
  | _, [] => True
  | h, b :: l => rd m h = b ∧ CB m (h + 1) l
theorem CB_app {m : Nat → Nat} {l l2 : List Nat} {h : Nat} : CB m h (l ++ l2) ↔ CB m h l ∧ CB m (h + l.length) l2 := by
  induction l generalizing h with
  | nil => simp [CB]
  | cons b l ih => simp only [List.cons_append, CB, List.length_cons, ih, and_assoc, show h + (l.length + 1) = h + 1 + l.length by omega]
theorem CB_same {m m' : Nat → Nat} {l : List Nat} {h : Nat} (hs : ∀ k, h ≤ k → k < h + l.length → m' k = m k) (hc : CB m h l) : CB m' h l := by
  induction l generalizing h with
  | nil => trivial
  | cons b l ih => exact ⟨by unfold rd; rw [hs h (by omega) (by simp)]; exact hc.1, ih (fun k a b => hs k (by omega) (by simp; omega)) hc.2⟩
theorem CB_Kp {m m' : Nat → Nat} {l : List Nat} {h sp : Nat} (hk : Kp sp m m') (h1 : 256 ≤ h) (h2 : h + l.length < sp - 64) (hc : CB m h l) : CB m' h l := CB_same (fun k a b => hk k (by omega) (by omega)) hc
/-- the same but for the kernel's own words and 100 bytes below the stack -/
def Kz (sp : Nat) (m m' : Nat → Nat) : Prop := ∀ k, ¬ (236 ≤ k ∧ k < 256) → (k + 100 < sp ∨ sp ≤ k) → m' k = m k
theorem Kz_r {sp : Nat} {m : Nat → Nat} : Kz sp m m := fun _ _ _ => rfl
theorem Kz_t {sp : Nat} {m m' m'' : Nat → Nat} (h : Kz sp m m') (h2 : Kz sp m' m'') : Kz sp m m'' := fun k a b => (h2 k a b).trans (h k a b)
theorem Kz_Kp {sp s2 : Nat} {m m' : Nat → Nat} (h : Kp s2 m m') (h1 : s2 ≤ sp) (h2 : sp ≤ s2 + 30) : Kz sp m m' := fun k a b => h k a (by omega)
theorem Kz_Sm {sp lo hi : Nat} {m m' : Nat → Nat} (h : Sm lo hi m m') (h1 : sp ≤ lo + 100) (h2 : hi ≤ sp) : Kz sp m m' := fun k _ b => h k (by omega)
theorem Kz_rd {sp k : Nat} {m m' : Nat → Nat} (h : Kz sp m m') (hk : ¬ (236 ≤ k ∧ k < 256)) (h2 : k + 100 < sp ∨ sp ≤ k) : rd m' k = rd m k := by unfold rd; rw [h k hk h2]
theorem Kz_wd {sp k : Nat} {m m' : Nat → Nat} (h : Kz sp m m') (hk : k + 1 < 236 ∨ 256 ≤ k) (h2 : k + 101 < sp ∨ sp ≤ k) : wd m' k = wd m k := by unfold wd; rw [Kz_rd h (by omega) (by omega), Kz_rd h (by omega) (by omega)]
theorem Kz_KM {sp : Nat} {m m' : Nat → Nat} (h : Kz sp m m') (hm : KM m) (h1 : 2000 ≤ sp) : KM m' := fun i hi => by rw [Kz_rd h (by omega) (by omega)]; exact hm i hi
theorem CB_Kz {m m' : Nat → Nat} {l : List Nat} {h sp : Nat} (hk : Kz sp m m') (h1 : 256 ≤ h) (h2 : h + l.length + 100 < sp) (hc : CB m h l) : CB m' h l := CB_same (fun k a b => hk k (by omega) (by omega)) hc
theorem wd_of {m : Nat → Nat} {h x : Nat} (h1 : rd m h = x % 256) (h2 : rd m (h + 1) = x / 256) : wd m h = x := by unfold wd; rw [h1, h2]; omega
theorem k_8 {G : GE} {a bc de hl ix sp : Nat} {f : Int32} {m : Nat → Nat} {P : PT} (hm : KM m) (h0 : hl < 65536) (h1 : P.st < G.2.2.2) (h3 : sp + 1 < 65536) : RL G a f bc de hl ix sp 8 m P = RL G a f bc de hl ix sp 10 m (P.ask hl) := rl_D301 (kb_8 hm) (kb_9 hm) (by decide) h0 h1 h3
section
variable {a bc de hl ix sp : Nat} {f : Int32} {m : Nat → Nat} {P : PT} {h : Nat}
/-- a trap's place is reached -/
def TP (G : GE) (n : Nat) (m : Nat → Nat) (P : PT) (x : RT) : Prop := ∃ a f bc de hl ix sp' m', KM m' ∧ (∀ k, k < 236 → m' k = m k) ∧ x = RL G a f bc de hl ix sp' n m' P
/-- a statement's step: to the place where the chip asks -/
theorem b_ask {G : GE} {pl : Nat} (hc : CB m h [33, lo pl, hi pl, 207]) (hh : h + 10 < 65536) (hs0 : 2 ≤ sp) (hs : sp < 65536) : RL G a f bc de hl ix sp h m P = RL G a f bc de pl ix (sp - 2) 8 (pu m sp (h + 4)) P := by
  obtain ⟨b0, b1, b2, b3, -⟩ := hc
  rw [rl_21 b0 (by omega), wd_of b1 b2, rl_CF (pc := h + 3) b3 (by omega) hs0 hs]
  rfl
/-- .. and behind it -/
theorem b_asked {G : GE} {pl : Nat} (hm : KM (pu m sp (h + 4))) (hpl : pl < 65536) (hh : h + 10 < 65536) (hs0 : 2 ≤ sp) (hs : sp + 1 < 65536) (hP : P.st < G.2.2.2) : RL G a f bc de pl ix (sp - 2) 8 (pu m sp (h + 4)) P = RL G a f bc de pl ix sp (h + 4) (pu m sp (h + 4)) (P.ask pl) := by
  rw [k_8 hm hpl hP (by omega), k_10 hm (by omega), pu_wd hs0 (by omega), show sp - 2 + 2 = sp by omega]
theorem ovs_iff {x y : Nat} : (ovs x y 0 = true) = (¬ (-32768 ≤ sg x - sg y ∧ sg x - sg y ≤ 32767)) := by unfold ovs; simp; omega
theorem ova_iff {x y : Nat} : (ova x y 0 = true) = (¬ (-32768 ≤ sg x + sg y ∧ sg x + sg y ≤ 32767)) := by unfold ova; simp; omega
theorem us_sub {x y : Nat} (hx : x < 65536) (hy : y < 65536) (h1 : -32768 ≤ sg x - sg y) (h2 : sg x - sg y ≤ 32767) : (x + 131072 - y - 0) % 65536 = us (sg x - sg y) := by
  have sx : sg x = x ∨ sg x = (x : Int) - 65536 := by unfold sg; split <;> omega
  have sy : sg y = y ∨ sg y = (y : Int) - 65536 := by unfold sg; split <;> omega
  unfold us
  rcases sx with s1 | s1 <;> rcases sy with s2 | s2 <;> rw [s1, s2] <;> omega
theorem us_add {x y : Nat} (hx : x < 65536) (hy : y < 65536) : (x + y + 0) % 65536 = us (sg x + sg y) := by
  have sx : sg x = x ∨ sg x = (x : Int) - 65536 := by unfold sg; split <;> omega
  have sy : sg y = y ∨ sg y = (y : Int) - 65536 := by unfold sg; split <;> omega
  unfold us
  rcases sx with s1 | s1 <;> rcases sy with s2 | s2 <;> rw [s1, s2] <;> omega
theorem b_add {G : GE} {X Y : Nat} (hm : KM m) (hc : CB m h [42, lo X, hi X, 237, 91, lo Y, hi Y, 183, 237, 90, 234, 64, 0]) (hX : X + 1 < 65536) (hY : Y + 1 < 65536) (ha : a < 256) (hh : h + 40 < 65536) :
    if -32768 ≤ sg (wd m X) + sg (wd m Y) ∧ sg (wd m X) + sg (wd m Y) ≤ 32767 then ∃ f' de', de' < 65536 ∧ RL G a f bc de hl ix sp h m P = RL G a f' bc de' (us (sg (wd m X) + sg (wd m Y))) ix sp (h + 13) m P
    else TP G 64 m P (RL G a f bc de hl ix sp h m P) := by
  obtain ⟨b0, b1, b2, b3, b4, b5, b6, b7, b8, b9, b10, b11, b12, -⟩ := hc
  have w1 : wd m (h + 1) = X := wd_of b1 b2
  have w2 : wd m (h + 3 + 2) = Y := wd_of b5 b6
  have w3 : wd m (h + 10 + 1) = 64 := wd_of b11 b12
  have lX : wd m X < 65536 := wd_lt
  have lY : wd m Y < 65536 := wd_lt
  have e : RL G a f bc de hl ix sp h m P = if ¬ (-32768 ≤ sg (wd m X) + sg (wd m Y) ∧ sg (wd m X) + sg (wd m Y) ≤ 32767) then RL G a (fWa (fLo a false) (wd m X) (wd m Y)) bc (wd m Y) (us (sg (wd m X) + sg (wd m Y))) ix sp 64 m P else RL G a (fWa (fLo a false) (wd m X) (wd m Y)) bc (wd m Y) (us (sg (wd m X) + sg (wd m Y))) ix sp (h + 13) m P := by
    rw [rl_2A b0 (by omega) (by rw [w1]; exact hX), w1, rl_ED5B (pc := h + 3) b3 b4 (by omega) (by rw [w2]; exact hY), w2, rl_B7 (pc := h + 7) b7 (by omega) ha, or_self8, rl_ED5A (pc := h + 8) b8 b9 (by omega) lX lY, fLo_y, us_add lX lY, rl_EA (pc := h + 10) b10 (by omega), w3]
    simp only [fWa_P, fLo_y, ova_iff]
  rw [e]
  by_cases c : -32768 ≤ sg (wd m X) + sg (wd m Y) ∧ sg (wd m X) + sg (wd m Y) ≤ 32767
  · rw [if_pos c, if_neg (fun z => z c)]
    exact ⟨_, _, lY, rfl⟩
  · rw [if_neg c, if_pos c]
    exact ⟨_, _, _, _, _, _, _, m, hm, fun _ _ => rfl, rfl⟩
theorem b_sub {G : GE} {X c : Nat} (hm : KM m) (hc : CB m h [42, lo X, hi X, 17, lo c, hi c, 183, 237, 82, 234, 64, 0]) (hX : X + 1 < 65536) (hcc : c < 65536) (ha : a < 256) (hh : h + 40 < 65536) :
    if -32768 ≤ sg (wd m X) - sg c ∧ sg (wd m X) - sg c ≤ 32767 then ∃ f', RL G a f bc de hl ix sp h m P = RL G a f' bc c (us (sg (wd m X) - sg c)) ix sp (h + 12) m P
    else TP G 64 m P (RL G a f bc de hl ix sp h m P) := by
  obtain ⟨b0, b1, b2, b3, b4, b5, b6, b7, b8, b9, b10, b11, -⟩ := hc
  have w1 : wd m (h + 1) = X := wd_of b1 b2
  have w2 : wd m (h + 3 + 1) = c := wd_of b4 b5
  have w3 : wd m (h + 9 + 1) = 64 := wd_of b10 b11
  have lX : wd m X < 65536 := wd_lt
  have e : RL G a f bc de hl ix sp h m P = if ¬ (-32768 ≤ sg (wd m X) - sg c ∧ sg (wd m X) - sg c ≤ 32767) then RL G a (fWs (fLo a false) (wd m X) c) bc c ((wd m X + 131072 - c - 0) % 65536) ix sp 64 m P else RL G a (fWs (fLo a false) (wd m X) c) bc c ((wd m X + 131072 - c - 0) % 65536) ix sp (h + 12) m P := by
    rw [rl_2A b0 (by omega) (by rw [w1]; exact hX), w1, rl_11 (pc := h + 3) b3 (by omega), w2, rl_B7 (pc := h + 6) b6 (by omega) ha, or_self8, rl_ED52 (pc := h + 7) b7 b8 (by omega) lX hcc, fLo_y, rl_EA (pc := h + 9) b9 (by omega), w3]
    simp only [fWs_P, fLo_y, ovs_iff]
  rw [e]
  by_cases q : -32768 ≤ sg (wd m X) - sg c ∧ sg (wd m X) - sg c ≤ 32767
  · rw [if_pos q, if_neg (fun z => z q), us_sub lX hcc q.1 q.2]
    exact ⟨_, rfl⟩
  · rw [if_neg q, if_pos q]
    exact ⟨_, _, _, _, _, _, _, m, hm, fun _ _ => rfl, rfl⟩
theorem b_ld {G : GE} {X : Nat} (hc : CB m h [42, lo X, hi X]) (hX : X + 1 < 65536) (hh : h + 20 < 65536) : RL G a f bc de hl ix sp h m P = RL G a f bc de (wd m X) ix sp (h + 3) m P := by
  obtain ⟨b0, b1, b2, -⟩ := hc
  rw [rl_2A b0 (by omega) (by rw [wd_of b1 b2]; exact hX), wd_of b1 b2]
theorem b_ldc {G : GE} {X : Nat} (hc : CB m h [33, lo X, hi X]) (hh : h + 20 < 65536) : RL G a f bc de hl ix sp h m P = RL G a f bc de X ix sp (h + 3) m P := by
  obtain ⟨b0, b1, b2, -⟩ := hc
  rw [rl_21 b0 (by omega), wd_of b1 b2]
theorem b_st {G : GE} {X : Nat} (hc : CB m h [34, lo X, hi X]) (hhl : hl < 65536) (hX : X + 1 < 65536) (hh : h + 20 < 65536) : RL G a f bc de hl ix sp h m P = RL G a f bc de hl ix sp (h + 3) (pw m X hl) P := by
  obtain ⟨b0, b1, b2, -⟩ := hc
  rw [rl_22 b0 (by omega) hhl (by rw [wd_of b1 b2]; exact hX), wd_of b1 b2]
  rfl
theorem b_call {G : GE} {t : Nat} (hc : CB m h [205, lo t, hi t]) (hh : h + 20 < 65536) (hs0 : 2 ≤ sp) (hs : sp < 65536) : RL G a f bc de hl ix sp h m P = RL G a f bc de hl ix (sp - 2) t (pu m sp (h + 3)) P := by
  obtain ⟨b0, b1, b2, -⟩ := hc
  rw [rl_CD b0 (by omega) hs0 hs, wd_of b1 b2]
  rfl
theorem b_jp {G : GE} {t : Nat} (hc : CB m h [195, lo t, hi t]) (hh : h + 20 < 65536) : RL G a f bc de hl ix sp h m P = RL G a f bc de hl ix sp t m P := by
  obtain ⟨b0, b1, b2, -⟩ := hc
  rw [rl_C3 b0 (by omega), wd_of b1 b2]
/-- the memory behind a routine that was called, and code in it -/
theorem pu_Kp {v : Nat} (hs0 : 2000 ≤ sp) : Kp sp m (pu m sp v) := Kp_Sm (pu_Sm (by omega)) (by omega) (by omega)
theorem Kp_down {s2 : Nat} {m1 m2 : Nat → Nat} (h1 : Kp s2 m1 m2) (h2 : s2 + 48 ≤ sp) : ∀ k, ¬ (236 ≤ k ∧ k < 256) → (k < s2 - 64 ∨ sp ≤ k) → m2 k = m1 k := fun k a b => h1 k a (by omega)
theorem b_mul {G : GE} {X Y : Nat} (hm : KM m) (hc : CB m h [42, lo X, hi X, 237, 91, lo Y, hi Y, 205, 109, 0]) (hX : X + 1 < 65536) (hY : Y + 1 < 65536) (ha : a < 256) (hb : bc < 65536) (hh : h + 40 < 65536) (hs0 : 3000 ≤ sp) (hs : sp < 65530) :
    if -32768 ≤ sg (wd m X) * sg (wd m Y) ∧ sg (wd m X) * sg (wd m Y) ≤ 32767 then ∃ m' a' f' bc' de', KM m' ∧ Kz sp m m' ∧ a' < 256 ∧ bc' < 65536 ∧ de' < 65536 ∧ RL G a f bc de hl ix sp h m P = RL G a' f' bc' de' (us (sg (wd m X) * sg (wd m Y))) ix sp (h + 10) m' P
    else TP G 64 m P (RL G a f bc de hl ix sp h m P) := by
  obtain ⟨b0, b1, b2, b3, b4, b5, b6, b7, b8, b9, -⟩ := hc
  have w1 : wd m (h + 1) = X := wd_of b1 b2
  have w2 : wd m (h + 3 + 2) = Y := wd_of b5 b6
  have lX : wd m X < 65536 := wd_lt
  have lY : wd m Y < 65536 := wd_lt
  obtain ⟨M, hM⟩ : ∃ M, M = pu m sp (h + 10) := ⟨_, rfl⟩
  have t : Sm (sp - 2) sp m M := by rw [hM]; exact pu_Sm (by omega)
  have k : KM M := Sm_KM t hm (by omega)
  have wr : wd M (sp - 2) = h + 10 := by rw [hM]; exact pu_wd (by omega) (by omega)
  have e0 : RL G a f bc de hl ix sp h m P = RL G a f bc (wd m Y) (wd m X) ix (sp - 2) 476 M P := by
    rw [rl_2A b0 (by omega) (by rw [w1]; exact hX), w1, rl_ED5B (pc := h + 3) b3 b4 (by omega) (by rw [w2]; exact hY), w2, b_call (h := h + 7) (t := 109) ⟨b7, b8, b9, trivial⟩ (by omega) (by omega) (by omega), show h + 7 + 3 = h + 10 by omega, ← hM, k_109 k]
  have e := rt_pms (G := G) (a := a) (bc := bc) (de := wd m Y) (hl := wd m X) (ix := ix) (sp := sp - 2) (f := f) (P := P) k ha hb lY lX (by omega) (by omega)
  rw [e0]
  by_cases c : -32768 ≤ sg (wd m X) * sg (wd m Y) ∧ sg (wd m X) * sg (wd m Y) ≤ 32767
  · rw [if_pos c] at e ⊢
    obtain ⟨a', f', bc', de', m', q1, q2, q3, q4, q5⟩ := e
    have tt : Sm (sp - 18) sp m m' := Sm_t (Sm_w t (by omega) (by omega)) (Sm_w q4 (by omega) (by omega))
    exact ⟨m', a', f', bc', de', Sm_KM tt hm (by omega), Kz_Sm tt (by omega) (by omega), q1, q2, q3, by rw [q5, wr, show sp - 2 + 2 = sp by omega]⟩
  · rw [if_neg c] at e ⊢
    obtain ⟨a', f', bc', de', hl', ix', sp', m', q1, q2, q3⟩ := e
    exact ⟨a', f', bc', de', hl', ix', sp', m', q1, fun k hk => (q2 k (by omega)).trans (t k (by omega)), q3⟩
theorem b_div {G : GE} {X y : Nat} (hm : KM m) (hc : CB m h [42, lo X, hi X, 17, lo y, hi y, 205, 118, 0]) (hX : X + 1 < 65536) (hy0 : 0 < y) (hy : y < 32768) (hb : bc < 65536) (hh : h + 40 < 65536) (hs0 : 3000 ≤ sp) (hs : sp < 65530) :
    ∃ m' a' f' bc' de', KM m' ∧ Kz sp m m' ∧ a' < 256 ∧ bc' < 65536 ∧ de' < 65536 ∧ RL G a f bc de hl ix sp h m P = RL G a' f' bc' de' (us (sg (wd m X) / y)) ix sp (h + 9) m' P := by
  obtain ⟨b0, b1, b2, b3, b4, b5, b6, b7, b8, -⟩ := hc
  have w1 : wd m (h + 1) = X := wd_of b1 b2
  have w2 : wd m (h + 3 + 1) = y := wd_of b4 b5
  have lX : wd m X < 65536 := wd_lt
  obtain ⟨M, hM⟩ : ∃ M, M = pu m sp (h + 9) := ⟨_, rfl⟩
  have t : Sm (sp - 2) sp m M := by rw [hM]; exact pu_Sm (by omega)
  have k : KM M := Sm_KM t hm (by omega)
  have wr : wd M (sp - 2) = h + 9 := by rw [hM]; exact pu_wd (by omega) (by omega)
  obtain ⟨a', f', bc', m', q1, q2, q4, q5⟩ := rt_quo (G := G) (a := a) (bc := bc) (y := y) (hl := wd m X) (ix := ix) (sp := sp - 2) (f := f) (P := P) k hb hy0 hy lX (by omega) (by omega)
  have tt : Sm (sp - 18) sp m m' := Sm_t (Sm_w t (by omega) (by omega)) (Sm_w q4 (by omega) (by omega))
  refine ⟨m', a', f', bc', y, Sm_KM tt hm (by omega), Kz_Sm tt (by omega) (by omega), q1, q2, by omega, ?_⟩
  rw [rl_2A b0 (by omega) (by rw [w1]; exact hX), w1, rl_11 (pc := h + 3) b3 (by omega), w2, b_call (h := h + 6) (t := 118) ⟨b6, b7, b8, trivial⟩ (by omega) (by omega) (by omega), show h + 6 + 3 = h + 9 by omega, ← hM, k_118 k, q5, wr, show sp - 2 + 2 = sp by omega]
theorem b_mod {G : GE} {X y : Nat} (hm : KM m) (hc : CB m h [42, lo X, hi X, 17, lo y, hi y, 205, 121, 0]) (hX : X + 1 < 65536) (hy0 : 0 < y) (hy : y < 32768) (hb : bc < 65536) (hh : h + 40 < 65536) (hs0 : 3000 ≤ sp) (hs : sp < 65530) :
    ∃ m' a' f' bc' de', KM m' ∧ Kz sp m m' ∧ a' < 256 ∧ bc' < 65536 ∧ de' < 65536 ∧ RL G a f bc de hl ix sp h m P = RL G a' f' bc' de' (us (sg (wd m X) % y)) ix sp (h + 9) m' P := by
  obtain ⟨b0, b1, b2, b3, b4, b5, b6, b7, b8, -⟩ := hc
  have w1 : wd m (h + 1) = X := wd_of b1 b2
  have w2 : wd m (h + 3 + 1) = y := wd_of b4 b5
  have lX : wd m X < 65536 := wd_lt
  obtain ⟨M, hM⟩ : ∃ M, M = pu m sp (h + 9) := ⟨_, rfl⟩
  have t : Sm (sp - 2) sp m M := by rw [hM]; exact pu_Sm (by omega)
  have k : KM M := Sm_KM t hm (by omega)
  have wr : wd M (sp - 2) = h + 9 := by rw [hM]; exact pu_wd (by omega) (by omega)
  obtain ⟨a', f', bc', de', m', q1, q2, q3, q4, q5⟩ := rt_rst (G := G) (a := a) (bc := bc) (y := y) (hl := wd m X) (ix := ix) (sp := sp - 2) (f := f) (P := P) k hb hy0 hy lX (by omega) (by omega)
  have tt : Sm (sp - 18) sp m m' := Sm_t (Sm_w t (by omega) (by omega)) (Sm_w q4 (by omega) (by omega))
  refine ⟨m', a', f', bc', de', Sm_KM tt hm (by omega), Kz_Sm tt (by omega) (by omega), q1, q2, q3, ?_⟩
  rw [rl_2A b0 (by omega) (by rw [w1]; exact hX), w1, rl_11 (pc := h + 3) b3 (by omega), w2, b_call (h := h + 6) (t := 121) ⟨b6, b7, b8, trivial⟩ (by omega) (by omega) (by omega), show h + 6 + 3 = h + 9 by omega, ← hM, k_121 k, q5, wr, show sp - 2 + 2 = sp by omega]
/-- an index in HL: the element's address comes to HL, or trap 2 -/
theorem b_idx {G : GE} (hm : KM m) (hc : CB m h [205, 214, 0, 0, 0, 3, 0, 41, 17, 8, 232, 25]) (ha : a < 256) (hb : bc < 65536) (hd : de < 65536) (hhl : hl < 65536) (hh0 : 1900 ≤ h) (hh : h + 200 < sp) (hs0 : 3000 ≤ sp) (hs : sp < 65530) :
    if hl < 4 then ∃ m' a' f' bc' de', KM m' ∧ Kz sp m m' ∧ a' < 256 ∧ bc' < 65536 ∧ de' < 65536 ∧ RL G a f bc de hl ix sp h m P = RL G a' f' bc' de' (59400 + 2 * hl) ix sp (h + 12) m' P
    else TP G 70 m P (RL G a f bc de hl ix sp h m P) := by
  obtain ⟨b0, b1, b2, b3, b4, b5, b6, b7, b8, b9, b10, b11, -⟩ := hc
  obtain ⟨M, hM⟩ : ∃ M, M = pu m sp (h + 3) := ⟨_, rfl⟩
  have t : Sm (sp - 2) sp m M := by rw [hM]; exact pu_Sm (by omega)
  have k : KM M := Sm_KM t hm (by omega)
  have wr : wd M (sp - 2) = h + 3 := by rw [hM]; exact pu_wd (by omega) (by omega)
  have e0 : RL G a f bc de hl ix sp h m P = RL G a f bc de hl ix (sp - 2) 1540 M P := by
    rw [b_call (h := h) (t := 214) ⟨b0, b1, b2, trivial⟩ (by omega) (by omega) (by omega), ← hM, k_214 k]
  have e := rt_ix (G := G) (a := a) (bc := bc) (de := de) (hl := hl) (ix := ix) (sp := sp - 2) (RA := h + 3) (f := f) (P := P) k ha hb hd hhl (by omega) (by omega) wr (by omega) (by omega) (by rw [Sm_rd t (by omega)]; exact b3) (by rw [Sm_rd t (by omega)]; exact b4) (by rw [Sm_rd t (by omega)]; exact b5) (by rw [Sm_rd t (by omega)]; exact b6)
  rw [e0]
  rw [show sp - 2 + 2 = sp by omega] at e
  by_cases c : hl < 4
  · rw [if_pos c] at e ⊢
    obtain ⟨a', f', bc', de', m', q1, q2, q3, q4, q5⟩ := e
    have tt : Kz sp m m' := Kz_t (Kz_Sm t (by omega) (by omega)) (Kz_Kp q4 (by omega) (by omega))
    have kk : KM m' := Kz_KM tt hm (by omega)
    have c7 : rd m' (h + 7) = 41 := by rw [Kz_rd tt (by omega) (by omega)]; exact b7
    have c8 : rd m' (h + 8) = 17 := by rw [Kz_rd tt (by omega) (by omega)]; exact b8
    have c9 : rd m' (h + 8 + 1) = 59400 % 256 := by rw [Kz_rd tt (by omega) (by omega)]; exact b9
    have c10 : rd m' (h + 8 + 1 + 1) = 59400 / 256 := by rw [Kz_rd tt (by omega) (by omega)]; exact b10
    have c11 : rd m' (h + 11) = 25 := by rw [Kz_rd tt (by omega) (by omega)]; exact b11
    refine ⟨m', a', fAdd (fAdd f' hl hl) (2 * hl) 59400, bc', 59400, kk, tt, q1, q2, by omega, ?_⟩
    rw [q5, show h + 3 + 4 = h + 7 by omega, rl_29 (pc := h + 7) c7 (by omega) hhl hhl, show (hl + hl) % 65536 = 2 * hl by omega, rl_11 (pc := h + 8) c8 (by omega), wd_of c9 c10, rl_19 (pc := h + 11) c11 (by omega) (by omega) (by omega), show (2 * hl + 59400) % 65536 = 59400 + 2 * hl by omega]
  · rw [if_neg c] at e ⊢
    obtain ⟨a', f', bc', de', hl', sp', m', q1, q2, q3⟩ := e
    exact ⟨a', f', bc', de', hl', ix, sp', m', q1, fun k hk => (q2 k (by omega) (by omega)).trans (t k (by omega)), q3⟩
theorem b_get {G : GE} (hc : CB m h [94, 35, 86, 235]) (hd : de < 65536) (hhl : hl + 1 < 65536) (hh : h + 40 < 65536) : RL G a f bc de hl ix sp h m P = RL G a f bc (hl + 1) (wd m hl) ix sp (h + 4) m P := by
  obtain ⟨b0, b1, b2, b3, -⟩ := hc
  have l1 := @rd_lt m hl
  have l2 := @rd_lt m (hl + 1)
  have e : rd m (hl + 1) * 256 + (de / 256 * 256 + rd m hl) % 256 = wd m hl := by unfold wd; omega
  rw [rl_5E b0 (by omega) (by omega) hd, rl_23 (pc := h + 1) b1 (by omega) (by omega), show (hl + 1) % 65536 = hl + 1 by omega, rl_56 (pc := h + 2) b2 (by omega) (by omega) (by omega), e, rl_EB (pc := h + 3) b3 (by omega) (by omega) wd_lt]
/-- the element whose address is in HL becomes a variable's value -/
theorem b_set {G : GE} {Y : Nat} (hm : KM m) (hc : CB m h [229, 42, lo Y, hi Y, 235, 225, 115, 35, 114]) (hd : de < 65536) (hhl : hl + 1 < 65536) (hY : Y + 1 < 65536) (hY2 : sp ≤ Y) (hh0 : 1900 ≤ h) (hh : h + 200 < sp) (hs0 : 3000 ≤ sp) (hs : sp < 65530) (h2 : sp ≤ hl) :
    ∃ de' hl' m', de' < 65536 ∧ hl' < 65536 ∧ wd m' hl = wd m Y ∧ (∀ k, ¬ (k = hl ∨ k = hl + 1) → (k < sp - 2 ∨ sp ≤ k) → m' k = m k) ∧ RL G a f bc de hl ix sp h m P = RL G a f bc de' hl' ix sp (h + 9) m' P := by
  obtain ⟨b0, b1, b2, b3, b4, b5, b6, b7, b8, -⟩ := hc
  obtain ⟨M, hM⟩ : ∃ M, M = pu m sp hl := ⟨_, rfl⟩
  have t : Sm (sp - 2) sp m M := by rw [hM]; exact pu_Sm (by omega)
  have wr : wd M (sp - 2) = hl := by rw [hM]; exact pu_wd (by omega) (by omega)
  have c1 : rd M (h + 1) = 42 := by rw [Sm_rd t (by omega)]; exact b1
  have c2 : rd M (h + 1 + 1) = lo Y := by rw [Sm_rd t (by omega)]; exact b2
  have c3 : rd M (h + 1 + 1 + 1) = hi Y := by rw [Sm_rd t (by omega)]; exact b3
  have c4 : rd M (h + 4) = 235 := by rw [Sm_rd t (by omega)]; exact b4
  have c5 : rd M (h + 5) = 225 := by rw [Sm_rd t (by omega)]; exact b5
  have c6 : rd M (h + 6) = 115 := by rw [Sm_rd t (by omega)]; exact b6
  have c7 : rd (up M hl (wd m Y % 256)) (h + 7) = 35 := by rw [rd_ne (by omega), Sm_rd t (by omega)]; exact b7
  have c8 : rd (up M hl (wd m Y % 256)) (h + 8) = 114 := by rw [rd_ne (by omega), Sm_rd t (by omega)]; exact b8
  have wY : wd M Y = wd m Y := Sm_wd t (by omega)
  have lY : wd m Y < 65536 := wd_lt
  refine ⟨wd m Y, hl + 1, up (up M hl (wd m Y % 256)) (hl + 1) (wd m Y / 256), lY, by omega, ?_, ?_, ?_⟩
  · unfold wd
    rw [rd_ne (by omega), rd_eq, rd_eq]
    have := @rd_lt m Y
    have := @rd_lt m (Y + 1)
    omega
  · intro k h1 h2
    rw [up_ne (by omega), up_ne (by omega)]
    exact t k (by omega)
  · rw [rl_E5 b0 (by omega) (by omega) (by omega) (by omega), show up (up m (sp - 1) (hl / 256)) (sp - 2) hl = M from hM.symm, rl_2A (pc := h + 1) c1 (by omega) (by rw [wd_of c2 c3]; exact hY), wd_of c2 c3, wY, rl_EB (pc := h + 4) c4 (by omega) lY hd, rl_E1 (pc := h + 5) c5 (by omega) (by omega), wr, show sp - 2 + 2 = sp by omega,
    rl_73 (pc := h + 6) c6 (by omega) (by omega) lY, rl_23 (pc := h + 7) c7 (by omega) (by omega), show (hl + 1) % 65536 = hl + 1 by omega, rl_72 (pc := h + 8) c8 (by omega) (by omega) lY]
/-- WriteInt -/
theorem b_wri {G : GE} {X w : Nat} (hm : KM m) (hc : CB m h [42, lo X, hi X, 229, 33, lo w, hi w, 229, 209, 225, 205, 175, 0]) (hw : w < 8) (ha : a < 256) (hb : bc < 65536) (hX : X + 1 < 65536) (hh0 : 1900 ≤ h) (hh : h + 200 < sp) (hs0 : 3000 ≤ sp) (hs : sp < 65530) (hP : P.ou.length + 20 < 1999) :
    ∃ m' a' f' bc' de' hl', KM m' ∧ Kz sp m m' ∧ a' < 256 ∧ bc' < 65536 ∧ de' < 65536 ∧ hl' < 65536 ∧ RL G a f bc de hl ix sp h m P = RL G a' f' bc' de' hl' ix sp (h + 13) m' (P.wou (P.ou ++ wr (sg (wd m X)) w)) := by
  obtain ⟨b0, b1, b2, b3, b4, b5, b6, b7, b8, b9, b10, b11, b12, -⟩ := hc
  have lX : wd m X < 65536 := wd_lt
  obtain ⟨M1, hM1⟩ : ∃ M, M = pu m sp (wd m X) := ⟨_, rfl⟩
  have t1 : Sm (sp - 2) sp m M1 := by rw [hM1]; exact pu_Sm (by omega)
  have w1 : wd M1 (sp - 2) = wd m X := by rw [hM1]; exact pu_wd (by omega) lX
  obtain ⟨M2, hM2⟩ : ∃ M, M = pu M1 (sp - 2) w := ⟨_, rfl⟩
  have t2 : Sm (sp - 4) (sp - 2) M1 M2 := by rw [hM2]; exact Sm_w (pu_Sm (by omega)) (by omega) (by omega)
  have w2 : wd M2 (sp - 2 - 2) = w := by rw [hM2]; exact pu_wd (by omega) (by omega)
  have w3 : wd M2 (sp - 2) = wd m X := by rw [Sm_wd t2 (by omega), w1]
  obtain ⟨M3, hM3⟩ : ∃ M, M = pu M2 sp (h + 13) := ⟨_, rfl⟩
  have t3 : Sm (sp - 2) sp M2 M3 := by rw [hM3]; exact pu_Sm (by omega)
  have t13 : Sm (sp - 4) sp m M3 := Sm_t (Sm_w t1 (by omega) (by omega)) (Sm_t (Sm_w t2 (by omega) (by omega)) (Sm_w t3 (by omega) (by omega)))
  have k3 : KM M3 := Sm_KM t13 hm (by omega)
  have wr' : wd M3 (sp - 2) = h + 13 := by rw [hM3]; exact pu_wd (by omega) (by omega)
  have c4 : rd M1 (h + 4) = 33 := by rw [Sm_rd t1 (by omega)]; exact b4
  have c5 : wd M1 (h + 4 + 1) = w := by rw [Sm_wd t1 (by omega)]; exact wd_of b5 b6
  have c7 : rd M1 (h + 7) = 229 := by rw [Sm_rd t1 (by omega)]; exact b7
  have c8 : rd M2 (h + 8) = 209 := by rw [Sm_rd t2 (by omega), Sm_rd t1 (by omega)]; exact b8
  have c9 : rd M2 (h + 9) = 225 := by rw [Sm_rd t2 (by omega), Sm_rd t1 (by omega)]; exact b9
  have c10 : CB M2 (h + 10) [205, lo 175, hi 175] := ⟨by rw [Sm_rd t2 (by omega), Sm_rd t1 (by omega)]; exact b10, by rw [Sm_rd t2 (by omega), Sm_rd t1 (by omega)]; exact b11, by rw [Sm_rd t2 (by omega), Sm_rd t1 (by omega)]; exact b12, trivial⟩
  obtain ⟨a', f', bc', de', hl', m', q1, q2, q3, q4, q5, q6⟩ := rt_wri (G := G) (a := a) (bc := bc) (w := w) (hl := wd m X) (ix := ix) (sp := sp - 2) (f := f) (P := P) k3 ha hb lX hw (by omega) (by omega) hP
  have kp : Kz sp m m' := Kz_t (Kz_Sm t13 (by omega) (by omega)) (Kz_Kp q5 (by omega) (by omega))
  refine ⟨m', a', f', bc', de', hl', Kz_KM kp hm (by omega), kp, q1, q2, q3, q4, ?_⟩
  rw [rl_2A b0 (by omega) (by rw [wd_of b1 b2]; exact hX), wd_of b1 b2, rl_E5 (pc := h + 3) b3 (by omega) (by omega) (by omega) lX, show up (up m (sp - 1) (wd m X / 256)) (sp - 2) (wd m X) = M1 from hM1.symm, rl_21 (pc := h + 4) c4 (by omega), c5, rl_E5 (pc := h + 7) c7 (by omega) (by omega) (by omega) (by omega), show up (up M1 (sp - 2 - 1) (w / 256)) (sp - 2 - 2) w = M2 from hM2.symm,
    rl_D1 (pc := h + 8) c8 (by omega) (by omega), w2, show sp - 2 - 2 + 2 = sp - 2 by omega, rl_E1 (pc := h + 9) c9 (by omega) (by omega), w3, show sp - 2 + 2 = sp by omega, b_call c10 (by omega) (by omega) (by omega), show h + 10 + 3 = h + 13 by omega, ← hM3, k_175 k3, q6, wr', show sp - 2 + 2 = sp by omega]
/-- conditions: on when it holds, else to P -/
theorem b_lt {G : GE} {X Y T : Nat} (hm : KM m) (hc : CB m h [42, lo X, hi X, 237, 91, lo Y, hi Y, 205, 103, 0, 210, lo T, hi T]) (hX : X + 1 < 65536) (hY : Y + 1 < 65536) (ha : a < 256) (hh0 : 1900 ≤ h) (hh : h + 200 < sp) (hs0 : 3000 ≤ sp) (hs : sp < 65530) :
    ∃ m' a' f' de' hl', KM m' ∧ Kz sp m m' ∧ a' < 256 ∧ de' < 65536 ∧ hl' < 65536 ∧ RL G a f bc de hl ix sp h m P = RL G a' f' bc de' hl' ix sp (if sg (wd m X) < sg (wd m Y) then h + 13 else T) m' P := by
  obtain ⟨b0, b1, b2, b3, b4, b5, b6, b7, b8, b9, b10, b11, b12, -⟩ := hc
  have w1 : wd m (h + 1) = X := wd_of b1 b2
  have w2 : wd m (h + 3 + 2) = Y := wd_of b5 b6
  have lX : wd m X < 65536 := wd_lt
  have lY : wd m Y < 65536 := wd_lt
  obtain ⟨M, hM⟩ : ∃ M, M = pu m sp (h + 10) := ⟨_, rfl⟩
  have t : Sm (sp - 2) sp m M := by rw [hM]; exact pu_Sm (by omega)
  have k : KM M := Sm_KM t hm (by omega)
  have wr' : wd M (sp - 2) = h + 10 := by rw [hM]; exact pu_wd (by omega) (by omega)
  have c10 : rd M (h + 10) = 210 := by rw [Sm_rd t (by omega)]; exact b10
  have c11 : wd M (h + 10 + 1) = T := by rw [Sm_wd t (by omega)]; exact wd_of b11 b12
  obtain ⟨a', f', de', hl', e, q1, q2, q3, q4⟩ := rt_cmp (G := G) (a := a) (bc := bc) (de := wd m Y) (hl := wd m X) (ix := ix) (sp := sp - 2) (f := f) (P := P) k lX lY (by omega)
  refine ⟨M, a', f', de', hl', k, Kz_Sm t (by omega) (by omega), q1, q2, q3, ?_⟩
  rw [rl_2A b0 (by omega) (by rw [w1]; exact hX), w1, rl_ED5B (pc := h + 3) b3 b4 (by omega) (by rw [w2]; exact hY), w2, b_call (h := h + 7) (t := 103) ⟨b7, b8, b9, trivial⟩ (by omega) (by omega) (by omega), show h + 7 + 3 = h + 10 by omega, ← hM, k_103 k, e, wr', show sp - 2 + 2 = sp by omega, rl_D2 (pc := h + 10) c10 (by omega), c11]
  simp only [q4]
  by_cases c : sg (wd m X) < sg (wd m Y)
  · rw [if_neg (fun z => z c), if_pos c]
  · rw [if_pos c, if_neg c]
theorem b_gt {G : GE} {X Y T : Nat} (hm : KM m) (hc : CB m h [42, lo X, hi X, 237, 91, lo Y, hi Y, 235, 205, 103, 0, 210, lo T, hi T]) (hX : X + 1 < 65536) (hY : Y + 1 < 65536) (ha : a < 256) (hh0 : 1900 ≤ h) (hh : h + 200 < sp) (hs0 : 3000 ≤ sp) (hs : sp < 65530) :
    ∃ m' a' f' de' hl', KM m' ∧ Kz sp m m' ∧ a' < 256 ∧ de' < 65536 ∧ hl' < 65536 ∧ RL G a f bc de hl ix sp h m P = RL G a' f' bc de' hl' ix sp (if sg (wd m X) > sg (wd m Y) then h + 14 else T) m' P := by
  obtain ⟨b0, b1, b2, b3, b4, b5, b6, bx, b7, b8, b9, b10, b11, b12, -⟩ := hc
  have w1 : wd m (h + 1) = X := wd_of b1 b2
  have w2 : wd m (h + 3 + 2) = Y := wd_of b5 b6
  have lX : wd m X < 65536 := wd_lt
  have lY : wd m Y < 65536 := wd_lt
  obtain ⟨M, hM⟩ : ∃ M, M = pu m sp (h + 11) := ⟨_, rfl⟩
  have t : Sm (sp - 2) sp m M := by rw [hM]; exact pu_Sm (by omega)
  have k : KM M := Sm_KM t hm (by omega)
  have wr' : wd M (sp - 2) = h + 11 := by rw [hM]; exact pu_wd (by omega) (by omega)
  have c10 : rd M (h + 11) = 210 := by rw [Sm_rd t (by omega)]; exact b10
  have c11 : wd M (h + 11 + 1) = T := by rw [Sm_wd t (by omega)]; exact wd_of b11 b12
  obtain ⟨a', f', de', hl', e, q1, q2, q3, q4⟩ := rt_cmp (G := G) (a := a) (bc := bc) (de := wd m X) (hl := wd m Y) (ix := ix) (sp := sp - 2) (f := f) (P := P) k lY lX (by omega)
  refine ⟨M, a', f', de', hl', k, Kz_Sm t (by omega) (by omega), q1, q2, q3, ?_⟩
  rw [rl_2A b0 (by omega) (by rw [w1]; exact hX), w1, rl_ED5B (pc := h + 3) b3 b4 (by omega) (by rw [w2]; exact hY), w2, rl_EB (pc := h + 7) bx (by omega) lX lY, b_call (h := h + 8) (t := 103) ⟨b7, b8, b9, trivial⟩ (by omega) (by omega) (by omega), show h + 8 + 3 = h + 11 by omega, ← hM, k_103 k, e, wr', show sp - 2 + 2 = sp by omega, rl_D2 (pc := h + 11) c10 (by omega), c11]
  simp only [q4]
  by_cases c : sg (wd m X) > sg (wd m Y)
  · rw [if_neg (fun z => z c), if_pos c]
  · rw [if_pos c, if_neg c]
end
