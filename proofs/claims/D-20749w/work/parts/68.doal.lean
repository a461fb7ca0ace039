/-! the law does a command (printed by gen/doall3.py) -/
set_option maxRecDepth 100000
set_option maxHeartbeats 1000000
theorem o0_le : (Int32.ofNat 0 ≤ 0) = True := eq_true (by decide)
theorem chk_le {v : Nat → Int} {a : Nat} {r : Int} : (chk v a r).1 ≤ 3 := by
  unfold chk
  split
  · exact Nat.zero_le _
  · exact Nat.le_refl _
theorem act_le {s : St} {v : Nat → Int} : (actF s v).1 ≤ 3 := by
  have h2 : (2 : Nat) ≤ 3 := by decide
  unfold actF
  split <;> first | exact chk_le | exact Nat.zero_le _ | (split <;> first | exact Nat.zero_le _ | exact h2)
theorem VR_up {v : Nat → Int} {a : Nat} {r : Int} (h : VRG v) (h1 : -32768 ≤ r) (h2 : r ≤ 32767) : VRG (up v a r) := fun j hj => by
  unfold up
  split
  · exact ⟨h1, h2⟩
  · exact h j hj
theorem VR_chk {v : Nat → Int} {a : Nat} {r : Int} (h : VRG v) : VRG (chk v a r).2 := by
  unfold chk
  split
  · rename_i q
    exact VR_up h q.1 q.2
  · exact h
theorem act_VR {s : St} {v : Nat → Int} (hs : s.ok) (h : VRG v) : VRG (actF s v).2 := by
  refine St.all (p := fun s => VRG (actF s v).2) ?_ ?_ ?_ ?_ ?_ ?_ ?_ ?_ hs
  · intro a w u ok; exact VR_chk h
  · intro a w u ok; exact VR_chk h
  · intro a w u ok; exact VR_chk h
  · intro a w u ok; exact VR_chk h
  · intro a w u ok; exact VR_chk h
  · intro w u ok
    have := h u (by have := ok.2.2; omega)
    exact VR_up h this.1 this.2
  · intro a w ok
    show VRG (if 0 ≤ v w ∧ v w ≤ 3 then (0, up v a (v (4 + (v w).toNat))) else (2, v)).2
    split
    · rename_i q
      have := h (4 + (v w).toNat) (by omega)
      exact VR_up h this.1 this.2
    · exact h
  · intro a c ok
    have := ok.2.2
    exact VR_up h (by omega) (by omega)
theorem law_loopW {g : Nat → Nat → Value} {c0 s0 d N : Nat} {x y : Int32} {pl pi a w u : Nat} (ha : a < 4) (hw : w < 4) (hu : u < 4) (hpl : pl < 65536) (hpi : pi < 65536) (hN : N < 100000) : ∀ (n : Nat) (v : Nat → Int) (P : PT) (l12 : Option Value), VRG v → P.st ≤ N → N < P.st + n →
    am_G (d + 4) 11 155 [some (.ref 124788933419), some (.ref 124856169512), some (.int x), some (.int y), some (.long (Int64.ofNat pl)), some (.retAddr 0), some (.long (Int64.ofNat pi)), some (.retAddr 0), some (.int 12), some (.int (Int32.ofNat a)), some (.int (Int32.ofNat w)), some (.int (Int32.ofNat u)), l12] [] (HK g c0 s0 N v P) = some (some (.int (Int32.ofNat (loopW N (stOf y) w u pl pi n v P).1)), HK g c0 s0 N (loopW N (stOf y) w u pl pi n v P).2.1 (loopW N (stOf y) w u pl pi n v P).2.2) := by
  intro n
  induction n with
  | zero => intro v P l12 hv hs hn; omega
  | succ n ih =>
    intro v P l12 hv hs hn
    have bw := hv w (by omega)
    have bu := hv u (by omega)
    have cw : (lg_cmp (Int64.ofInt (v w)) (Int64.ofInt (v u)) ≤ 0) = (v w ≤ v u) := l_le (by omega) (by omega) (by omega) (by omega)
    have bwd := n_bnd (n := w) (a := 124788933419) (by show w < 12; omega) (by omega)
    have bud := n_bnd (n := u) (a := 124788933419) (by show u < 12; omega) (by omega)
    have bad := n_bnd (n := a) (a := 124788933419) (by show a < 12; omega) (by omega)
    have tw : (Int32.ofNat w).toNatClampNeg = w := tn_of (by omega)
    have tu : (Int32.ofNat u).toNatClampNeg = u := tn_of (by omega)
    have ta : (Int32.ofNat a).toNatClampNeg = a := tn_of (by omega)
    have S := step_ok (g := g) (c0 := c0) (s0 := s0) (d := d + 3) (N := N) (v := v) (P := P) (pl := pi) hpi (by omega) hN
    have rw_ : ∀ (v : Nat → Int) (P : PT), am_g (HK g c0 s0 N v P) 124788933419 w = .long (Int64.ofInt (v w)) := fun v P => HK_v (by omega)
    have ru : ∀ (v : Nat → Int) (P : PT), am_g (HK g c0 s0 N v P) 124788933419 u = .long (Int64.ofInt (v u)) := fun v P => HK_v (by omega)
    have ra : ∀ (v : Nat → Int) (P : PT), am_g (HK g c0 s0 N v P) 124788933419 a = .long (Int64.ofInt (v a)) := fun v P => HK_v (by omega)
    have e0 : loopW N (stOf y) w u pl pi (n + 1) v P = if v w > v u then (if (do1 N (stOf y) pi v P).1 ≠ 0 then do1 N (stOf y) pi v P else if (do1 N (stOf y) pi v P).2.2.st = N then (100, (do1 N (stOf y) pi v P).2.1, (do1 N (stOf y) pi v P).2.2) else loopW N (stOf y) w u pl pi n (do1 N (stOf y) pi v P).2.1 ((do1 N (stOf y) pi v P).2.2.ask pl)) else (0, v, P) := rfl
    by_cases k0 : v w > v u
    rotate_left
    · have cw' := cw.trans (eq_true (by omega))
      rw [e0, if_neg k0, z11_155]
      simp (disch := (refine id ?_; first | with_reducible assumption | exact Nat.ne_of_beq_eq_false rfl | with_unfolding_all exact rfl | with_unfolding_all exact Nat.le_of_ble_eq_true rfl | (simp only [am_cat_nil, am_cat_int, am_cat_ref, am_cat_null, am_cat_long, Nat.reduceAdd, Nat.reduceLeDiff]; done) | omega | exact i_bnd2 (by simp only [am_n, Nat.reduceDiv, Nat.reduceMod, Nat.reduceMul, Nat.reduceAdd]; omega) | decide | fail)) only [z11_157, z11_159, z11_162, z11_162N, z11_163, z11_165, z11_166, z11_166N, z11_167, z11_169, z11_170, z11_171, z11_174, z11_174N, z11_175, z11_177, z11_180, z11_183, z11_183N, z11_184, z11_185, z11_188, z11_191, z11_193, z11_195, z11_197, z11_200, z11_202, z11_203, z11_205, z11_207, z11_210, z11_210N, z11_211, z11_213, z11_214, z11_214N, z11_215, z11_217, z11_218, z11_219, z11_222, z11_223, z11_224, z11_226, z11_228, z11_231, z11_231N, z11_232, z11_234, z11_235, z11_238, z11_239, z11_240, z11_242, z11_243, z11_245, z11_246, z11_247, z11_248, z11_251, z11_252, z11_253, z11_255, z11_257, z11_260, z11_260N, z11_261, z11_263, z11_263N, z11_264, z11_266, z11_267, z11_270, z11_271, z11_272, z11_272N, z11_273, z11_275, z11_278, z11_281, z11_283, z11_284, z11_287, z11_288, HK_v, HK_8, HK_9, HK_11, HK_w, i_m4, i_m6, i_m8, i_m10, i_eqll, i_lell, i_ltll, Nat.reduceEqDiff, Nat.reduceLeDiff, Nat.reduceLT, o0_le, bwd, bud, bad, tw, tu, ta, rw_, ru, ra, cw', ↓reduceIte, i_10, i_00, am_then_some, am_tl1, am_tl0, i_addl, ad2, Nat.reduceAdd, Int32.reduceToNatClampNeg, List.nil_append]
      rfl
    have cw' := cw.trans (eq_false (by omega))
    rw [if_pos k0] at e0
    by_cases k1 : P.st = N
    · have D : do1 N (stOf y) pi v P = (100, v, P) := if_pos k1
      rw [if_pos k1] at S
      rw [e0, D, if_pos (show (100 : Nat) ≠ 0 by decide), z11_155]
      simp (disch := (refine id ?_; first | with_reducible assumption | exact Nat.ne_of_beq_eq_false rfl | with_unfolding_all exact rfl | with_unfolding_all exact Nat.le_of_ble_eq_true rfl | (simp only [am_cat_nil, am_cat_int, am_cat_ref, am_cat_null, am_cat_long, Nat.reduceAdd, Nat.reduceLeDiff]; done) | omega | exact i_bnd2 (by simp only [am_n, Nat.reduceDiv, Nat.reduceMod, Nat.reduceMul, Nat.reduceAdd]; omega) | decide | fail)) only [z11_157, z11_159, z11_162, z11_162N, z11_163, z11_165, z11_166, z11_166N, z11_167, z11_169, z11_170, z11_171, z11_174, z11_174N, z11_175, z11_177, z11_180, z11_183, z11_183N, z11_184, z11_185, z11_188, z11_191, z11_193, z11_195, z11_197, z11_200, z11_202, z11_203, z11_205, z11_207, z11_210, z11_210N, z11_211, z11_213, z11_214, z11_214N, z11_215, z11_217, z11_218, z11_219, z11_222, z11_223, z11_224, z11_226, z11_228, z11_231, z11_231N, z11_232, z11_234, z11_235, z11_238, z11_239, z11_240, z11_242, z11_243, z11_245, z11_246, z11_247, z11_248, z11_251, z11_252, z11_253, z11_255, z11_257, z11_260, z11_260N, z11_261, z11_263, z11_263N, z11_264, z11_266, z11_267, z11_270, z11_271, z11_272, z11_272N, z11_273, z11_275, z11_278, z11_281, z11_283, z11_284, z11_287, z11_288, HK_v, HK_8, HK_9, HK_11, HK_w, i_m4, i_m6, i_m8, i_m10, i_eqll, i_lell, i_ltll, Nat.reduceEqDiff, Nat.reduceLeDiff, Nat.reduceLT, o0_le, bwd, bud, bad, tw, tu, ta, rw_, ru, ra, cw', S, ↓reduceIte, i_10, i_00, am_then_some, am_tl1, am_tl0, i_addl, ad2, Nat.reduceAdd, Int32.reduceToNatClampNeg, List.nil_append]
      rfl
    · rw [if_neg k1] at S
      have A := act_ok (g := g) (c0 := c0) (s0 := s0) (d := d + 1) (N := N) (v := v) (P := P.ask pi) (x := y) hv
      have V1 := act_VR (stOf_ok (x := y)) hv
      have L3 := act_le (s := stOf y) (v := v)
      have D : do1 N (stOf y) pi v P = ((actF (stOf y) v).1, (actF (stOf y) v).2, P.ask pi) := if_neg k1
      obtain ⟨t, v1, hA⟩ : ∃ t v1, actF (stOf y) v = (t, v1) := ⟨_, _, rfl⟩
      rw [hA] at A V1 L3 D
      have L3 : t ≤ 3 := L3
      have V1 : VRG v1 := V1
      have D : do1 N (stOf y) pi v P = (t, v1, P.ask pi) := D
      have A : am_M (d + 4) 13 [.ref 124788933419, .int y] (HK g c0 s0 N v (P.ask pi)) = some (some (.int (Int32.ofNat t)), HK g c0 s0 N v1 (P.ask pi)) := A
      by_cases k2 : t = 0
      rotate_left
      · have c2 : (Int32.ofNat t ≤ 0) = False := (n_lel t 0 (by omega) (by decide)).trans (eq_false (show ¬ ¬ 0 < t by omega))
        rw [e0, D, if_pos k2, z11_155]
        simp (disch := (refine id ?_; first | with_reducible assumption | exact Nat.ne_of_beq_eq_false rfl | with_unfolding_all exact rfl | with_unfolding_all exact Nat.le_of_ble_eq_true rfl | (simp only [am_cat_nil, am_cat_int, am_cat_ref, am_cat_null, am_cat_long, Nat.reduceAdd, Nat.reduceLeDiff]; done) | omega | exact i_bnd2 (by simp only [am_n, Nat.reduceDiv, Nat.reduceMod, Nat.reduceMul, Nat.reduceAdd]; omega) | decide | fail)) only [z11_157, z11_159, z11_162, z11_162N, z11_163, z11_165, z11_166, z11_166N, z11_167, z11_169, z11_170, z11_171, z11_174, z11_174N, z11_175, z11_177, z11_180, z11_183, z11_183N, z11_184, z11_185, z11_188, z11_191, z11_193, z11_195, z11_197, z11_200, z11_202, z11_203, z11_205, z11_207, z11_210, z11_210N, z11_211, z11_213, z11_214, z11_214N, z11_215, z11_217, z11_218, z11_219, z11_222, z11_223, z11_224, z11_226, z11_228, z11_231, z11_231N, z11_232, z11_234, z11_235, z11_238, z11_239, z11_240, z11_242, z11_243, z11_245, z11_246, z11_247, z11_248, z11_251, z11_252, z11_253, z11_255, z11_257, z11_260, z11_260N, z11_261, z11_263, z11_263N, z11_264, z11_266, z11_267, z11_270, z11_271, z11_272, z11_272N, z11_273, z11_275, z11_278, z11_281, z11_283, z11_284, z11_287, z11_288, HK_v, HK_8, HK_9, HK_11, HK_w, i_m4, i_m6, i_m8, i_m10, i_eqll, i_lell, i_ltll, Nat.reduceEqDiff, Nat.reduceLeDiff, Nat.reduceLT, o0_le, bwd, bud, bad, tw, tu, ta, rw_, ru, ra, cw', S, A, c2, ↓reduceIte, i_10, i_00, am_then_some, am_tl1, am_tl0, i_addl, ad2, Nat.reduceAdd, Int32.reduceToNatClampNeg, List.nil_append]
      subst k2
      have S2 := step_ok (g := g) (c0 := c0) (s0 := s0) (d := d + 3) (N := N) (v := v1) (P := P.ask pi) (pl := pl) hpl (by show P.st + 1 < 100000; omega) hN
      have sp : (P.ask pi).st = P.st + 1 := rfl
      have bw1 : -32768 ≤ v1 w ∧ v1 w ≤ 32767 := V1 w (by omega)
      have bu1 : -32768 ≤ v1 u ∧ v1 u ≤ 32767 := V1 u (by omega)
      have ba1 : -32768 ≤ v1 a ∧ v1 a ≤ 32767 := V1 a (by omega)
      by_cases k4 : P.st + 1 = N
      · rw [if_pos (by rw [sp]; exact k4)] at S2
        rw [e0, D, if_neg (show ¬ (0 : Nat) ≠ 0 by decide), if_pos (by rw [sp]; exact k4), z11_155]
        simp (disch := (refine id ?_; first | with_reducible assumption | exact Nat.ne_of_beq_eq_false rfl | with_unfolding_all exact rfl | with_unfolding_all exact Nat.le_of_ble_eq_true rfl | (simp only [am_cat_nil, am_cat_int, am_cat_ref, am_cat_null, am_cat_long, Nat.reduceAdd, Nat.reduceLeDiff]; done) | omega | exact i_bnd2 (by simp only [am_n, Nat.reduceDiv, Nat.reduceMod, Nat.reduceMul, Nat.reduceAdd]; omega) | decide | fail)) only [z11_157, z11_159, z11_162, z11_162N, z11_163, z11_165, z11_166, z11_166N, z11_167, z11_169, z11_170, z11_171, z11_174, z11_174N, z11_175, z11_177, z11_180, z11_183, z11_183N, z11_184, z11_185, z11_188, z11_191, z11_193, z11_195, z11_197, z11_200, z11_202, z11_203, z11_205, z11_207, z11_210, z11_210N, z11_211, z11_213, z11_214, z11_214N, z11_215, z11_217, z11_218, z11_219, z11_222, z11_223, z11_224, z11_226, z11_228, z11_231, z11_231N, z11_232, z11_234, z11_235, z11_238, z11_239, z11_240, z11_242, z11_243, z11_245, z11_246, z11_247, z11_248, z11_251, z11_252, z11_253, z11_255, z11_257, z11_260, z11_260N, z11_261, z11_263, z11_263N, z11_264, z11_266, z11_267, z11_270, z11_271, z11_272, z11_272N, z11_273, z11_275, z11_278, z11_281, z11_283, z11_284, z11_287, z11_288, HK_v, HK_8, HK_9, HK_11, HK_w, i_m4, i_m6, i_m8, i_m10, i_eqll, i_lell, i_ltll, Nat.reduceEqDiff, Nat.reduceLeDiff, Nat.reduceLT, o0_le, bwd, bud, bad, tw, tu, ta, rw_, ru, ra, cw', S, A, S2, ↓reduceIte, i_10, i_00, am_then_some, am_tl1, am_tl0, i_addl, ad2, Nat.reduceAdd, Int32.reduceToNatClampNeg, List.nil_append]
        rfl
      · rw [if_neg (by rw [sp]; exact k4)] at S2
        have I := ih v1 ((P.ask pi).ask pl) l12 V1 (by show P.st + 1 + 1 ≤ N; omega) (by show N < P.st + 1 + 1 + n; omega)
        have I' := fun l => ih v1 ((P.ask pi).ask pl) l V1 (by show P.st + 1 + 1 ≤ N; omega) (by show N < P.st + 1 + 1 + n; omega)
        rw [e0, D, if_neg (show ¬ (0 : Nat) ≠ 0 by decide), if_neg (by rw [sp]; exact k4), z11_155]
        simp (disch := (refine id ?_; first | with_reducible assumption | exact Nat.ne_of_beq_eq_false rfl | with_unfolding_all exact rfl | with_unfolding_all exact Nat.le_of_ble_eq_true rfl | (simp only [am_cat_nil, am_cat_int, am_cat_ref, am_cat_null, am_cat_long, Nat.reduceAdd, Nat.reduceLeDiff]; done) | omega | exact i_bnd2 (by simp only [am_n, Nat.reduceDiv, Nat.reduceMod, Nat.reduceMul, Nat.reduceAdd]; omega) | decide | fail)) only [z11_157, z11_159, z11_162, z11_162N, z11_163, z11_165, z11_166, z11_166N, z11_167, z11_169, z11_170, z11_171, z11_174, z11_174N, z11_175, z11_177, z11_180, z11_183, z11_183N, z11_184, z11_185, z11_188, z11_191, z11_193, z11_195, z11_197, z11_200, z11_202, z11_203, z11_205, z11_207, z11_210, z11_210N, z11_211, z11_213, z11_214, z11_214N, z11_215, z11_217, z11_218, z11_219, z11_222, z11_223, z11_224, z11_226, z11_228, z11_231, z11_231N, z11_232, z11_234, z11_235, z11_238, z11_239, z11_240, z11_242, z11_243, z11_245, z11_246, z11_247, z11_248, z11_251, z11_252, z11_253, z11_255, z11_257, z11_260, z11_260N, z11_261, z11_263, z11_263N, z11_264, z11_266, z11_267, z11_270, z11_271, z11_272, z11_272N, z11_273, z11_275, z11_278, z11_281, z11_283, z11_284, z11_287, z11_288, HK_v, HK_8, HK_9, HK_11, HK_w, i_m4, i_m6, i_m8, i_m10, i_eqll, i_lell, i_ltll, Nat.reduceEqDiff, Nat.reduceLeDiff, Nat.reduceLT, o0_le, bwd, bud, bad, tw, tu, ta, rw_, ru, ra, cw', S, A, S2, I', ↓reduceIte, i_10, i_00, am_then_some, am_tl1, am_tl0, i_addl, ad2, Nat.reduceAdd, Int32.reduceToNatClampNeg, List.nil_append]
theorem law_loopR {g : Nat → Nat → Value} {c0 s0 d N : Nat} {x y : Int32} {pl pi a w u : Nat} (ha : a < 4) (hw : w < 4) (hu : u < 4) (hpl : pl < 65536) (hpi : pi < 65536) (hN : N < 100000) : ∀ (n : Nat) (v : Nat → Int) (P : PT) (l12 : Option Value), VRG v → P.st ≤ N → N < P.st + n →
    am_G (d + 4) 11 155 [some (.ref 124788933419), some (.ref 124856169512), some (.int x), some (.int y), some (.long (Int64.ofNat pl)), some (.retAddr 0), some (.long (Int64.ofNat pi)), some (.retAddr 0), some (.int 11), some (.int (Int32.ofNat a)), some (.int (Int32.ofNat w)), some (.int (Int32.ofNat u)), l12] [] (HK g c0 s0 N v P) = some (some (.int (Int32.ofNat (loopR N (stOf y) w u pl pi n v P).1)), HK g c0 s0 N (loopR N (stOf y) w u pl pi n v P).2.1 (loopR N (stOf y) w u pl pi n v P).2.2) := by
  intro n
  induction n with
  | zero => intro v P l12 hv hs hn; omega
  | succ n ih =>
    intro v P l12 hv hs hn
    have bwd := n_bnd (n := w) (a := 124788933419) (by show w < 12; omega) (by omega)
    have bud := n_bnd (n := u) (a := 124788933419) (by show u < 12; omega) (by omega)
    have bad := n_bnd (n := a) (a := 124788933419) (by show a < 12; omega) (by omega)
    have tw : (Int32.ofNat w).toNatClampNeg = w := tn_of (by omega)
    have tu : (Int32.ofNat u).toNatClampNeg = u := tn_of (by omega)
    have ta : (Int32.ofNat a).toNatClampNeg = a := tn_of (by omega)
    have S := step_ok (g := g) (c0 := c0) (s0 := s0) (d := d + 3) (N := N) (v := v) (P := P) (pl := pi) hpi (by omega) hN
    have rw_ : ∀ (v : Nat → Int) (P : PT), am_g (HK g c0 s0 N v P) 124788933419 w = .long (Int64.ofInt (v w)) := fun v P => HK_v (by omega)
    have ru : ∀ (v : Nat → Int) (P : PT), am_g (HK g c0 s0 N v P) 124788933419 u = .long (Int64.ofInt (v u)) := fun v P => HK_v (by omega)
    have ra : ∀ (v : Nat → Int) (P : PT), am_g (HK g c0 s0 N v P) 124788933419 a = .long (Int64.ofInt (v a)) := fun v P => HK_v (by omega)
    have e0 : loopR N (stOf y) w u pl pi (n + 1) v P = if (do1 N (stOf y) pi v P).1 ≠ 0 then do1 N (stOf y) pi v P else if (do1 N (stOf y) pi v P).2.1 w < (do1 N (stOf y) pi v P).2.1 u then do1 N (stOf y) pi v P else if (do1 N (stOf y) pi v P).2.2.st = N then (100, (do1 N (stOf y) pi v P).2.1, (do1 N (stOf y) pi v P).2.2) else loopR N (stOf y) w u pl pi n (do1 N (stOf y) pi v P).2.1 ((do1 N (stOf y) pi v P).2.2.ask pl) := rfl
    by_cases k1 : P.st = N
    · have D : do1 N (stOf y) pi v P = (100, v, P) := if_pos k1
      rw [if_pos k1] at S
      rw [e0, D, if_pos (show (100 : Nat) ≠ 0 by decide), z11_155]
      simp (disch := (refine id ?_; first | with_reducible assumption | exact Nat.ne_of_beq_eq_false rfl | with_unfolding_all exact rfl | with_unfolding_all exact Nat.le_of_ble_eq_true rfl | (simp only [am_cat_nil, am_cat_int, am_cat_ref, am_cat_null, am_cat_long, Nat.reduceAdd, Nat.reduceLeDiff]; done) | omega | exact i_bnd2 (by simp only [am_n, Nat.reduceDiv, Nat.reduceMod, Nat.reduceMul, Nat.reduceAdd]; omega) | decide | fail)) only [z11_157, z11_159, z11_162, z11_162N, z11_163, z11_165, z11_166, z11_166N, z11_167, z11_169, z11_170, z11_171, z11_174, z11_174N, z11_175, z11_177, z11_180, z11_183, z11_183N, z11_184, z11_185, z11_188, z11_191, z11_193, z11_195, z11_197, z11_200, z11_202, z11_203, z11_205, z11_207, z11_210, z11_210N, z11_211, z11_213, z11_214, z11_214N, z11_215, z11_217, z11_218, z11_219, z11_222, z11_223, z11_224, z11_226, z11_228, z11_231, z11_231N, z11_232, z11_234, z11_235, z11_238, z11_239, z11_240, z11_242, z11_243, z11_245, z11_246, z11_247, z11_248, z11_251, z11_252, z11_253, z11_255, z11_257, z11_260, z11_260N, z11_261, z11_263, z11_263N, z11_264, z11_266, z11_267, z11_270, z11_271, z11_272, z11_272N, z11_273, z11_275, z11_278, z11_281, z11_283, z11_284, z11_287, z11_288, HK_v, HK_8, HK_9, HK_11, HK_w, i_m4, i_m6, i_m8, i_m10, i_eqll, i_lell, i_ltll, Nat.reduceEqDiff, Nat.reduceLeDiff, Nat.reduceLT, o0_le, bwd, bud, bad, tw, tu, ta, rw_, ru, ra, S, ↓reduceIte, i_10, i_00, am_then_some, am_tl1, am_tl0, i_addl, ad2, Nat.reduceAdd, Int32.reduceToNatClampNeg, List.nil_append]
      rfl
    · rw [if_neg k1] at S
      have A := act_ok (g := g) (c0 := c0) (s0 := s0) (d := d + 1) (N := N) (v := v) (P := P.ask pi) (x := y) hv
      have V1 := act_VR (stOf_ok (x := y)) hv
      have L3 := act_le (s := stOf y) (v := v)
      have D : do1 N (stOf y) pi v P = ((actF (stOf y) v).1, (actF (stOf y) v).2, P.ask pi) := if_neg k1
      obtain ⟨t, v1, hA⟩ : ∃ t v1, actF (stOf y) v = (t, v1) := ⟨_, _, rfl⟩
      rw [hA] at A V1 L3 D
      have L3 : t ≤ 3 := L3
      have V1 : VRG v1 := V1
      have D : do1 N (stOf y) pi v P = (t, v1, P.ask pi) := D
      have A : am_M (d + 4) 13 [.ref 124788933419, .int y] (HK g c0 s0 N v (P.ask pi)) = some (some (.int (Int32.ofNat t)), HK g c0 s0 N v1 (P.ask pi)) := A
      by_cases k2 : t = 0
      rotate_left
      · have c2 : (Int32.ofNat t ≤ 0) = False := (n_lel t 0 (by omega) (by decide)).trans (eq_false (show ¬ ¬ 0 < t by omega))
        rw [e0, D, if_pos k2, z11_155]
        simp (disch := (refine id ?_; first | with_reducible assumption | exact Nat.ne_of_beq_eq_false rfl | with_unfolding_all exact rfl | with_unfolding_all exact Nat.le_of_ble_eq_true rfl | (simp only [am_cat_nil, am_cat_int, am_cat_ref, am_cat_null, am_cat_long, Nat.reduceAdd, Nat.reduceLeDiff]; done) | omega | exact i_bnd2 (by simp only [am_n, Nat.reduceDiv, Nat.reduceMod, Nat.reduceMul, Nat.reduceAdd]; omega) | decide | fail)) only [z11_157, z11_159, z11_162, z11_162N, z11_163, z11_165, z11_166, z11_166N, z11_167, z11_169, z11_170, z11_171, z11_174, z11_174N, z11_175, z11_177, z11_180, z11_183, z11_183N, z11_184, z11_185, z11_188, z11_191, z11_193, z11_195, z11_197, z11_200, z11_202, z11_203, z11_205, z11_207, z11_210, z11_210N, z11_211, z11_213, z11_214, z11_214N, z11_215, z11_217, z11_218, z11_219, z11_222, z11_223, z11_224, z11_226, z11_228, z11_231, z11_231N, z11_232, z11_234, z11_235, z11_238, z11_239, z11_240, z11_242, z11_243, z11_245, z11_246, z11_247, z11_248, z11_251, z11_252, z11_253, z11_255, z11_257, z11_260, z11_260N, z11_261, z11_263, z11_263N, z11_264, z11_266, z11_267, z11_270, z11_271, z11_272, z11_272N, z11_273, z11_275, z11_278, z11_281, z11_283, z11_284, z11_287, z11_288, HK_v, HK_8, HK_9, HK_11, HK_w, i_m4, i_m6, i_m8, i_m10, i_eqll, i_lell, i_ltll, Nat.reduceEqDiff, Nat.reduceLeDiff, Nat.reduceLT, o0_le, bwd, bud, bad, tw, tu, ta, rw_, ru, ra, S, A, c2, ↓reduceIte, i_10, i_00, am_then_some, am_tl1, am_tl0, i_addl, ad2, Nat.reduceAdd, Int32.reduceToNatClampNeg, List.nil_append]
      subst k2
      have S2 := step_ok (g := g) (c0 := c0) (s0 := s0) (d := d + 3) (N := N) (v := v1) (P := P.ask pi) (pl := pl) hpl (by show P.st + 1 < 100000; omega) hN
      have sp : (P.ask pi).st = P.st + 1 := rfl
      have bw1 : -32768 ≤ v1 w ∧ v1 w ≤ 32767 := V1 w (by omega)
      have bu1 : -32768 ≤ v1 u ∧ v1 u ≤ 32767 := V1 u (by omega)
      have ba1 : -32768 ≤ v1 a ∧ v1 a ≤ 32767 := V1 a (by omega)
      have cl : (0 ≤ lg_cmp (Int64.ofInt (v1 w)) (Int64.ofInt (v1 u))) = (v1 u ≤ v1 w) := l_ge (by omega) (by omega) (by omega) (by omega)
      by_cases k3 : v1 w < v1 u
      · have cl' := cl.trans (eq_false (by omega))
        rw [e0, D, if_neg (show ¬ (0 : Nat) ≠ 0 by decide), if_pos k3, z11_155]
        simp (disch := (refine id ?_; first | with_reducible assumption | exact Nat.ne_of_beq_eq_false rfl | with_unfolding_all exact rfl | with_unfolding_all exact Nat.le_of_ble_eq_true rfl | (simp only [am_cat_nil, am_cat_int, am_cat_ref, am_cat_null, am_cat_long, Nat.reduceAdd, Nat.reduceLeDiff]; done) | omega | exact i_bnd2 (by simp only [am_n, Nat.reduceDiv, Nat.reduceMod, Nat.reduceMul, Nat.reduceAdd]; omega) | decide | fail)) only [z11_157, z11_159, z11_162, z11_162N, z11_163, z11_165, z11_166, z11_166N, z11_167, z11_169, z11_170, z11_171, z11_174, z11_174N, z11_175, z11_177, z11_180, z11_183, z11_183N, z11_184, z11_185, z11_188, z11_191, z11_193, z11_195, z11_197, z11_200, z11_202, z11_203, z11_205, z11_207, z11_210, z11_210N, z11_211, z11_213, z11_214, z11_214N, z11_215, z11_217, z11_218, z11_219, z11_222, z11_223, z11_224, z11_226, z11_228, z11_231, z11_231N, z11_232, z11_234, z11_235, z11_238, z11_239, z11_240, z11_242, z11_243, z11_245, z11_246, z11_247, z11_248, z11_251, z11_252, z11_253, z11_255, z11_257, z11_260, z11_260N, z11_261, z11_263, z11_263N, z11_264, z11_266, z11_267, z11_270, z11_271, z11_272, z11_272N, z11_273, z11_275, z11_278, z11_281, z11_283, z11_284, z11_287, z11_288, HK_v, HK_8, HK_9, HK_11, HK_w, i_m4, i_m6, i_m8, i_m10, i_eqll, i_lell, i_ltll, Nat.reduceEqDiff, Nat.reduceLeDiff, Nat.reduceLT, o0_le, bwd, bud, bad, tw, tu, ta, rw_, ru, ra, S, A, cl', ↓reduceIte, i_10, i_00, am_then_some, am_tl1, am_tl0, i_addl, ad2, Nat.reduceAdd, Int32.reduceToNatClampNeg, List.nil_append]
        rfl
      have cl' := cl.trans (eq_true (by omega))
      by_cases k4 : P.st + 1 = N
      · rw [if_pos (by rw [sp]; exact k4)] at S2
        rw [e0, D, if_neg (show ¬ (0 : Nat) ≠ 0 by decide), if_neg k3, if_pos (by rw [sp]; exact k4), z11_155]
        simp (disch := (refine id ?_; first | with_reducible assumption | exact Nat.ne_of_beq_eq_false rfl | with_unfolding_all exact rfl | with_unfolding_all exact Nat.le_of_ble_eq_true rfl | (simp only [am_cat_nil, am_cat_int, am_cat_ref, am_cat_null, am_cat_long, Nat.reduceAdd, Nat.reduceLeDiff]; done) | omega | exact i_bnd2 (by simp only [am_n, Nat.reduceDiv, Nat.reduceMod, Nat.reduceMul, Nat.reduceAdd]; omega) | decide | fail)) only [z11_157, z11_159, z11_162, z11_162N, z11_163, z11_165, z11_166, z11_166N, z11_167, z11_169, z11_170, z11_171, z11_174, z11_174N, z11_175, z11_177, z11_180, z11_183, z11_183N, z11_184, z11_185, z11_188, z11_191, z11_193, z11_195, z11_197, z11_200, z11_202, z11_203, z11_205, z11_207, z11_210, z11_210N, z11_211, z11_213, z11_214, z11_214N, z11_215, z11_217, z11_218, z11_219, z11_222, z11_223, z11_224, z11_226, z11_228, z11_231, z11_231N, z11_232, z11_234, z11_235, z11_238, z11_239, z11_240, z11_242, z11_243, z11_245, z11_246, z11_247, z11_248, z11_251, z11_252, z11_253, z11_255, z11_257, z11_260, z11_260N, z11_261, z11_263, z11_263N, z11_264, z11_266, z11_267, z11_270, z11_271, z11_272, z11_272N, z11_273, z11_275, z11_278, z11_281, z11_283, z11_284, z11_287, z11_288, HK_v, HK_8, HK_9, HK_11, HK_w, i_m4, i_m6, i_m8, i_m10, i_eqll, i_lell, i_ltll, Nat.reduceEqDiff, Nat.reduceLeDiff, Nat.reduceLT, o0_le, bwd, bud, bad, tw, tu, ta, rw_, ru, ra, cl', S, A, S2, ↓reduceIte, i_10, i_00, am_then_some, am_tl1, am_tl0, i_addl, ad2, Nat.reduceAdd, Int32.reduceToNatClampNeg, List.nil_append]
        rfl
      · rw [if_neg (by rw [sp]; exact k4)] at S2
        have I := ih v1 ((P.ask pi).ask pl) l12 V1 (by show P.st + 1 + 1 ≤ N; omega) (by show N < P.st + 1 + 1 + n; omega)
        have I' := fun l => ih v1 ((P.ask pi).ask pl) l V1 (by show P.st + 1 + 1 ≤ N; omega) (by show N < P.st + 1 + 1 + n; omega)
        rw [e0, D, if_neg (show ¬ (0 : Nat) ≠ 0 by decide), if_neg k3, if_neg (by rw [sp]; exact k4), z11_155]
        simp (disch := (refine id ?_; first | with_reducible assumption | exact Nat.ne_of_beq_eq_false rfl | with_unfolding_all exact rfl | with_unfolding_all exact Nat.le_of_ble_eq_true rfl | (simp only [am_cat_nil, am_cat_int, am_cat_ref, am_cat_null, am_cat_long, Nat.reduceAdd, Nat.reduceLeDiff]; done) | omega | exact i_bnd2 (by simp only [am_n, Nat.reduceDiv, Nat.reduceMod, Nat.reduceMul, Nat.reduceAdd]; omega) | decide | fail)) only [z11_157, z11_159, z11_162, z11_162N, z11_163, z11_165, z11_166, z11_166N, z11_167, z11_169, z11_170, z11_171, z11_174, z11_174N, z11_175, z11_177, z11_180, z11_183, z11_183N, z11_184, z11_185, z11_188, z11_191, z11_193, z11_195, z11_197, z11_200, z11_202, z11_203, z11_205, z11_207, z11_210, z11_210N, z11_211, z11_213, z11_214, z11_214N, z11_215, z11_217, z11_218, z11_219, z11_222, z11_223, z11_224, z11_226, z11_228, z11_231, z11_231N, z11_232, z11_234, z11_235, z11_238, z11_239, z11_240, z11_242, z11_243, z11_245, z11_246, z11_247, z11_248, z11_251, z11_252, z11_253, z11_255, z11_257, z11_260, z11_260N, z11_261, z11_263, z11_263N, z11_264, z11_266, z11_267, z11_270, z11_271, z11_272, z11_272N, z11_273, z11_275, z11_278, z11_281, z11_283, z11_284, z11_287, z11_288, HK_v, HK_8, HK_9, HK_11, HK_w, i_m4, i_m6, i_m8, i_m10, i_eqll, i_lell, i_ltll, Nat.reduceEqDiff, Nat.reduceLeDiff, Nat.reduceLT, o0_le, bwd, bud, bad, tw, tu, ta, rw_, ru, ra, cl', S, A, S2, I', ↓reduceIte, i_10, i_00, am_then_some, am_tl1, am_tl0, i_addl, ad2, Nat.reduceAdd, Int32.reduceToNatClampNeg, List.nil_append]
theorem law_loopF {g : Nat → Nat → Value} {c0 s0 d N : Nat} {x y : Int32} {pl pi a w u : Nat} {c : Nat} (ha : a < 4) (hw : w < 4) (hu : u < 4) (hpl : pl < 65536) (hpi : pi < 65536) (hN : N < 100000) (hcx : xbt x 10 31 = c) : ∀ (n : Nat) (v : Nat → Int) (P : PT) (l12 : Option Value), VRG v → P.st ≤ N → N < P.st + n →
    am_G (d + 4) 11 155 [some (.ref 124788933419), some (.ref 124856169512), some (.int x), some (.int y), some (.long (Int64.ofNat pl)), some (.retAddr 0), some (.long (Int64.ofNat pi)), some (.retAddr 0), some (.int 9), some (.int (Int32.ofNat a)), some (.int (Int32.ofNat w)), some (.int (Int32.ofNat u)), l12] [] (HK g c0 s0 N v P) = some (some (.int (Int32.ofNat (loopF N (stOf y) a c pl pi n v P).1)), HK g c0 s0 N (loopF N (stOf y) a c pl pi n v P).2.1 (loopF N (stOf y) a c pl pi n v P).2.2) := by
  intro n
  induction n with
  | zero => intro v P l12 hv hs hn; omega
  | succ n ih =>
    intro v P l12 hv hs hn
    have bwd := n_bnd (n := w) (a := 124788933419) (by show w < 12; omega) (by omega)
    have bud := n_bnd (n := u) (a := 124788933419) (by show u < 12; omega) (by omega)
    have bad := n_bnd (n := a) (a := 124788933419) (by show a < 12; omega) (by omega)
    have tw : (Int32.ofNat w).toNatClampNeg = w := tn_of (by omega)
    have tu : (Int32.ofNat u).toNatClampNeg = u := tn_of (by omega)
    have ta : (Int32.ofNat a).toNatClampNeg = a := tn_of (by omega)
    have S := step_ok (g := g) (c0 := c0) (s0 := s0) (d := d + 3) (N := N) (v := v) (P := P) (pl := pi) hpi (by omega) hN
    have rw_ : ∀ (v : Nat → Int) (P : PT), am_g (HK g c0 s0 N v P) 124788933419 w = .long (Int64.ofInt (v w)) := fun v P => HK_v (by omega)
    have ru : ∀ (v : Nat → Int) (P : PT), am_g (HK g c0 s0 N v P) 124788933419 u = .long (Int64.ofInt (v u)) := fun v P => HK_v (by omega)
    have ra : ∀ (v : Nat → Int) (P : PT), am_g (HK g c0 s0 N v P) 124788933419 a = .long (Int64.ofInt (v a)) := fun v P => HK_v (by omega)
    have e0 : loopF N (stOf y) a c pl pi (n + 1) v P = if (do1 N (stOf y) pi v P).1 ≠ 0 then do1 N (stOf y) pi v P else if (c : Int) < (do1 N (stOf y) pi v P).2.1 a + 3 then do1 N (stOf y) pi v P else if (do1 N (stOf y) pi v P).2.2.st = N then (100, up (do1 N (stOf y) pi v P).2.1 a ((do1 N (stOf y) pi v P).2.1 a + 3), (do1 N (stOf y) pi v P).2.2) else loopF N (stOf y) a c pl pi n (up (do1 N (stOf y) pi v P).2.1 a ((do1 N (stOf y) pi v P).2.1 a + 3)) ((do1 N (stOf y) pi v P).2.2.ask pl) := rfl
    by_cases k1 : P.st = N
    · have D : do1 N (stOf y) pi v P = (100, v, P) := if_pos k1
      rw [if_pos k1] at S
      rw [e0, D, if_pos (show (100 : Nat) ≠ 0 by decide), z11_155]
      simp (disch := (refine id ?_; first | with_reducible assumption | exact Nat.ne_of_beq_eq_false rfl | with_unfolding_all exact rfl | with_unfolding_all exact Nat.le_of_ble_eq_true rfl | (simp only [am_cat_nil, am_cat_int, am_cat_ref, am_cat_null, am_cat_long, Nat.reduceAdd, Nat.reduceLeDiff]; done) | omega | exact i_bnd2 (by simp only [am_n, Nat.reduceDiv, Nat.reduceMod, Nat.reduceMul, Nat.reduceAdd]; omega) | decide | fail)) only [z11_157, z11_159, z11_162, z11_162N, z11_163, z11_165, z11_166, z11_166N, z11_167, z11_169, z11_170, z11_171, z11_174, z11_174N, z11_175, z11_177, z11_180, z11_183, z11_183N, z11_184, z11_185, z11_188, z11_191, z11_193, z11_195, z11_197, z11_200, z11_202, z11_203, z11_205, z11_207, z11_210, z11_210N, z11_211, z11_213, z11_214, z11_214N, z11_215, z11_217, z11_218, z11_219, z11_222, z11_223, z11_224, z11_226, z11_228, z11_231, z11_231N, z11_232, z11_234, z11_235, z11_238, z11_239, z11_240, z11_242, z11_243, z11_245, z11_246, z11_247, z11_248, z11_251, z11_252, z11_253, z11_255, z11_257, z11_260, z11_260N, z11_261, z11_263, z11_263N, z11_264, z11_266, z11_267, z11_270, z11_271, z11_272, z11_272N, z11_273, z11_275, z11_278, z11_281, z11_283, z11_284, z11_287, z11_288, HK_v, HK_8, HK_9, HK_11, HK_w, i_m4, i_m6, i_m8, i_m10, i_eqll, i_lell, i_ltll, Nat.reduceEqDiff, Nat.reduceLeDiff, Nat.reduceLT, o0_le, bwd, bud, bad, tw, tu, ta, rw_, ru, ra, S, ↓reduceIte, i_10, i_00, am_then_some, am_tl1, am_tl0, i_addl, ad2, Nat.reduceAdd, Int32.reduceToNatClampNeg, List.nil_append]
      rfl
    · rw [if_neg k1] at S
      have A := act_ok (g := g) (c0 := c0) (s0 := s0) (d := d + 1) (N := N) (v := v) (P := P.ask pi) (x := y) hv
      have V1 := act_VR (stOf_ok (x := y)) hv
      have L3 := act_le (s := stOf y) (v := v)
      have D : do1 N (stOf y) pi v P = ((actF (stOf y) v).1, (actF (stOf y) v).2, P.ask pi) := if_neg k1
      obtain ⟨t, v1, hA⟩ : ∃ t v1, actF (stOf y) v = (t, v1) := ⟨_, _, rfl⟩
      rw [hA] at A V1 L3 D
      have L3 : t ≤ 3 := L3
      have V1 : VRG v1 := V1
      have D : do1 N (stOf y) pi v P = (t, v1, P.ask pi) := D
      have A : am_M (d + 4) 13 [.ref 124788933419, .int y] (HK g c0 s0 N v (P.ask pi)) = some (some (.int (Int32.ofNat t)), HK g c0 s0 N v1 (P.ask pi)) := A
      by_cases k2 : t = 0
      rotate_left
      · have c2 : (Int32.ofNat t ≤ 0) = False := (n_lel t 0 (by omega) (by decide)).trans (eq_false (show ¬ ¬ 0 < t by omega))
        rw [e0, D, if_pos k2, z11_155]
        simp (disch := (refine id ?_; first | with_reducible assumption | exact Nat.ne_of_beq_eq_false rfl | with_unfolding_all exact rfl | with_unfolding_all exact Nat.le_of_ble_eq_true rfl | (simp only [am_cat_nil, am_cat_int, am_cat_ref, am_cat_null, am_cat_long, Nat.reduceAdd, Nat.reduceLeDiff]; done) | omega | exact i_bnd2 (by simp only [am_n, Nat.reduceDiv, Nat.reduceMod, Nat.reduceMul, Nat.reduceAdd]; omega) | decide | fail)) only [z11_157, z11_159, z11_162, z11_162N, z11_163, z11_165, z11_166, z11_166N, z11_167, z11_169, z11_170, z11_171, z11_174, z11_174N, z11_175, z11_177, z11_180, z11_183, z11_183N, z11_184, z11_185, z11_188, z11_191, z11_193, z11_195, z11_197, z11_200, z11_202, z11_203, z11_205, z11_207, z11_210, z11_210N, z11_211, z11_213, z11_214, z11_214N, z11_215, z11_217, z11_218, z11_219, z11_222, z11_223, z11_224, z11_226, z11_228, z11_231, z11_231N, z11_232, z11_234, z11_235, z11_238, z11_239, z11_240, z11_242, z11_243, z11_245, z11_246, z11_247, z11_248, z11_251, z11_252, z11_253, z11_255, z11_257, z11_260, z11_260N, z11_261, z11_263, z11_263N, z11_264, z11_266, z11_267, z11_270, z11_271, z11_272, z11_272N, z11_273, z11_275, z11_278, z11_281, z11_283, z11_284, z11_287, z11_288, HK_v, HK_8, HK_9, HK_11, HK_w, i_m4, i_m6, i_m8, i_m10, i_eqll, i_lell, i_ltll, Nat.reduceEqDiff, Nat.reduceLeDiff, Nat.reduceLT, o0_le, bwd, bud, bad, tw, tu, ta, rw_, ru, ra, S, A, c2, ↓reduceIte, i_10, i_00, am_then_some, am_tl1, am_tl0, i_addl, ad2, Nat.reduceAdd, Int32.reduceToNatClampNeg, List.nil_append]
      subst k2
      have S2 := step_ok (g := g) (c0 := c0) (s0 := s0) (d := d + 3) (N := N) (v := up v1 a (v1 a + 3)) (P := P.ask pi) (pl := pl) hpl (by show P.st + 1 < 100000; omega) hN
      have sp : (P.ask pi).st = P.st + 1 := rfl
      have bw1 : -32768 ≤ v1 w ∧ v1 w ≤ 32767 := V1 w (by omega)
      have bu1 : -32768 ≤ v1 u ∧ v1 u ≤ 32767 := V1 u (by omega)
      have ba1 : -32768 ≤ v1 a ∧ v1 a ≤ 32767 := V1 a (by omega)
      have xc : x >>> 10 &&& 31 = Int32.ofNat c := by rw [← hcx]; exact xbt_10
      have hc : c < 32 := by have := xbt_le (x := x) (s := 10) (m := 31); omega
      have cj : (Int32.ofNat c).toInt64 = Int64.ofInt c := by rw [n_i64 (by omega), l_nat]
      have a3 : Int64.ofInt (v1 a) + 3 = Int64.ofInt (v1 a + 3) := by rw [l_3, l_add]
      have cl : (lg_cmp (Int64.ofInt (v1 a + 3)) (Int64.ofInt c) ≤ 0) = (v1 a + 3 ≤ c) := l_le (by omega) (by omega) (by omega) (by omega)
      by_cases k3 : (c : Int) < v1 a + 3
      · have cl' := cl.trans (eq_false (by omega))
        rw [e0, D, if_neg (show ¬ (0 : Nat) ≠ 0 by decide), if_pos k3, z11_155]
        simp (disch := (refine id ?_; first | with_reducible assumption | exact Nat.ne_of_beq_eq_false rfl | with_unfolding_all exact rfl | with_unfolding_all exact Nat.le_of_ble_eq_true rfl | (simp only [am_cat_nil, am_cat_int, am_cat_ref, am_cat_null, am_cat_long, Nat.reduceAdd, Nat.reduceLeDiff]; done) | omega | exact i_bnd2 (by simp only [am_n, Nat.reduceDiv, Nat.reduceMod, Nat.reduceMul, Nat.reduceAdd]; omega) | decide | fail)) only [z11_157, z11_159, z11_162, z11_162N, z11_163, z11_165, z11_166, z11_166N, z11_167, z11_169, z11_170, z11_171, z11_174, z11_174N, z11_175, z11_177, z11_180, z11_183, z11_183N, z11_184, z11_185, z11_188, z11_191, z11_193, z11_195, z11_197, z11_200, z11_202, z11_203, z11_205, z11_207, z11_210, z11_210N, z11_211, z11_213, z11_214, z11_214N, z11_215, z11_217, z11_218, z11_219, z11_222, z11_223, z11_224, z11_226, z11_228, z11_231, z11_231N, z11_232, z11_234, z11_235, z11_238, z11_239, z11_240, z11_242, z11_243, z11_245, z11_246, z11_247, z11_248, z11_251, z11_252, z11_253, z11_255, z11_257, z11_260, z11_260N, z11_261, z11_263, z11_263N, z11_264, z11_266, z11_267, z11_270, z11_271, z11_272, z11_272N, z11_273, z11_275, z11_278, z11_281, z11_283, z11_284, z11_287, z11_288, HK_v, HK_8, HK_9, HK_11, HK_w, i_m4, i_m6, i_m8, i_m10, i_eqll, i_lell, i_ltll, Nat.reduceEqDiff, Nat.reduceLeDiff, Nat.reduceLT, o0_le, bwd, bud, bad, tw, tu, ta, rw_, ru, ra, S, A, cl', xc, cj, a3, ↓reduceIte, i_10, i_00, am_then_some, am_tl1, am_tl0, i_addl, ad2, Nat.reduceAdd, Int32.reduceToNatClampNeg, List.nil_append]
        rfl
      have cl' := cl.trans (eq_true (by omega))
      have hW : am_p (HK g c0 s0 N v1 (P.ask pi)) 124788933419 a (.long (Int64.ofInt (v1 a + 3))) = HK g c0 s0 N (up v1 a (v1 a + 3)) (P.ask pi) := HK_w (by omega)
      have V2 : VRG (up v1 a (v1 a + 3)) := VR_up (a := a) (r := v1 a + 3) V1 (by omega) (by omega)
      by_cases k4 : P.st + 1 = N
      · rw [if_pos (by rw [sp]; exact k4)] at S2
        rw [e0, D, if_neg (show ¬ (0 : Nat) ≠ 0 by decide), if_neg k3, if_pos (by rw [sp]; exact k4), z11_155]
        simp (disch := (refine id ?_; first | with_reducible assumption | exact Nat.ne_of_beq_eq_false rfl | with_unfolding_all exact rfl | with_unfolding_all exact Nat.le_of_ble_eq_true rfl | (simp only [am_cat_nil, am_cat_int, am_cat_ref, am_cat_null, am_cat_long, Nat.reduceAdd, Nat.reduceLeDiff]; done) | omega | exact i_bnd2 (by simp only [am_n, Nat.reduceDiv, Nat.reduceMod, Nat.reduceMul, Nat.reduceAdd]; omega) | decide | fail)) only [z11_157, z11_159, z11_162, z11_162N, z11_163, z11_165, z11_166, z11_166N, z11_167, z11_169, z11_170, z11_171, z11_174, z11_174N, z11_175, z11_177, z11_180, z11_183, z11_183N, z11_184, z11_185, z11_188, z11_191, z11_193, z11_195, z11_197, z11_200, z11_202, z11_203, z11_205, z11_207, z11_210, z11_210N, z11_211, z11_213, z11_214, z11_214N, z11_215, z11_217, z11_218, z11_219, z11_222, z11_223, z11_224, z11_226, z11_228, z11_231, z11_231N, z11_232, z11_234, z11_235, z11_238, z11_239, z11_240, z11_242, z11_243, z11_245, z11_246, z11_247, z11_248, z11_251, z11_252, z11_253, z11_255, z11_257, z11_260, z11_260N, z11_261, z11_263, z11_263N, z11_264, z11_266, z11_267, z11_270, z11_271, z11_272, z11_272N, z11_273, z11_275, z11_278, z11_281, z11_283, z11_284, z11_287, z11_288, HK_v, HK_8, HK_9, HK_11, HK_w, i_m4, i_m6, i_m8, i_m10, i_eqll, i_lell, i_ltll, Nat.reduceEqDiff, Nat.reduceLeDiff, Nat.reduceLT, o0_le, bwd, bud, bad, tw, tu, ta, rw_, ru, ra, cl', xc, cj, a3, hW, S, A, S2, ↓reduceIte, i_10, i_00, am_then_some, am_tl1, am_tl0, i_addl, ad2, Nat.reduceAdd, Int32.reduceToNatClampNeg, List.nil_append]
        rfl
      · rw [if_neg (by rw [sp]; exact k4)] at S2
        have I := ih (up v1 a (v1 a + 3)) ((P.ask pi).ask pl) l12 V2 (by show P.st + 1 + 1 ≤ N; omega) (by show N < P.st + 1 + 1 + n; omega)
        have I' := fun l => ih (up v1 a (v1 a + 3)) ((P.ask pi).ask pl) l V2 (by show P.st + 1 + 1 ≤ N; omega) (by show N < P.st + 1 + 1 + n; omega)
        rw [e0, D, if_neg (show ¬ (0 : Nat) ≠ 0 by decide), if_neg k3, if_neg (by rw [sp]; exact k4), z11_155]
        simp (disch := (refine id ?_; first | with_reducible assumption | exact Nat.ne_of_beq_eq_false rfl | with_unfolding_all exact rfl | with_unfolding_all exact Nat.le_of_ble_eq_true rfl | (simp only [am_cat_nil, am_cat_int, am_cat_ref, am_cat_null, am_cat_long, Nat.reduceAdd, Nat.reduceLeDiff]; done) | omega | exact i_bnd2 (by simp only [am_n, Nat.reduceDiv, Nat.reduceMod, Nat.reduceMul, Nat.reduceAdd]; omega) | decide | fail)) only [z11_157, z11_159, z11_162, z11_162N, z11_163, z11_165, z11_166, z11_166N, z11_167, z11_169, z11_170, z11_171, z11_174, z11_174N, z11_175, z11_177, z11_180, z11_183, z11_183N, z11_184, z11_185, z11_188, z11_191, z11_193, z11_195, z11_197, z11_200, z11_202, z11_203, z11_205, z11_207, z11_210, z11_210N, z11_211, z11_213, z11_214, z11_214N, z11_215, z11_217, z11_218, z11_219, z11_222, z11_223, z11_224, z11_226, z11_228, z11_231, z11_231N, z11_232, z11_234, z11_235, z11_238, z11_239, z11_240, z11_242, z11_243, z11_245, z11_246, z11_247, z11_248, z11_251, z11_252, z11_253, z11_255, z11_257, z11_260, z11_260N, z11_261, z11_263, z11_263N, z11_264, z11_266, z11_267, z11_270, z11_271, z11_272, z11_272N, z11_273, z11_275, z11_278, z11_281, z11_283, z11_284, z11_287, z11_288, HK_v, HK_8, HK_9, HK_11, HK_w, i_m4, i_m6, i_m8, i_m10, i_eqll, i_lell, i_ltll, Nat.reduceEqDiff, Nat.reduceLeDiff, Nat.reduceLT, o0_le, bwd, bud, bad, tw, tu, ta, rw_, ru, ra, cl', xc, cj, a3, hW, S, A, S2, I', ↓reduceIte, i_10, i_00, am_then_some, am_tl1, am_tl0, i_addl, ad2, Nat.reduceAdd, Int32.reduceToNatClampNeg, List.nil_append]
theorem da_1 {g : Nat → Nat → Value} {c0 s0 d N : Nat} {x y : Int32} {pl pi : Nat} {q : Int64} {v : Nat → Int} {P : PT} (hk : kdOf x < 8) (hv : VRG v) (hs : P.st ≤ N) (hN : N < 100000) (hpl : pl < 65536) (hpi : pi < 65536) (hq : (cmOf x y).has → q = Int64.ofNat pi) (ho : P.ou.length + 20 < 1999) : am_M (d + 5) 11 [.ref 124788933419, .ref 124856169512, .int x, .int y, .long (Int64.ofNat pl), .long q] (HK g c0 s0 N v P) = some (some (.int (Int32.ofNat (doC N (cmOf x y) pl pi v P).1)), HK g c0 s0 N (doC N (cmOf x y) pl pi v P).2.1 (doC N (cmOf x y) pl pi v P).2.2) := by
  have ha := n3 (x := x) (s := 4)
  have hw := n3 (x := x) (s := 6)
  have hu := n3 (x := x) (s := 8)
  have l10 := xbt_le (x := x) (s := 10) (m := 31)
  have l107 := xbt_le (x := x) (s := 10) (m := 7)
  obtain ⟨a, ea⟩ : ∃ a, xbt x 4 3 = a := ⟨_, rfl⟩
  obtain ⟨w, ew⟩ : ∃ w, xbt x 6 3 = w := ⟨_, rfl⟩
  obtain ⟨u, eu⟩ : ∃ u, xbt x 8 3 = u := ⟨_, rfl⟩
  have x4 : x >>> 4 &&& 3 = Int32.ofNat a := by rw [← ea]; exact xbt_s (by decide) (by decide)
  have x6 : x >>> 6 &&& 3 = Int32.ofNat w := by rw [← ew]; exact xbt_s (by decide) (by decide)
  have x8 : x >>> 8 &&& 3 = Int32.ofNat u := by rw [← eu]; exact xbt_s (by decide) (by decide)
  rw [ea] at ha
  rw [ew] at hw
  rw [eu] at hu
  have bwd := n_bnd (n := w) (a := 124788933419) (by show w < 12; omega) (by omega)
  have bud := n_bnd (n := u) (a := 124788933419) (by show u < 12; omega) (by omega)
  have bad := n_bnd (n := a) (a := 124788933419) (by show a < 12; omega) (by omega)
  have tw : (Int32.ofNat w).toNatClampNeg = w := tn_of (by omega)
  have tu : (Int32.ofNat u).toNatClampNeg = u := tn_of (by omega)
  have ta : (Int32.ofNat a).toNatClampNeg = a := tn_of (by omega)
  have rw_ : ∀ (v : Nat → Int) (P : PT), am_g (HK g c0 s0 N v P) 124788933419 w = .long (Int64.ofInt (v w)) := fun v P => HK_v (by omega)
  have ru : ∀ (v : Nat → Int) (P : PT), am_g (HK g c0 s0 N v P) 124788933419 u = .long (Int64.ofInt (v u)) := fun v P => HK_v (by omega)
  have ra : ∀ (v : Nat → Int) (P : PT), am_g (HK g c0 s0 N v P) 124788933419 a = .long (Int64.ofInt (v a)) := fun v P => HK_v (by omega)
  have S := step_ok (g := g) (c0 := c0) (s0 := s0) (d := d + 3) (N := N) (v := v) (P := P) (pl := pl) hpl (by omega) hN
  have bw := hv w (by omega)
  have bu := hv u (by omega)
  have hK : ∀ d h, am_M (d + 1) 6 [.int x] h = some (some (.int (Int32.ofNat (kdOf x))), h) := fun d h => kd_ok
  have z : ((8 : Int32) ≤ Int32.ofNat (kdOf x)) = False := (n_gel (kdOf x) 8 (by omega) (by decide)).trans (eq_false (show ¬ ¬ kdOf x < 8 by omega))
  have hc : cmOf x y = Cmd.one (stOf x) := by unfold cmOf; split <;> first | omega | rfl
  have A := act_ok (g := g) (c0 := c0) (s0 := s0) (d := d + 1) (N := N) (v := v) (P := P.ask pl) (x := x) hv
  by_cases k0 : P.st = N
  · have D : doC N (cmOf x y) pl pi v P = (100, v, P) := if_pos k0
    rw [if_pos k0] at S
    rw [D, e11 rfl rfl]
    simp (disch := (refine id ?_; first | with_reducible assumption | exact Nat.ne_of_beq_eq_false rfl | with_unfolding_all exact rfl | with_unfolding_all exact Nat.le_of_ble_eq_true rfl | (simp only [am_cat_nil, am_cat_int, am_cat_ref, am_cat_null, am_cat_long, Nat.reduceAdd, Nat.reduceLeDiff]; done) | omega | exact i_bnd2 (by simp only [am_n, Nat.reduceDiv, Nat.reduceMod, Nat.reduceMul, Nat.reduceAdd]; omega) | decide | fail)) only [z11_0, z11_1, z11_4, z11_6, z11_7, z11_8, z11_9, z11_10, z11_11, z11_13, z11_14, z11_16, z11_17, z11_18, z11_19, z11_21, z11_22, z11_24, z11_25, z11_26, z11_27, z11_29, z11_29N, z11_30, z11_32, z11_35, z11_38, z11_40, z11_41, z11_43, z11_45, z11_48, z11_48N, z11_49, z11_50, z11_53, z11_54, z11_56, z11_58, z11_61, z11_61N, z11_62, z11_62N, z11_63, z11_63N, z11_64, z11_66, z11_67, z11_68, z11_70, z11_71, z11_73, z11_74, z11_77, z11_78, z11_79, z11_81, z11_83, z11_86, z11_86N, z11_87, z11_89, z11_90, z11_90N, z11_91, z11_93, z11_94, z11_95, z11_98, z11_99, z11_102, z11_102N, z11_103, z11_105, z11_108, z11_111, z11_111N, z11_112, z11_113, z11_116, z11_119, z11_121, z11_122, z11_124, z11_126, z11_129, z11_129N, z11_130, z11_132, z11_132N, z11_133, z11_135, z11_136, z11_137, z11_137N, z11_138, z11_140, z11_141, z11_142, z11_144, z11_145, z11_147, z11_148, z11_149, z11_150, z11_153, z11_154, z11_155, z11_157, z11_159, z11_162, z11_162N, z11_163, z11_165, z11_166, z11_166N, z11_167, z11_169, z11_170, z11_171, z11_174, z11_174N, z11_175, z11_177, z11_180, z11_183, z11_183N, z11_184, z11_185, z11_188, z11_191, z11_193, z11_195, z11_197, z11_200, z11_202, z11_203, z11_205, z11_207, z11_210, z11_210N, z11_211, z11_213, z11_214, z11_214N, z11_215, z11_217, z11_218, z11_219, z11_222, z11_223, z11_224, z11_226, z11_228, z11_231, z11_231N, z11_232, z11_234, z11_235, z11_238, z11_239, z11_240, z11_242, z11_243, z11_245, z11_246, z11_247, z11_248, z11_251, z11_252, z11_253, z11_255, z11_257, z11_260, z11_260N, z11_261, z11_263, z11_263N, z11_264, z11_266, z11_267, z11_270, z11_271, z11_272, z11_272N, z11_273, z11_275, z11_278, z11_281, z11_283, z11_284, z11_287, z11_288, HK_v, HK_8, HK_9, HK_11, HK_w, i_m4, i_m6, i_m8, i_m10, i_eqll, i_lell, i_ltll, Nat.reduceEqDiff, Nat.reduceLeDiff, Nat.reduceLT, o0_le, x4, x6, x8, bwd, bud, bad, tw, tu, ta, rw_, ru, ra, S, hK, ↓reduceIte, i_10, i_00, am_then_some, am_tl1, am_tl0, i_addl, ad2, Nat.reduceAdd, Int32.reduceToNatClampNeg, List.nil_append]
    rfl
  rw [if_neg k0] at S
  have D : doC N (cmOf x y) pl pi v P = ((actF (stOf x) v).1, (actF (stOf x) v).2, P.ask pl) := by rw [hc]; exact if_neg k0
  rw [D, e11 rfl rfl]
  simp (disch := (refine id ?_; first | with_reducible assumption | exact Nat.ne_of_beq_eq_false rfl | with_unfolding_all exact rfl | with_unfolding_all exact Nat.le_of_ble_eq_true rfl | (simp only [am_cat_nil, am_cat_int, am_cat_ref, am_cat_null, am_cat_long, Nat.reduceAdd, Nat.reduceLeDiff]; done) | omega | exact i_bnd2 (by simp only [am_n, Nat.reduceDiv, Nat.reduceMod, Nat.reduceMul, Nat.reduceAdd]; omega) | decide | fail)) only [z11_0, z11_1, z11_4, z11_6, z11_7, z11_8, z11_9, z11_10, z11_11, z11_13, z11_14, z11_16, z11_17, z11_18, z11_19, z11_21, z11_22, z11_24, z11_25, z11_26, z11_27, z11_29, z11_29N, z11_30, z11_32, z11_35, z11_38, z11_40, z11_41, z11_43, z11_45, z11_48, z11_48N, z11_49, z11_50, z11_53, z11_54, z11_56, z11_58, z11_61, z11_61N, z11_62, z11_62N, z11_63, z11_63N, z11_64, z11_66, z11_67, z11_68, z11_70, z11_71, z11_73, z11_74, z11_77, z11_78, z11_79, z11_81, z11_83, z11_86, z11_86N, z11_87, z11_89, z11_90, z11_90N, z11_91, z11_93, z11_94, z11_95, z11_98, z11_99, z11_102, z11_102N, z11_103, z11_105, z11_108, z11_111, z11_111N, z11_112, z11_113, z11_116, z11_119, z11_121, z11_122, z11_124, z11_126, z11_129, z11_129N, z11_130, z11_132, z11_132N, z11_133, z11_135, z11_136, z11_137, z11_137N, z11_138, z11_140, z11_141, z11_142, z11_144, z11_145, z11_147, z11_148, z11_149, z11_150, z11_153, z11_154, z11_155, z11_157, z11_159, z11_162, z11_162N, z11_163, z11_165, z11_166, z11_166N, z11_167, z11_169, z11_170, z11_171, z11_174, z11_174N, z11_175, z11_177, z11_180, z11_183, z11_183N, z11_184, z11_185, z11_188, z11_191, z11_193, z11_195, z11_197, z11_200, z11_202, z11_203, z11_205, z11_207, z11_210, z11_210N, z11_211, z11_213, z11_214, z11_214N, z11_215, z11_217, z11_218, z11_219, z11_222, z11_223, z11_224, z11_226, z11_228, z11_231, z11_231N, z11_232, z11_234, z11_235, z11_238, z11_239, z11_240, z11_242, z11_243, z11_245, z11_246, z11_247, z11_248, z11_251, z11_252, z11_253, z11_255, z11_257, z11_260, z11_260N, z11_261, z11_263, z11_263N, z11_264, z11_266, z11_267, z11_270, z11_271, z11_272, z11_272N, z11_273, z11_275, z11_278, z11_281, z11_283, z11_284, z11_287, z11_288, HK_v, HK_8, HK_9, HK_11, HK_w, i_m4, i_m6, i_m8, i_m10, i_eqll, i_lell, i_ltll, Nat.reduceEqDiff, Nat.reduceLeDiff, Nat.reduceLT, o0_le, x4, x6, x8, bwd, bud, bad, tw, tu, ta, rw_, ru, ra, S, hK, z, A, ↓reduceIte, i_10, i_00, am_then_some, am_tl1, am_tl0, i_addl, ad2, Nat.reduceAdd, Int32.reduceToNatClampNeg, List.nil_append]
theorem da_10 {g : Nat → Nat → Value} {c0 s0 d N : Nat} {x y : Int32} {pl pi : Nat} {q : Int64} {v : Nat → Int} {P : PT} (hk : kdOf x = 10) (hv : VRG v) (hs : P.st ≤ N) (hN : N < 100000) (hpl : pl < 65536) (hpi : pi < 65536) (hq : (cmOf x y).has → q = Int64.ofNat pi) (ho : P.ou.length + 20 < 1999) : am_M (d + 5) 11 [.ref 124788933419, .ref 124856169512, .int x, .int y, .long (Int64.ofNat pl), .long q] (HK g c0 s0 N v P) = some (some (.int (Int32.ofNat (doC N (cmOf x y) pl pi v P).1)), HK g c0 s0 N (doC N (cmOf x y) pl pi v P).2.1 (doC N (cmOf x y) pl pi v P).2.2) := by
  have ha := n3 (x := x) (s := 4)
  have hw := n3 (x := x) (s := 6)
  have hu := n3 (x := x) (s := 8)
  have l10 := xbt_le (x := x) (s := 10) (m := 31)
  have l107 := xbt_le (x := x) (s := 10) (m := 7)
  obtain ⟨a, ea⟩ : ∃ a, xbt x 4 3 = a := ⟨_, rfl⟩
  obtain ⟨w, ew⟩ : ∃ w, xbt x 6 3 = w := ⟨_, rfl⟩
  obtain ⟨u, eu⟩ : ∃ u, xbt x 8 3 = u := ⟨_, rfl⟩
  have x4 : x >>> 4 &&& 3 = Int32.ofNat a := by rw [← ea]; exact xbt_s (by decide) (by decide)
  have x6 : x >>> 6 &&& 3 = Int32.ofNat w := by rw [← ew]; exact xbt_s (by decide) (by decide)
  have x8 : x >>> 8 &&& 3 = Int32.ofNat u := by rw [← eu]; exact xbt_s (by decide) (by decide)
  rw [ea] at ha
  rw [ew] at hw
  rw [eu] at hu
  have bwd := n_bnd (n := w) (a := 124788933419) (by show w < 12; omega) (by omega)
  have bud := n_bnd (n := u) (a := 124788933419) (by show u < 12; omega) (by omega)
  have bad := n_bnd (n := a) (a := 124788933419) (by show a < 12; omega) (by omega)
  have tw : (Int32.ofNat w).toNatClampNeg = w := tn_of (by omega)
  have tu : (Int32.ofNat u).toNatClampNeg = u := tn_of (by omega)
  have ta : (Int32.ofNat a).toNatClampNeg = a := tn_of (by omega)
  have rw_ : ∀ (v : Nat → Int) (P : PT), am_g (HK g c0 s0 N v P) 124788933419 w = .long (Int64.ofInt (v w)) := fun v P => HK_v (by omega)
  have ru : ∀ (v : Nat → Int) (P : PT), am_g (HK g c0 s0 N v P) 124788933419 u = .long (Int64.ofInt (v u)) := fun v P => HK_v (by omega)
  have ra : ∀ (v : Nat → Int) (P : PT), am_g (HK g c0 s0 N v P) 124788933419 a = .long (Int64.ofInt (v a)) := fun v P => HK_v (by omega)
  have S := step_ok (g := g) (c0 := c0) (s0 := s0) (d := d + 3) (N := N) (v := v) (P := P) (pl := pl) hpl (by omega) hN
  have bw := hv w (by omega)
  have bu := hv u (by omega)
  have hK : ∀ d h, am_M (d + 1) 6 [.int x] h = some (some (.int 10), h) := fun d h => kd_ok.trans (by rw [hk]; rfl)
  have hc : cmOf x y = Cmd.wri a (xbt x 10 7) := by unfold cmOf; rw [hk, ea]; rfl
  have ba := hv a (by omega)
  have W := wri_ok (g := g) (c0 := c0) (s0 := s0) (d := d + 2) (N := N) (v := v) (P := P.ask pl) (y := v a) (w := xbt x 10 7) (by omega) (by omega) (by omega) ho
  by_cases k0 : P.st = N
  · have D : doC N (cmOf x y) pl pi v P = (100, v, P) := if_pos k0
    rw [if_pos k0] at S
    rw [D, e11 rfl rfl]
    simp (disch := (refine id ?_; first | with_reducible assumption | exact Nat.ne_of_beq_eq_false rfl | with_unfolding_all exact rfl | with_unfolding_all exact Nat.le_of_ble_eq_true rfl | (simp only [am_cat_nil, am_cat_int, am_cat_ref, am_cat_null, am_cat_long, Nat.reduceAdd, Nat.reduceLeDiff]; done) | omega | exact i_bnd2 (by simp only [am_n, Nat.reduceDiv, Nat.reduceMod, Nat.reduceMul, Nat.reduceAdd]; omega) | decide | fail)) only [z11_0, z11_1, z11_4, z11_6, z11_7, z11_8, z11_9, z11_10, z11_11, z11_13, z11_14, z11_16, z11_17, z11_18, z11_19, z11_21, z11_22, z11_24, z11_25, z11_26, z11_27, z11_29, z11_29N, z11_30, z11_32, z11_35, z11_38, z11_40, z11_41, z11_43, z11_45, z11_48, z11_48N, z11_49, z11_50, z11_53, z11_54, z11_56, z11_58, z11_61, z11_61N, z11_62, z11_62N, z11_63, z11_63N, z11_64, z11_66, z11_67, z11_68, z11_70, z11_71, z11_73, z11_74, z11_77, z11_78, z11_79, z11_81, z11_83, z11_86, z11_86N, z11_87, z11_89, z11_90, z11_90N, z11_91, z11_93, z11_94, z11_95, z11_98, z11_99, z11_102, z11_102N, z11_103, z11_105, z11_108, z11_111, z11_111N, z11_112, z11_113, z11_116, z11_119, z11_121, z11_122, z11_124, z11_126, z11_129, z11_129N, z11_130, z11_132, z11_132N, z11_133, z11_135, z11_136, z11_137, z11_137N, z11_138, z11_140, z11_141, z11_142, z11_144, z11_145, z11_147, z11_148, z11_149, z11_150, z11_153, z11_154, z11_155, z11_157, z11_159, z11_162, z11_162N, z11_163, z11_165, z11_166, z11_166N, z11_167, z11_169, z11_170, z11_171, z11_174, z11_174N, z11_175, z11_177, z11_180, z11_183, z11_183N, z11_184, z11_185, z11_188, z11_191, z11_193, z11_195, z11_197, z11_200, z11_202, z11_203, z11_205, z11_207, z11_210, z11_210N, z11_211, z11_213, z11_214, z11_214N, z11_215, z11_217, z11_218, z11_219, z11_222, z11_223, z11_224, z11_226, z11_228, z11_231, z11_231N, z11_232, z11_234, z11_235, z11_238, z11_239, z11_240, z11_242, z11_243, z11_245, z11_246, z11_247, z11_248, z11_251, z11_252, z11_253, z11_255, z11_257, z11_260, z11_260N, z11_261, z11_263, z11_263N, z11_264, z11_266, z11_267, z11_270, z11_271, z11_272, z11_272N, z11_273, z11_275, z11_278, z11_281, z11_283, z11_284, z11_287, z11_288, HK_v, HK_8, HK_9, HK_11, HK_w, i_m4, i_m6, i_m8, i_m10, i_eqll, i_lell, i_ltll, Nat.reduceEqDiff, Nat.reduceLeDiff, Nat.reduceLT, o0_le, x4, x6, x8, bwd, bud, bad, tw, tu, ta, rw_, ru, ra, S, hK, ↓reduceIte, i_10, i_00, am_then_some, am_tl1, am_tl0, i_addl, ad2, Nat.reduceAdd, Int32.reduceToNatClampNeg, List.nil_append]
    rfl
  rw [if_neg k0] at S
  have D : doC N (cmOf x y) pl pi v P = (0, v, (P.ask pl).wou ((P.ask pl).ou ++ wr (v a) (xbt x 10 7))) := by rw [hc]; exact if_neg k0
  rw [D, e11 rfl rfl]
  simp (disch := (refine id ?_; first | with_reducible assumption | exact Nat.ne_of_beq_eq_false rfl | with_unfolding_all exact rfl | with_unfolding_all exact Nat.le_of_ble_eq_true rfl | (simp only [am_cat_nil, am_cat_int, am_cat_ref, am_cat_null, am_cat_long, Nat.reduceAdd, Nat.reduceLeDiff]; done) | omega | exact i_bnd2 (by simp only [am_n, Nat.reduceDiv, Nat.reduceMod, Nat.reduceMul, Nat.reduceAdd]; omega) | decide | fail)) only [z11_0, z11_1, z11_4, z11_6, z11_7, z11_8, z11_9, z11_10, z11_11, z11_13, z11_14, z11_16, z11_17, z11_18, z11_19, z11_21, z11_22, z11_24, z11_25, z11_26, z11_27, z11_29, z11_29N, z11_30, z11_32, z11_35, z11_38, z11_40, z11_41, z11_43, z11_45, z11_48, z11_48N, z11_49, z11_50, z11_53, z11_54, z11_56, z11_58, z11_61, z11_61N, z11_62, z11_62N, z11_63, z11_63N, z11_64, z11_66, z11_67, z11_68, z11_70, z11_71, z11_73, z11_74, z11_77, z11_78, z11_79, z11_81, z11_83, z11_86, z11_86N, z11_87, z11_89, z11_90, z11_90N, z11_91, z11_93, z11_94, z11_95, z11_98, z11_99, z11_102, z11_102N, z11_103, z11_105, z11_108, z11_111, z11_111N, z11_112, z11_113, z11_116, z11_119, z11_121, z11_122, z11_124, z11_126, z11_129, z11_129N, z11_130, z11_132, z11_132N, z11_133, z11_135, z11_136, z11_137, z11_137N, z11_138, z11_140, z11_141, z11_142, z11_144, z11_145, z11_147, z11_148, z11_149, z11_150, z11_153, z11_154, z11_155, z11_157, z11_159, z11_162, z11_162N, z11_163, z11_165, z11_166, z11_166N, z11_167, z11_169, z11_170, z11_171, z11_174, z11_174N, z11_175, z11_177, z11_180, z11_183, z11_183N, z11_184, z11_185, z11_188, z11_191, z11_193, z11_195, z11_197, z11_200, z11_202, z11_203, z11_205, z11_207, z11_210, z11_210N, z11_211, z11_213, z11_214, z11_214N, z11_215, z11_217, z11_218, z11_219, z11_222, z11_223, z11_224, z11_226, z11_228, z11_231, z11_231N, z11_232, z11_234, z11_235, z11_238, z11_239, z11_240, z11_242, z11_243, z11_245, z11_246, z11_247, z11_248, z11_251, z11_252, z11_253, z11_255, z11_257, z11_260, z11_260N, z11_261, z11_263, z11_263N, z11_264, z11_266, z11_267, z11_270, z11_271, z11_272, z11_272N, z11_273, z11_275, z11_278, z11_281, z11_283, z11_284, z11_287, z11_288, HK_v, HK_8, HK_9, HK_11, HK_w, i_m4, i_m6, i_m8, i_m10, i_eqll, i_lell, i_ltll, Nat.reduceEqDiff, Nat.reduceLeDiff, Nat.reduceLT, o0_le, x4, x6, x8, bwd, bud, bad, tw, tu, ta, rw_, ru, ra, S, hK, xbt_107, W, ↓reduceIte, i_10, i_00, am_then_some, am_tl1, am_tl0, i_addl, ad2, Nat.reduceAdd, Int32.reduceToNatClampNeg, List.nil_append]
  rfl
theorem da_8 {g : Nat → Nat → Value} {c0 s0 d N : Nat} {x y : Int32} {pl pi : Nat} {q : Int64} {v : Nat → Int} {P : PT} (hk : kdOf x = 8) (hv : VRG v) (hs : P.st ≤ N) (hN : N < 100000) (hpl : pl < 65536) (hpi : pi < 65536) (hq : (cmOf x y).has → q = Int64.ofNat pi) (ho : P.ou.length + 20 < 1999) : am_M (d + 5) 11 [.ref 124788933419, .ref 124856169512, .int x, .int y, .long (Int64.ofNat pl), .long q] (HK g c0 s0 N v P) = some (some (.int (Int32.ofNat (doC N (cmOf x y) pl pi v P).1)), HK g c0 s0 N (doC N (cmOf x y) pl pi v P).2.1 (doC N (cmOf x y) pl pi v P).2.2) := by
  have ha := n3 (x := x) (s := 4)
  have hw := n3 (x := x) (s := 6)
  have hu := n3 (x := x) (s := 8)
  have l10 := xbt_le (x := x) (s := 10) (m := 31)
  have l107 := xbt_le (x := x) (s := 10) (m := 7)
  obtain ⟨a, ea⟩ : ∃ a, xbt x 4 3 = a := ⟨_, rfl⟩
  obtain ⟨w, ew⟩ : ∃ w, xbt x 6 3 = w := ⟨_, rfl⟩
  obtain ⟨u, eu⟩ : ∃ u, xbt x 8 3 = u := ⟨_, rfl⟩
  have x4 : x >>> 4 &&& 3 = Int32.ofNat a := by rw [← ea]; exact xbt_s (by decide) (by decide)
  have x6 : x >>> 6 &&& 3 = Int32.ofNat w := by rw [← ew]; exact xbt_s (by decide) (by decide)
  have x8 : x >>> 8 &&& 3 = Int32.ofNat u := by rw [← eu]; exact xbt_s (by decide) (by decide)
  rw [ea] at ha
  rw [ew] at hw
  rw [eu] at hu
  have bwd := n_bnd (n := w) (a := 124788933419) (by show w < 12; omega) (by omega)
  have bud := n_bnd (n := u) (a := 124788933419) (by show u < 12; omega) (by omega)
  have bad := n_bnd (n := a) (a := 124788933419) (by show a < 12; omega) (by omega)
  have tw : (Int32.ofNat w).toNatClampNeg = w := tn_of (by omega)
  have tu : (Int32.ofNat u).toNatClampNeg = u := tn_of (by omega)
  have ta : (Int32.ofNat a).toNatClampNeg = a := tn_of (by omega)
  have rw_ : ∀ (v : Nat → Int) (P : PT), am_g (HK g c0 s0 N v P) 124788933419 w = .long (Int64.ofInt (v w)) := fun v P => HK_v (by omega)
  have ru : ∀ (v : Nat → Int) (P : PT), am_g (HK g c0 s0 N v P) 124788933419 u = .long (Int64.ofInt (v u)) := fun v P => HK_v (by omega)
  have ra : ∀ (v : Nat → Int) (P : PT), am_g (HK g c0 s0 N v P) 124788933419 a = .long (Int64.ofInt (v a)) := fun v P => HK_v (by omega)
  have S := step_ok (g := g) (c0 := c0) (s0 := s0) (d := d + 3) (N := N) (v := v) (P := P) (pl := pl) hpl (by omega) hN
  have bw := hv w (by omega)
  have bu := hv u (by omega)
  have hK : ∀ d h, am_M (d + 1) 6 [.int x] h = some (some (.int 8), h) := fun d h => kd_ok.trans (by rw [hk]; rfl)
  have hc : cmOf x y = Cmd.iff w u (stOf y) := by unfold cmOf; rw [hk, ew, eu]; rfl
  have hq := hq (by rw [hc]; exact ⟨by show 2 ≠ 1; decide, by show 2 ≠ 4; decide⟩)
  subst hq
  have A := act_ok (g := g) (c0 := c0) (s0 := s0) (d := d + 1) (N := N) (v := v) (P := (P.ask pl).ask pi) (x := y) hv
  by_cases k0 : P.st = N
  · have D : doC N (cmOf x y) pl pi v P = (100, v, P) := if_pos k0
    rw [if_pos k0] at S
    rw [D, e11 rfl rfl]
    simp (disch := (refine id ?_; first | with_reducible assumption | exact Nat.ne_of_beq_eq_false rfl | with_unfolding_all exact rfl | with_unfolding_all exact Nat.le_of_ble_eq_true rfl | (simp only [am_cat_nil, am_cat_int, am_cat_ref, am_cat_null, am_cat_long, Nat.reduceAdd, Nat.reduceLeDiff]; done) | omega | exact i_bnd2 (by simp only [am_n, Nat.reduceDiv, Nat.reduceMod, Nat.reduceMul, Nat.reduceAdd]; omega) | decide | fail)) only [z11_0, z11_1, z11_4, z11_6, z11_7, z11_8, z11_9, z11_10, z11_11, z11_13, z11_14, z11_16, z11_17, z11_18, z11_19, z11_21, z11_22, z11_24, z11_25, z11_26, z11_27, z11_29, z11_29N, z11_30, z11_32, z11_35, z11_38, z11_40, z11_41, z11_43, z11_45, z11_48, z11_48N, z11_49, z11_50, z11_53, z11_54, z11_56, z11_58, z11_61, z11_61N, z11_62, z11_62N, z11_63, z11_63N, z11_64, z11_66, z11_67, z11_68, z11_70, z11_71, z11_73, z11_74, z11_77, z11_78, z11_79, z11_81, z11_83, z11_86, z11_86N, z11_87, z11_89, z11_90, z11_90N, z11_91, z11_93, z11_94, z11_95, z11_98, z11_99, z11_102, z11_102N, z11_103, z11_105, z11_108, z11_111, z11_111N, z11_112, z11_113, z11_116, z11_119, z11_121, z11_122, z11_124, z11_126, z11_129, z11_129N, z11_130, z11_132, z11_132N, z11_133, z11_135, z11_136, z11_137, z11_137N, z11_138, z11_140, z11_141, z11_142, z11_144, z11_145, z11_147, z11_148, z11_149, z11_150, z11_153, z11_154, z11_155, z11_157, z11_159, z11_162, z11_162N, z11_163, z11_165, z11_166, z11_166N, z11_167, z11_169, z11_170, z11_171, z11_174, z11_174N, z11_175, z11_177, z11_180, z11_183, z11_183N, z11_184, z11_185, z11_188, z11_191, z11_193, z11_195, z11_197, z11_200, z11_202, z11_203, z11_205, z11_207, z11_210, z11_210N, z11_211, z11_213, z11_214, z11_214N, z11_215, z11_217, z11_218, z11_219, z11_222, z11_223, z11_224, z11_226, z11_228, z11_231, z11_231N, z11_232, z11_234, z11_235, z11_238, z11_239, z11_240, z11_242, z11_243, z11_245, z11_246, z11_247, z11_248, z11_251, z11_252, z11_253, z11_255, z11_257, z11_260, z11_260N, z11_261, z11_263, z11_263N, z11_264, z11_266, z11_267, z11_270, z11_271, z11_272, z11_272N, z11_273, z11_275, z11_278, z11_281, z11_283, z11_284, z11_287, z11_288, HK_v, HK_8, HK_9, HK_11, HK_w, i_m4, i_m6, i_m8, i_m10, i_eqll, i_lell, i_ltll, Nat.reduceEqDiff, Nat.reduceLeDiff, Nat.reduceLT, o0_le, x4, x6, x8, bwd, bud, bad, tw, tu, ta, rw_, ru, ra, S, hK, ↓reduceIte, i_10, i_00, am_then_some, am_tl1, am_tl0, i_addl, ad2, Nat.reduceAdd, Int32.reduceToNatClampNeg, List.nil_append]
    rfl
  rw [if_neg k0] at S
  have e0 : doC N (cmOf x y) pl pi v P = if v w < v u then do1 N (stOf y) pi v (P.ask pl) else (0, v, P.ask pl) := by rw [hc]; exact if_neg k0
  have c : (lg_cmp (Int64.ofInt (v w)) (Int64.ofInt (v u)) < 0) = (v w < v u) := l_lt (by omega) (by omega) (by omega) (by omega)
  have S2 := step_ok (g := g) (c0 := c0) (s0 := s0) (d := d + 3) (N := N) (v := v) (P := P.ask pl) (pl := pi) hpi (by show P.st + 1 < 100000; omega) hN
  by_cases k1 : v w < v u
  · have c' := c.trans (eq_true k1)
    rw [if_pos k1] at e0
    by_cases k2 : (P.ask pl).st = N
    · have D : do1 N (stOf y) pi v (P.ask pl) = (100, v, P.ask pl) := if_pos k2
      rw [if_pos k2] at S2
      rw [e0, D, e11 rfl rfl]
      simp (disch := (refine id ?_; first | with_reducible assumption | exact Nat.ne_of_beq_eq_false rfl | with_unfolding_all exact rfl | with_unfolding_all exact Nat.le_of_ble_eq_true rfl | (simp only [am_cat_nil, am_cat_int, am_cat_ref, am_cat_null, am_cat_long, Nat.reduceAdd, Nat.reduceLeDiff]; done) | omega | exact i_bnd2 (by simp only [am_n, Nat.reduceDiv, Nat.reduceMod, Nat.reduceMul, Nat.reduceAdd]; omega) | decide | fail)) only [z11_0, z11_1, z11_4, z11_6, z11_7, z11_8, z11_9, z11_10, z11_11, z11_13, z11_14, z11_16, z11_17, z11_18, z11_19, z11_21, z11_22, z11_24, z11_25, z11_26, z11_27, z11_29, z11_29N, z11_30, z11_32, z11_35, z11_38, z11_40, z11_41, z11_43, z11_45, z11_48, z11_48N, z11_49, z11_50, z11_53, z11_54, z11_56, z11_58, z11_61, z11_61N, z11_62, z11_62N, z11_63, z11_63N, z11_64, z11_66, z11_67, z11_68, z11_70, z11_71, z11_73, z11_74, z11_77, z11_78, z11_79, z11_81, z11_83, z11_86, z11_86N, z11_87, z11_89, z11_90, z11_90N, z11_91, z11_93, z11_94, z11_95, z11_98, z11_99, z11_102, z11_102N, z11_103, z11_105, z11_108, z11_111, z11_111N, z11_112, z11_113, z11_116, z11_119, z11_121, z11_122, z11_124, z11_126, z11_129, z11_129N, z11_130, z11_132, z11_132N, z11_133, z11_135, z11_136, z11_137, z11_137N, z11_138, z11_140, z11_141, z11_142, z11_144, z11_145, z11_147, z11_148, z11_149, z11_150, z11_153, z11_154, z11_155, z11_157, z11_159, z11_162, z11_162N, z11_163, z11_165, z11_166, z11_166N, z11_167, z11_169, z11_170, z11_171, z11_174, z11_174N, z11_175, z11_177, z11_180, z11_183, z11_183N, z11_184, z11_185, z11_188, z11_191, z11_193, z11_195, z11_197, z11_200, z11_202, z11_203, z11_205, z11_207, z11_210, z11_210N, z11_211, z11_213, z11_214, z11_214N, z11_215, z11_217, z11_218, z11_219, z11_222, z11_223, z11_224, z11_226, z11_228, z11_231, z11_231N, z11_232, z11_234, z11_235, z11_238, z11_239, z11_240, z11_242, z11_243, z11_245, z11_246, z11_247, z11_248, z11_251, z11_252, z11_253, z11_255, z11_257, z11_260, z11_260N, z11_261, z11_263, z11_263N, z11_264, z11_266, z11_267, z11_270, z11_271, z11_272, z11_272N, z11_273, z11_275, z11_278, z11_281, z11_283, z11_284, z11_287, z11_288, HK_v, HK_8, HK_9, HK_11, HK_w, i_m4, i_m6, i_m8, i_m10, i_eqll, i_lell, i_ltll, Nat.reduceEqDiff, Nat.reduceLeDiff, Nat.reduceLT, o0_le, x4, x6, x8, bwd, bud, bad, tw, tu, ta, rw_, ru, ra, S, hK, c', S2, ↓reduceIte, i_10, i_00, am_then_some, am_tl1, am_tl0, i_addl, ad2, Nat.reduceAdd, Int32.reduceToNatClampNeg, List.nil_append]
      rfl
    · have D : do1 N (stOf y) pi v (P.ask pl) = ((actF (stOf y) v).1, (actF (stOf y) v).2, (P.ask pl).ask pi) := if_neg k2
      rw [if_neg k2] at S2
      rw [e0, D, e11 rfl rfl]
      simp (disch := (refine id ?_; first | with_reducible assumption | exact Nat.ne_of_beq_eq_false rfl | with_unfolding_all exact rfl | with_unfolding_all exact Nat.le_of_ble_eq_true rfl | (simp only [am_cat_nil, am_cat_int, am_cat_ref, am_cat_null, am_cat_long, Nat.reduceAdd, Nat.reduceLeDiff]; done) | omega | exact i_bnd2 (by simp only [am_n, Nat.reduceDiv, Nat.reduceMod, Nat.reduceMul, Nat.reduceAdd]; omega) | decide | fail)) only [z11_0, z11_1, z11_4, z11_6, z11_7, z11_8, z11_9, z11_10, z11_11, z11_13, z11_14, z11_16, z11_17, z11_18, z11_19, z11_21, z11_22, z11_24, z11_25, z11_26, z11_27, z11_29, z11_29N, z11_30, z11_32, z11_35, z11_38, z11_40, z11_41, z11_43, z11_45, z11_48, z11_48N, z11_49, z11_50, z11_53, z11_54, z11_56, z11_58, z11_61, z11_61N, z11_62, z11_62N, z11_63, z11_63N, z11_64, z11_66, z11_67, z11_68, z11_70, z11_71, z11_73, z11_74, z11_77, z11_78, z11_79, z11_81, z11_83, z11_86, z11_86N, z11_87, z11_89, z11_90, z11_90N, z11_91, z11_93, z11_94, z11_95, z11_98, z11_99, z11_102, z11_102N, z11_103, z11_105, z11_108, z11_111, z11_111N, z11_112, z11_113, z11_116, z11_119, z11_121, z11_122, z11_124, z11_126, z11_129, z11_129N, z11_130, z11_132, z11_132N, z11_133, z11_135, z11_136, z11_137, z11_137N, z11_138, z11_140, z11_141, z11_142, z11_144, z11_145, z11_147, z11_148, z11_149, z11_150, z11_153, z11_154, z11_155, z11_157, z11_159, z11_162, z11_162N, z11_163, z11_165, z11_166, z11_166N, z11_167, z11_169, z11_170, z11_171, z11_174, z11_174N, z11_175, z11_177, z11_180, z11_183, z11_183N, z11_184, z11_185, z11_188, z11_191, z11_193, z11_195, z11_197, z11_200, z11_202, z11_203, z11_205, z11_207, z11_210, z11_210N, z11_211, z11_213, z11_214, z11_214N, z11_215, z11_217, z11_218, z11_219, z11_222, z11_223, z11_224, z11_226, z11_228, z11_231, z11_231N, z11_232, z11_234, z11_235, z11_238, z11_239, z11_240, z11_242, z11_243, z11_245, z11_246, z11_247, z11_248, z11_251, z11_252, z11_253, z11_255, z11_257, z11_260, z11_260N, z11_261, z11_263, z11_263N, z11_264, z11_266, z11_267, z11_270, z11_271, z11_272, z11_272N, z11_273, z11_275, z11_278, z11_281, z11_283, z11_284, z11_287, z11_288, HK_v, HK_8, HK_9, HK_11, HK_w, i_m4, i_m6, i_m8, i_m10, i_eqll, i_lell, i_ltll, Nat.reduceEqDiff, Nat.reduceLeDiff, Nat.reduceLT, o0_le, x4, x6, x8, bwd, bud, bad, tw, tu, ta, rw_, ru, ra, S, hK, c', S2, A, ↓reduceIte, i_10, i_00, am_then_some, am_tl1, am_tl0, i_addl, ad2, Nat.reduceAdd, Int32.reduceToNatClampNeg, List.nil_append]
  · have c' := c.trans (eq_false k1)
    rw [if_neg k1] at e0
    rw [e0, e11 rfl rfl]
    simp (disch := (refine id ?_; first | with_reducible assumption | exact Nat.ne_of_beq_eq_false rfl | with_unfolding_all exact rfl | with_unfolding_all exact Nat.le_of_ble_eq_true rfl | (simp only [am_cat_nil, am_cat_int, am_cat_ref, am_cat_null, am_cat_long, Nat.reduceAdd, Nat.reduceLeDiff]; done) | omega | exact i_bnd2 (by simp only [am_n, Nat.reduceDiv, Nat.reduceMod, Nat.reduceMul, Nat.reduceAdd]; omega) | decide | fail)) only [z11_0, z11_1, z11_4, z11_6, z11_7, z11_8, z11_9, z11_10, z11_11, z11_13, z11_14, z11_16, z11_17, z11_18, z11_19, z11_21, z11_22, z11_24, z11_25, z11_26, z11_27, z11_29, z11_29N, z11_30, z11_32, z11_35, z11_38, z11_40, z11_41, z11_43, z11_45, z11_48, z11_48N, z11_49, z11_50, z11_53, z11_54, z11_56, z11_58, z11_61, z11_61N, z11_62, z11_62N, z11_63, z11_63N, z11_64, z11_66, z11_67, z11_68, z11_70, z11_71, z11_73, z11_74, z11_77, z11_78, z11_79, z11_81, z11_83, z11_86, z11_86N, z11_87, z11_89, z11_90, z11_90N, z11_91, z11_93, z11_94, z11_95, z11_98, z11_99, z11_102, z11_102N, z11_103, z11_105, z11_108, z11_111, z11_111N, z11_112, z11_113, z11_116, z11_119, z11_121, z11_122, z11_124, z11_126, z11_129, z11_129N, z11_130, z11_132, z11_132N, z11_133, z11_135, z11_136, z11_137, z11_137N, z11_138, z11_140, z11_141, z11_142, z11_144, z11_145, z11_147, z11_148, z11_149, z11_150, z11_153, z11_154, z11_155, z11_157, z11_159, z11_162, z11_162N, z11_163, z11_165, z11_166, z11_166N, z11_167, z11_169, z11_170, z11_171, z11_174, z11_174N, z11_175, z11_177, z11_180, z11_183, z11_183N, z11_184, z11_185, z11_188, z11_191, z11_193, z11_195, z11_197, z11_200, z11_202, z11_203, z11_205, z11_207, z11_210, z11_210N, z11_211, z11_213, z11_214, z11_214N, z11_215, z11_217, z11_218, z11_219, z11_222, z11_223, z11_224, z11_226, z11_228, z11_231, z11_231N, z11_232, z11_234, z11_235, z11_238, z11_239, z11_240, z11_242, z11_243, z11_245, z11_246, z11_247, z11_248, z11_251, z11_252, z11_253, z11_255, z11_257, z11_260, z11_260N, z11_261, z11_263, z11_263N, z11_264, z11_266, z11_267, z11_270, z11_271, z11_272, z11_272N, z11_273, z11_275, z11_278, z11_281, z11_283, z11_284, z11_287, z11_288, HK_v, HK_8, HK_9, HK_11, HK_w, i_m4, i_m6, i_m8, i_m10, i_eqll, i_lell, i_ltll, Nat.reduceEqDiff, Nat.reduceLeDiff, Nat.reduceLT, o0_le, x4, x6, x8, bwd, bud, bad, tw, tu, ta, rw_, ru, ra, S, hK, c', ↓reduceIte, i_10, i_00, am_then_some, am_tl1, am_tl0, i_addl, ad2, Nat.reduceAdd, Int32.reduceToNatClampNeg, List.nil_append]
    rfl
theorem da_9 {g : Nat → Nat → Value} {c0 s0 d N : Nat} {x y : Int32} {pl pi : Nat} {q : Int64} {v : Nat → Int} {P : PT} (hk : kdOf x = 9) (hv : VRG v) (hs : P.st ≤ N) (hN : N < 100000) (hpl : pl < 65536) (hpi : pi < 65536) (hq : (cmOf x y).has → q = Int64.ofNat pi) (ho : P.ou.length + 20 < 1999) : am_M (d + 5) 11 [.ref 124788933419, .ref 124856169512, .int x, .int y, .long (Int64.ofNat pl), .long q] (HK g c0 s0 N v P) = some (some (.int (Int32.ofNat (doC N (cmOf x y) pl pi v P).1)), HK g c0 s0 N (doC N (cmOf x y) pl pi v P).2.1 (doC N (cmOf x y) pl pi v P).2.2) := by
  have ha := n3 (x := x) (s := 4)
  have hw := n3 (x := x) (s := 6)
  have hu := n3 (x := x) (s := 8)
  have l10 := xbt_le (x := x) (s := 10) (m := 31)
  have l107 := xbt_le (x := x) (s := 10) (m := 7)
  obtain ⟨a, ea⟩ : ∃ a, xbt x 4 3 = a := ⟨_, rfl⟩
  obtain ⟨w, ew⟩ : ∃ w, xbt x 6 3 = w := ⟨_, rfl⟩
  obtain ⟨u, eu⟩ : ∃ u, xbt x 8 3 = u := ⟨_, rfl⟩
  have x4 : x >>> 4 &&& 3 = Int32.ofNat a := by rw [← ea]; exact xbt_s (by decide) (by decide)
  have x6 : x >>> 6 &&& 3 = Int32.ofNat w := by rw [← ew]; exact xbt_s (by decide) (by decide)
  have x8 : x >>> 8 &&& 3 = Int32.ofNat u := by rw [← eu]; exact xbt_s (by decide) (by decide)
  rw [ea] at ha
  rw [ew] at hw
  rw [eu] at hu
  have bwd := n_bnd (n := w) (a := 124788933419) (by show w < 12; omega) (by omega)
  have bud := n_bnd (n := u) (a := 124788933419) (by show u < 12; omega) (by omega)
  have bad := n_bnd (n := a) (a := 124788933419) (by show a < 12; omega) (by omega)
  have tw : (Int32.ofNat w).toNatClampNeg = w := tn_of (by omega)
  have tu : (Int32.ofNat u).toNatClampNeg = u := tn_of (by omega)
  have ta : (Int32.ofNat a).toNatClampNeg = a := tn_of (by omega)
  have rw_ : ∀ (v : Nat → Int) (P : PT), am_g (HK g c0 s0 N v P) 124788933419 w = .long (Int64.ofInt (v w)) := fun v P => HK_v (by omega)
  have ru : ∀ (v : Nat → Int) (P : PT), am_g (HK g c0 s0 N v P) 124788933419 u = .long (Int64.ofInt (v u)) := fun v P => HK_v (by omega)
  have ra : ∀ (v : Nat → Int) (P : PT), am_g (HK g c0 s0 N v P) 124788933419 a = .long (Int64.ofInt (v a)) := fun v P => HK_v (by omega)
  have S := step_ok (g := g) (c0 := c0) (s0 := s0) (d := d + 3) (N := N) (v := v) (P := P) (pl := pl) hpl (by omega) hN
  have bw := hv w (by omega)
  have bu := hv u (by omega)
  have hK : ∀ d h, am_M (d + 1) 6 [.int x] h = some (some (.int 9), h) := fun d h => kd_ok.trans (by rw [hk]; rfl)
  obtain ⟨c, ec⟩ : ∃ c, xbt x 10 31 = c := ⟨_, rfl⟩
  rw [ec] at l10
  have hc : cmOf x y = Cmd.fo a w c (stOf y) := by unfold cmOf; rw [hk, ea, ew, ec]; rfl
  have hq := hq (by rw [hc]; exact ⟨by show 3 ≠ 1; decide, by show 3 ≠ 4; decide⟩)
  subst hq
  have xc : x >>> 10 &&& 31 = Int32.ofNat c := by rw [← ec]; exact xbt_10
  have cj : (Int32.ofNat c).toInt64 = Int64.ofInt c := by rw [n_i64 (by omega), l_nat]
  by_cases k0 : P.st = N
  · have D : doC N (cmOf x y) pl pi v P = (100, v, P) := if_pos k0
    rw [if_pos k0] at S
    rw [D, e11 rfl rfl]
    simp (disch := (refine id ?_; first | with_reducible assumption | exact Nat.ne_of_beq_eq_false rfl | with_unfolding_all exact rfl | with_unfolding_all exact Nat.le_of_ble_eq_true rfl | (simp only [am_cat_nil, am_cat_int, am_cat_ref, am_cat_null, am_cat_long, Nat.reduceAdd, Nat.reduceLeDiff]; done) | omega | exact i_bnd2 (by simp only [am_n, Nat.reduceDiv, Nat.reduceMod, Nat.reduceMul, Nat.reduceAdd]; omega) | decide | fail)) only [z11_0, z11_1, z11_4, z11_6, z11_7, z11_8, z11_9, z11_10, z11_11, z11_13, z11_14, z11_16, z11_17, z11_18, z11_19, z11_21, z11_22, z11_24, z11_25, z11_26, z11_27, z11_29, z11_29N, z11_30, z11_32, z11_35, z11_38, z11_40, z11_41, z11_43, z11_45, z11_48, z11_48N, z11_49, z11_50, z11_53, z11_54, z11_56, z11_58, z11_61, z11_61N, z11_62, z11_62N, z11_63, z11_63N, z11_64, z11_66, z11_67, z11_68, z11_70, z11_71, z11_73, z11_74, z11_77, z11_78, z11_79, z11_81, z11_83, z11_86, z11_86N, z11_87, z11_89, z11_90, z11_90N, z11_91, z11_93, z11_94, z11_95, z11_98, z11_99, z11_102, z11_102N, z11_103, z11_105, z11_108, z11_111, z11_111N, z11_112, z11_113, z11_116, z11_119, z11_121, z11_122, z11_124, z11_126, z11_129, z11_129N, z11_130, z11_132, z11_132N, z11_133, z11_135, z11_136, z11_137, z11_137N, z11_138, z11_140, z11_141, z11_142, z11_144, z11_145, z11_147, z11_148, z11_149, z11_150, z11_153, z11_154, z11_155, z11_157, z11_159, z11_162, z11_162N, z11_163, z11_165, z11_166, z11_166N, z11_167, z11_169, z11_170, z11_171, z11_174, z11_174N, z11_175, z11_177, z11_180, z11_183, z11_183N, z11_184, z11_185, z11_188, z11_191, z11_193, z11_195, z11_197, z11_200, z11_202, z11_203, z11_205, z11_207, z11_210, z11_210N, z11_211, z11_213, z11_214, z11_214N, z11_215, z11_217, z11_218, z11_219, z11_222, z11_223, z11_224, z11_226, z11_228, z11_231, z11_231N, z11_232, z11_234, z11_235, z11_238, z11_239, z11_240, z11_242, z11_243, z11_245, z11_246, z11_247, z11_248, z11_251, z11_252, z11_253, z11_255, z11_257, z11_260, z11_260N, z11_261, z11_263, z11_263N, z11_264, z11_266, z11_267, z11_270, z11_271, z11_272, z11_272N, z11_273, z11_275, z11_278, z11_281, z11_283, z11_284, z11_287, z11_288, HK_v, HK_8, HK_9, HK_11, HK_w, i_m4, i_m6, i_m8, i_m10, i_eqll, i_lell, i_ltll, Nat.reduceEqDiff, Nat.reduceLeDiff, Nat.reduceLT, o0_le, x4, x6, x8, bwd, bud, bad, tw, tu, ta, rw_, ru, ra, S, hK, ↓reduceIte, i_10, i_00, am_then_some, am_tl1, am_tl0, i_addl, ad2, Nat.reduceAdd, Int32.reduceToNatClampNeg, List.nil_append]
    rfl
  rw [if_neg k0] at S
  have e0 : doC N (cmOf x y) pl pi v P = if (c : Int) < v w then (0, up v a (v w), P.ask pl) else loopF N (stOf y) a c pl pi (N + 1) (up v a (v w)) (P.ask pl) := by rw [hc]; exact if_neg k0
  have hW : am_p (HK g c0 s0 N v (P.ask pl)) 124788933419 a (.long (Int64.ofInt (v w))) = HK g c0 s0 N (up v a (v w)) (P.ask pl) := HK_w (by omega)
  have ru' : (up v a (v w)) a = v w := up_eq
  have cl : (lg_cmp (Int64.ofInt (v w)) (Int64.ofInt c) ≤ 0) = (v w ≤ c) := l_le (by omega) (by omega) (by omega) (by omega)
  by_cases k1 : (c : Int) < v w
  · have c' := cl.trans (eq_false (by omega))
    rw [e0, if_pos k1, e11 rfl rfl]
    simp (disch := (refine id ?_; first | with_reducible assumption | exact Nat.ne_of_beq_eq_false rfl | with_unfolding_all exact rfl | with_unfolding_all exact Nat.le_of_ble_eq_true rfl | (simp only [am_cat_nil, am_cat_int, am_cat_ref, am_cat_null, am_cat_long, Nat.reduceAdd, Nat.reduceLeDiff]; done) | omega | exact i_bnd2 (by simp only [am_n, Nat.reduceDiv, Nat.reduceMod, Nat.reduceMul, Nat.reduceAdd]; omega) | decide | fail)) only [z11_0, z11_1, z11_4, z11_6, z11_7, z11_8, z11_9, z11_10, z11_11, z11_13, z11_14, z11_16, z11_17, z11_18, z11_19, z11_21, z11_22, z11_24, z11_25, z11_26, z11_27, z11_29, z11_29N, z11_30, z11_32, z11_35, z11_38, z11_40, z11_41, z11_43, z11_45, z11_48, z11_48N, z11_49, z11_50, z11_53, z11_54, z11_56, z11_58, z11_61, z11_61N, z11_62, z11_62N, z11_63, z11_63N, z11_64, z11_66, z11_67, z11_68, z11_70, z11_71, z11_73, z11_74, z11_77, z11_78, z11_79, z11_81, z11_83, z11_86, z11_86N, z11_87, z11_89, z11_90, z11_90N, z11_91, z11_93, z11_94, z11_95, z11_98, z11_99, z11_102, z11_102N, z11_103, z11_105, z11_108, z11_111, z11_111N, z11_112, z11_113, z11_116, z11_119, z11_121, z11_122, z11_124, z11_126, z11_129, z11_129N, z11_130, z11_132, z11_132N, z11_133, z11_135, z11_136, z11_137, z11_137N, z11_138, z11_140, z11_141, z11_142, z11_144, z11_145, z11_147, z11_148, z11_149, z11_150, z11_153, z11_154, HK_v, HK_8, HK_9, HK_11, HK_w, i_m4, i_m6, i_m8, i_m10, i_eqll, i_lell, i_ltll, Nat.reduceEqDiff, Nat.reduceLeDiff, Nat.reduceLT, o0_le, x4, x6, x8, bwd, bud, bad, tw, tu, ta, rw_, ru, ra, S, hK, c', xc, cj, hW, ru', ↓reduceIte, i_10, i_00, am_then_some, am_tl1, am_tl0, i_addl, ad2, Nat.reduceAdd, Int32.reduceToNatClampNeg, List.nil_append]
    rfl
  · have c' := cl.trans (eq_true (by omega))
    have V2 := VR_up (a := a) (r := v w) hv (by omega) (by omega)
    have I := fun l => law_loopF (g := g) (c0 := c0) (s0 := s0) (d := d) (N := N) (x := x) (y := y) (pl := pl) (pi := pi) (a := a) (w := w) (u := u) (c := c) ha hw hu hpl hpi hN ec (N + 1) (up v a (v w)) (P.ask pl) l V2 (by show P.st + 1 ≤ N; omega) (by show N < P.st + 1 + (N + 1); omega)
    rw [e0, if_neg k1, e11 rfl rfl]
    simp (disch := (refine id ?_; first | with_reducible assumption | exact Nat.ne_of_beq_eq_false rfl | with_unfolding_all exact rfl | with_unfolding_all exact Nat.le_of_ble_eq_true rfl | (simp only [am_cat_nil, am_cat_int, am_cat_ref, am_cat_null, am_cat_long, Nat.reduceAdd, Nat.reduceLeDiff]; done) | omega | exact i_bnd2 (by simp only [am_n, Nat.reduceDiv, Nat.reduceMod, Nat.reduceMul, Nat.reduceAdd]; omega) | decide | fail)) only [z11_0, z11_1, z11_4, z11_6, z11_7, z11_8, z11_9, z11_10, z11_11, z11_13, z11_14, z11_16, z11_17, z11_18, z11_19, z11_21, z11_22, z11_24, z11_25, z11_26, z11_27, z11_29, z11_29N, z11_30, z11_32, z11_35, z11_38, z11_40, z11_41, z11_43, z11_45, z11_48, z11_48N, z11_49, z11_50, z11_53, z11_54, z11_56, z11_58, z11_61, z11_61N, z11_62, z11_62N, z11_63, z11_63N, z11_64, z11_66, z11_67, z11_68, z11_70, z11_71, z11_73, z11_74, z11_77, z11_78, z11_79, z11_81, z11_83, z11_86, z11_86N, z11_87, z11_89, z11_90, z11_90N, z11_91, z11_93, z11_94, z11_95, z11_98, z11_99, z11_102, z11_102N, z11_103, z11_105, z11_108, z11_111, z11_111N, z11_112, z11_113, z11_116, z11_119, z11_121, z11_122, z11_124, z11_126, z11_129, z11_129N, z11_130, z11_132, z11_132N, z11_133, z11_135, z11_136, z11_137, z11_137N, z11_138, z11_140, z11_141, z11_142, z11_144, z11_145, z11_147, z11_148, z11_149, z11_150, z11_153, z11_154, HK_v, HK_8, HK_9, HK_11, HK_w, i_m4, i_m6, i_m8, i_m10, i_eqll, i_lell, i_ltll, Nat.reduceEqDiff, Nat.reduceLeDiff, Nat.reduceLT, o0_le, x4, x6, x8, bwd, bud, bad, tw, tu, ta, rw_, ru, ra, S, hK, c', xc, cj, hW, ru', I, ↓reduceIte, i_10, i_00, am_then_some, am_tl1, am_tl0, i_addl, ad2, Nat.reduceAdd, Int32.reduceToNatClampNeg, List.nil_append]
theorem da_11 {g : Nat → Nat → Value} {c0 s0 d N : Nat} {x y : Int32} {pl pi : Nat} {q : Int64} {v : Nat → Int} {P : PT} (hk : kdOf x = 11) (hv : VRG v) (hs : P.st ≤ N) (hN : N < 100000) (hpl : pl < 65536) (hpi : pi < 65536) (hq : (cmOf x y).has → q = Int64.ofNat pi) (ho : P.ou.length + 20 < 1999) : am_M (d + 5) 11 [.ref 124788933419, .ref 124856169512, .int x, .int y, .long (Int64.ofNat pl), .long q] (HK g c0 s0 N v P) = some (some (.int (Int32.ofNat (doC N (cmOf x y) pl pi v P).1)), HK g c0 s0 N (doC N (cmOf x y) pl pi v P).2.1 (doC N (cmOf x y) pl pi v P).2.2) := by
  have ha := n3 (x := x) (s := 4)
  have hw := n3 (x := x) (s := 6)
  have hu := n3 (x := x) (s := 8)
  have l10 := xbt_le (x := x) (s := 10) (m := 31)
  have l107 := xbt_le (x := x) (s := 10) (m := 7)
  obtain ⟨a, ea⟩ : ∃ a, xbt x 4 3 = a := ⟨_, rfl⟩
  obtain ⟨w, ew⟩ : ∃ w, xbt x 6 3 = w := ⟨_, rfl⟩
  obtain ⟨u, eu⟩ : ∃ u, xbt x 8 3 = u := ⟨_, rfl⟩
  have x4 : x >>> 4 &&& 3 = Int32.ofNat a := by rw [← ea]; exact xbt_s (by decide) (by decide)
  have x6 : x >>> 6 &&& 3 = Int32.ofNat w := by rw [← ew]; exact xbt_s (by decide) (by decide)
  have x8 : x >>> 8 &&& 3 = Int32.ofNat u := by rw [← eu]; exact xbt_s (by decide) (by decide)
  rw [ea] at ha
  rw [ew] at hw
  rw [eu] at hu
  have bwd := n_bnd (n := w) (a := 124788933419) (by show w < 12; omega) (by omega)
  have bud := n_bnd (n := u) (a := 124788933419) (by show u < 12; omega) (by omega)
  have bad := n_bnd (n := a) (a := 124788933419) (by show a < 12; omega) (by omega)
  have tw : (Int32.ofNat w).toNatClampNeg = w := tn_of (by omega)
  have tu : (Int32.ofNat u).toNatClampNeg = u := tn_of (by omega)
  have ta : (Int32.ofNat a).toNatClampNeg = a := tn_of (by omega)
  have rw_ : ∀ (v : Nat → Int) (P : PT), am_g (HK g c0 s0 N v P) 124788933419 w = .long (Int64.ofInt (v w)) := fun v P => HK_v (by omega)
  have ru : ∀ (v : Nat → Int) (P : PT), am_g (HK g c0 s0 N v P) 124788933419 u = .long (Int64.ofInt (v u)) := fun v P => HK_v (by omega)
  have ra : ∀ (v : Nat → Int) (P : PT), am_g (HK g c0 s0 N v P) 124788933419 a = .long (Int64.ofInt (v a)) := fun v P => HK_v (by omega)
  have S := step_ok (g := g) (c0 := c0) (s0 := s0) (d := d + 3) (N := N) (v := v) (P := P) (pl := pl) hpl (by omega) hN
  have bw := hv w (by omega)
  have bu := hv u (by omega)
  have hK : ∀ d h, am_M (d + 1) 6 [.int x] h = some (some (.int 11), h) := fun d h => kd_ok.trans (by rw [hk]; rfl)
  have hc : cmOf x y = Cmd.rep w u (stOf y) := by unfold cmOf; rw [hk, ew, eu]; rfl
  have hq := hq (by rw [hc]; exact ⟨by show 5 ≠ 1; decide, by show 5 ≠ 4; decide⟩)
  subst hq
  by_cases k0 : P.st = N
  · have D : doC N (cmOf x y) pl pi v P = (100, v, P) := if_pos k0
    rw [if_pos k0] at S
    rw [D, e11 rfl rfl]
    simp (disch := (refine id ?_; first | with_reducible assumption | exact Nat.ne_of_beq_eq_false rfl | with_unfolding_all exact rfl | with_unfolding_all exact Nat.le_of_ble_eq_true rfl | (simp only [am_cat_nil, am_cat_int, am_cat_ref, am_cat_null, am_cat_long, Nat.reduceAdd, Nat.reduceLeDiff]; done) | omega | exact i_bnd2 (by simp only [am_n, Nat.reduceDiv, Nat.reduceMod, Nat.reduceMul, Nat.reduceAdd]; omega) | decide | fail)) only [z11_0, z11_1, z11_4, z11_6, z11_7, z11_8, z11_9, z11_10, z11_11, z11_13, z11_14, z11_16, z11_17, z11_18, z11_19, z11_21, z11_22, z11_24, z11_25, z11_26, z11_27, z11_29, z11_29N, z11_30, z11_32, z11_35, z11_38, z11_40, z11_41, z11_43, z11_45, z11_48, z11_48N, z11_49, z11_50, z11_53, z11_54, z11_56, z11_58, z11_61, z11_61N, z11_62, z11_62N, z11_63, z11_63N, z11_64, z11_66, z11_67, z11_68, z11_70, z11_71, z11_73, z11_74, z11_77, z11_78, z11_79, z11_81, z11_83, z11_86, z11_86N, z11_87, z11_89, z11_90, z11_90N, z11_91, z11_93, z11_94, z11_95, z11_98, z11_99, z11_102, z11_102N, z11_103, z11_105, z11_108, z11_111, z11_111N, z11_112, z11_113, z11_116, z11_119, z11_121, z11_122, z11_124, z11_126, z11_129, z11_129N, z11_130, z11_132, z11_132N, z11_133, z11_135, z11_136, z11_137, z11_137N, z11_138, z11_140, z11_141, z11_142, z11_144, z11_145, z11_147, z11_148, z11_149, z11_150, z11_153, z11_154, z11_155, z11_157, z11_159, z11_162, z11_162N, z11_163, z11_165, z11_166, z11_166N, z11_167, z11_169, z11_170, z11_171, z11_174, z11_174N, z11_175, z11_177, z11_180, z11_183, z11_183N, z11_184, z11_185, z11_188, z11_191, z11_193, z11_195, z11_197, z11_200, z11_202, z11_203, z11_205, z11_207, z11_210, z11_210N, z11_211, z11_213, z11_214, z11_214N, z11_215, z11_217, z11_218, z11_219, z11_222, z11_223, z11_224, z11_226, z11_228, z11_231, z11_231N, z11_232, z11_234, z11_235, z11_238, z11_239, z11_240, z11_242, z11_243, z11_245, z11_246, z11_247, z11_248, z11_251, z11_252, z11_253, z11_255, z11_257, z11_260, z11_260N, z11_261, z11_263, z11_263N, z11_264, z11_266, z11_267, z11_270, z11_271, z11_272, z11_272N, z11_273, z11_275, z11_278, z11_281, z11_283, z11_284, z11_287, z11_288, HK_v, HK_8, HK_9, HK_11, HK_w, i_m4, i_m6, i_m8, i_m10, i_eqll, i_lell, i_ltll, Nat.reduceEqDiff, Nat.reduceLeDiff, Nat.reduceLT, o0_le, x4, x6, x8, bwd, bud, bad, tw, tu, ta, rw_, ru, ra, S, hK, ↓reduceIte, i_10, i_00, am_then_some, am_tl1, am_tl0, i_addl, ad2, Nat.reduceAdd, Int32.reduceToNatClampNeg, List.nil_append]
    rfl
  rw [if_neg k0] at S
  have e0 : doC N (cmOf x y) pl pi v P = loopR N (stOf y) w u pl pi (N + 1) v (P.ask pl) := by rw [hc]; exact if_neg k0
  have I := fun l => law_loopR (g := g) (c0 := c0) (s0 := s0) (d := d) (N := N) (x := x) (y := y) (pl := pl) (pi := pi) (a := a) (w := w) (u := u) ha hw hu hpl hpi hN (N + 1) v (P.ask pl) l hv (by show P.st + 1 ≤ N; omega) (by show N < P.st + 1 + (N + 1); omega)
  rw [e0, e11 rfl rfl]
  simp (disch := (refine id ?_; first | with_reducible assumption | exact Nat.ne_of_beq_eq_false rfl | with_unfolding_all exact rfl | with_unfolding_all exact Nat.le_of_ble_eq_true rfl | (simp only [am_cat_nil, am_cat_int, am_cat_ref, am_cat_null, am_cat_long, Nat.reduceAdd, Nat.reduceLeDiff]; done) | omega | exact i_bnd2 (by simp only [am_n, Nat.reduceDiv, Nat.reduceMod, Nat.reduceMul, Nat.reduceAdd]; omega) | decide | fail)) only [z11_0, z11_1, z11_4, z11_6, z11_7, z11_8, z11_9, z11_10, z11_11, z11_13, z11_14, z11_16, z11_17, z11_18, z11_19, z11_21, z11_22, z11_24, z11_25, z11_26, z11_27, z11_29, z11_29N, z11_30, z11_32, z11_35, z11_38, z11_40, z11_41, z11_43, z11_45, z11_48, z11_48N, z11_49, z11_50, z11_53, z11_54, z11_56, z11_58, z11_61, z11_61N, z11_62, z11_62N, z11_63, z11_63N, z11_64, z11_66, z11_67, z11_68, z11_70, z11_71, z11_73, z11_74, z11_77, z11_78, z11_79, z11_81, z11_83, z11_86, z11_86N, z11_87, z11_89, z11_90, z11_90N, z11_91, z11_93, z11_94, z11_95, z11_98, z11_99, z11_102, z11_102N, z11_103, z11_105, z11_108, z11_111, z11_111N, z11_112, z11_113, z11_116, z11_119, z11_121, z11_122, z11_124, z11_126, z11_129, z11_129N, z11_130, z11_132, z11_132N, z11_133, z11_135, z11_136, z11_137, z11_137N, z11_138, z11_140, z11_141, z11_142, z11_144, z11_145, z11_147, z11_148, z11_149, z11_150, z11_153, z11_154, HK_v, HK_8, HK_9, HK_11, HK_w, i_m4, i_m6, i_m8, i_m10, i_eqll, i_lell, i_ltll, Nat.reduceEqDiff, Nat.reduceLeDiff, Nat.reduceLT, o0_le, x4, x6, x8, bwd, bud, bad, tw, tu, ta, rw_, ru, ra, S, hK, I, ↓reduceIte, i_10, i_00, am_then_some, am_tl1, am_tl0, i_addl, ad2, Nat.reduceAdd, Int32.reduceToNatClampNeg, List.nil_append]
theorem da_12 {g : Nat → Nat → Value} {c0 s0 d N : Nat} {x y : Int32} {pl pi : Nat} {q : Int64} {v : Nat → Int} {P : PT} (hk : kdOf x = 12) (hv : VRG v) (hs : P.st ≤ N) (hN : N < 100000) (hpl : pl < 65536) (hpi : pi < 65536) (hq : (cmOf x y).has → q = Int64.ofNat pi) (ho : P.ou.length + 20 < 1999) : am_M (d + 5) 11 [.ref 124788933419, .ref 124856169512, .int x, .int y, .long (Int64.ofNat pl), .long q] (HK g c0 s0 N v P) = some (some (.int (Int32.ofNat (doC N (cmOf x y) pl pi v P).1)), HK g c0 s0 N (doC N (cmOf x y) pl pi v P).2.1 (doC N (cmOf x y) pl pi v P).2.2) := by
  have ha := n3 (x := x) (s := 4)
  have hw := n3 (x := x) (s := 6)
  have hu := n3 (x := x) (s := 8)
  have l10 := xbt_le (x := x) (s := 10) (m := 31)
  have l107 := xbt_le (x := x) (s := 10) (m := 7)
  obtain ⟨a, ea⟩ : ∃ a, xbt x 4 3 = a := ⟨_, rfl⟩
  obtain ⟨w, ew⟩ : ∃ w, xbt x 6 3 = w := ⟨_, rfl⟩
  obtain ⟨u, eu⟩ : ∃ u, xbt x 8 3 = u := ⟨_, rfl⟩
  have x4 : x >>> 4 &&& 3 = Int32.ofNat a := by rw [← ea]; exact xbt_s (by decide) (by decide)
  have x6 : x >>> 6 &&& 3 = Int32.ofNat w := by rw [← ew]; exact xbt_s (by decide) (by decide)
  have x8 : x >>> 8 &&& 3 = Int32.ofNat u := by rw [← eu]; exact xbt_s (by decide) (by decide)
  rw [ea] at ha
  rw [ew] at hw
  rw [eu] at hu
  have bwd := n_bnd (n := w) (a := 124788933419) (by show w < 12; omega) (by omega)
  have bud := n_bnd (n := u) (a := 124788933419) (by show u < 12; omega) (by omega)
  have bad := n_bnd (n := a) (a := 124788933419) (by show a < 12; omega) (by omega)
  have tw : (Int32.ofNat w).toNatClampNeg = w := tn_of (by omega)
  have tu : (Int32.ofNat u).toNatClampNeg = u := tn_of (by omega)
  have ta : (Int32.ofNat a).toNatClampNeg = a := tn_of (by omega)
  have rw_ : ∀ (v : Nat → Int) (P : PT), am_g (HK g c0 s0 N v P) 124788933419 w = .long (Int64.ofInt (v w)) := fun v P => HK_v (by omega)
  have ru : ∀ (v : Nat → Int) (P : PT), am_g (HK g c0 s0 N v P) 124788933419 u = .long (Int64.ofInt (v u)) := fun v P => HK_v (by omega)
  have ra : ∀ (v : Nat → Int) (P : PT), am_g (HK g c0 s0 N v P) 124788933419 a = .long (Int64.ofInt (v a)) := fun v P => HK_v (by omega)
  have S := step_ok (g := g) (c0 := c0) (s0 := s0) (d := d + 3) (N := N) (v := v) (P := P) (pl := pl) hpl (by omega) hN
  have bw := hv w (by omega)
  have bu := hv u (by omega)
  have hK : ∀ d h, am_M (d + 1) 6 [.int x] h = some (some (.int 12), h) := fun d h => kd_ok.trans (by rw [hk]; rfl)
  have hc : cmOf x y = Cmd.whi w u (stOf y) := by unfold cmOf; rw [hk, ew, eu]; rfl
  have hq := hq (by rw [hc]; exact ⟨by show 6 ≠ 1; decide, by show 6 ≠ 4; decide⟩)
  subst hq
  by_cases k0 : P.st = N
  · have D : doC N (cmOf x y) pl pi v P = (100, v, P) := if_pos k0
    rw [if_pos k0] at S
    rw [D, e11 rfl rfl]
    simp (disch := (refine id ?_; first | with_reducible assumption | exact Nat.ne_of_beq_eq_false rfl | with_unfolding_all exact rfl | with_unfolding_all exact Nat.le_of_ble_eq_true rfl | (simp only [am_cat_nil, am_cat_int, am_cat_ref, am_cat_null, am_cat_long, Nat.reduceAdd, Nat.reduceLeDiff]; done) | omega | exact i_bnd2 (by simp only [am_n, Nat.reduceDiv, Nat.reduceMod, Nat.reduceMul, Nat.reduceAdd]; omega) | decide | fail)) only [z11_0, z11_1, z11_4, z11_6, z11_7, z11_8, z11_9, z11_10, z11_11, z11_13, z11_14, z11_16, z11_17, z11_18, z11_19, z11_21, z11_22, z11_24, z11_25, z11_26, z11_27, z11_29, z11_29N, z11_30, z11_32, z11_35, z11_38, z11_40, z11_41, z11_43, z11_45, z11_48, z11_48N, z11_49, z11_50, z11_53, z11_54, z11_56, z11_58, z11_61, z11_61N, z11_62, z11_62N, z11_63, z11_63N, z11_64, z11_66, z11_67, z11_68, z11_70, z11_71, z11_73, z11_74, z11_77, z11_78, z11_79, z11_81, z11_83, z11_86, z11_86N, z11_87, z11_89, z11_90, z11_90N, z11_91, z11_93, z11_94, z11_95, z11_98, z11_99, z11_102, z11_102N, z11_103, z11_105, z11_108, z11_111, z11_111N, z11_112, z11_113, z11_116, z11_119, z11_121, z11_122, z11_124, z11_126, z11_129, z11_129N, z11_130, z11_132, z11_132N, z11_133, z11_135, z11_136, z11_137, z11_137N, z11_138, z11_140, z11_141, z11_142, z11_144, z11_145, z11_147, z11_148, z11_149, z11_150, z11_153, z11_154, z11_155, z11_157, z11_159, z11_162, z11_162N, z11_163, z11_165, z11_166, z11_166N, z11_167, z11_169, z11_170, z11_171, z11_174, z11_174N, z11_175, z11_177, z11_180, z11_183, z11_183N, z11_184, z11_185, z11_188, z11_191, z11_193, z11_195, z11_197, z11_200, z11_202, z11_203, z11_205, z11_207, z11_210, z11_210N, z11_211, z11_213, z11_214, z11_214N, z11_215, z11_217, z11_218, z11_219, z11_222, z11_223, z11_224, z11_226, z11_228, z11_231, z11_231N, z11_232, z11_234, z11_235, z11_238, z11_239, z11_240, z11_242, z11_243, z11_245, z11_246, z11_247, z11_248, z11_251, z11_252, z11_253, z11_255, z11_257, z11_260, z11_260N, z11_261, z11_263, z11_263N, z11_264, z11_266, z11_267, z11_270, z11_271, z11_272, z11_272N, z11_273, z11_275, z11_278, z11_281, z11_283, z11_284, z11_287, z11_288, HK_v, HK_8, HK_9, HK_11, HK_w, i_m4, i_m6, i_m8, i_m10, i_eqll, i_lell, i_ltll, Nat.reduceEqDiff, Nat.reduceLeDiff, Nat.reduceLT, o0_le, x4, x6, x8, bwd, bud, bad, tw, tu, ta, rw_, ru, ra, S, hK, ↓reduceIte, i_10, i_00, am_then_some, am_tl1, am_tl0, i_addl, ad2, Nat.reduceAdd, Int32.reduceToNatClampNeg, List.nil_append]
    rfl
  rw [if_neg k0] at S
  have e0 : doC N (cmOf x y) pl pi v P = loopW N (stOf y) w u pl pi (N + 1) v (P.ask pl) := by rw [hc]; exact if_neg k0
  have I := fun l => law_loopW (g := g) (c0 := c0) (s0 := s0) (d := d) (N := N) (x := x) (y := y) (pl := pl) (pi := pi) (a := a) (w := w) (u := u) ha hw hu hpl hpi hN (N + 1) v (P.ask pl) l hv (by show P.st + 1 ≤ N; omega) (by show N < P.st + 1 + (N + 1); omega)
  rw [e0, e11 rfl rfl]
  simp (disch := (refine id ?_; first | with_reducible assumption | exact Nat.ne_of_beq_eq_false rfl | with_unfolding_all exact rfl | with_unfolding_all exact Nat.le_of_ble_eq_true rfl | (simp only [am_cat_nil, am_cat_int, am_cat_ref, am_cat_null, am_cat_long, Nat.reduceAdd, Nat.reduceLeDiff]; done) | omega | exact i_bnd2 (by simp only [am_n, Nat.reduceDiv, Nat.reduceMod, Nat.reduceMul, Nat.reduceAdd]; omega) | decide | fail)) only [z11_0, z11_1, z11_4, z11_6, z11_7, z11_8, z11_9, z11_10, z11_11, z11_13, z11_14, z11_16, z11_17, z11_18, z11_19, z11_21, z11_22, z11_24, z11_25, z11_26, z11_27, z11_29, z11_29N, z11_30, z11_32, z11_35, z11_38, z11_40, z11_41, z11_43, z11_45, z11_48, z11_48N, z11_49, z11_50, z11_53, z11_54, z11_56, z11_58, z11_61, z11_61N, z11_62, z11_62N, z11_63, z11_63N, z11_64, z11_66, z11_67, z11_68, z11_70, z11_71, z11_73, z11_74, z11_77, z11_78, z11_79, z11_81, z11_83, z11_86, z11_86N, z11_87, z11_89, z11_90, z11_90N, z11_91, z11_93, z11_94, z11_95, z11_98, z11_99, z11_102, z11_102N, z11_103, z11_105, z11_108, z11_111, z11_111N, z11_112, z11_113, z11_116, z11_119, z11_121, z11_122, z11_124, z11_126, z11_129, z11_129N, z11_130, z11_132, z11_132N, z11_133, z11_135, z11_136, z11_137, z11_137N, z11_138, z11_140, z11_141, z11_142, z11_144, z11_145, z11_147, z11_148, z11_149, z11_150, z11_153, z11_154, HK_v, HK_8, HK_9, HK_11, HK_w, i_m4, i_m6, i_m8, i_m10, i_eqll, i_lell, i_ltll, Nat.reduceEqDiff, Nat.reduceLeDiff, Nat.reduceLT, o0_le, x4, x6, x8, bwd, bud, bad, tw, tu, ta, rw_, ru, ra, S, hK, I, ↓reduceIte, i_10, i_00, am_then_some, am_tl1, am_tl0, i_addl, ad2, Nat.reduceAdd, Int32.reduceToNatClampNeg, List.nil_append]
theorem da_ok {g : Nat → Nat → Value} {c0 s0 d N : Nat} {x y : Int32} {pl pi : Nat} {q : Int64} {v : Nat → Int} {P : PT} (hv : VRG v) (hs : P.st ≤ N) (hN : N < 100000) (hpl : pl < 65536) (hpi : pi < 65536) (hq : (cmOf x y).has → q = Int64.ofNat pi) (ho : P.ou.length + 20 < 1999) : am_M (d + 5) 11 [.ref 124788933419, .ref 124856169512, .int x, .int y, .long (Int64.ofNat pl), .long q] (HK g c0 s0 N v P) = some (some (.int (Int32.ofNat (doC N (cmOf x y) pl pi v P).1)), HK g c0 s0 N (doC N (cmOf x y) pl pi v P).2.1 (doC N (cmOf x y) pl pi v P).2.2) := by
  have l := kd_le (x := x)
  by_cases c8 : kdOf x < 8
  · exact da_1 c8 hv hs hN hpl hpi hq ho
  have c : kdOf x = 8 ∨ kdOf x = 9 ∨ kdOf x = 10 ∨ kdOf x = 11 ∨ kdOf x = 12 := by omega
  rcases c with c | c | c | c | c
  · exact da_8 c hv hs hN hpl hpi hq ho
  · exact da_9 c hv hs hN hpl hpi hq ho
  · exact da_10 c hv hs hN hpl hpi hq ho
  · exact da_11 c hv hs hN hpl hpi hq ho
  · exact da_12 c hv hs hN hpl hpi hq ho
