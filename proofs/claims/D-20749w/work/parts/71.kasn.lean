/-! tokens and texts of the assembler (printed by gen/kasm2.py) -/
set_option maxRecDepth 100000
set_option maxHeartbeats 1000000
theorem k_sub {g : Nat → Nat → Value} {c0 s0 kn he : Nat} {fi : Int32} {kb : Nat → Int32} {nm : Nat → Value} {pc : Nat → Int32} {a i e d : Nat} {l : List Nat} (S : STK (HA g c0 s0 kn he fi kb nm pc) a l) (hi : i < e) (he_ : e ≤ l.length) (hw : ¬ (i = 0 ∧ e = l.length)) (hc : 440 ≤ c0) : ∃ g', am_M (d + 6) 282 [.ref a, .int (Int32.ofNat i), .int (Int32.ofNat e)] (HA g c0 s0 kn he fi kb nm pc) = some (some (.ref (am_a c0 0 19)), HA g' (c0 + 2) (s0 + 4 + (e - i)) kn he fi kb nm pc) ∧ STK (HA g' (c0 + 2) (s0 + 4 + (e - i)) kn he fi kb nm pc) (am_a c0 0 19) ((l.drop i).take (e - i)) ∧ FRM (HA g c0 s0 kn he fi kb nm pc) (HA g' (c0 + 2) (s0 + 4 + (e - i)) kn he fi kb nm pc) := by
  obtain ⟨h', e1, e2, e3, e4, e5⟩ := str_sub (d := d) S.1 hi he_ hw (show am_P ≤ c0 by unfold am_P; omega)
  have hh := HA_to (h := h') hc e5
  have e2' : h'.1 = c0 + 2 := e2
  have e3' : h'.2.1 = s0 + 4 + (e - i) := e3
  rw [e2', e3'] at hh
  refine ⟨h'.2.2, ?_, ⟨?_, ?_⟩, ?_⟩
  · rw [e1, ← hh]
    rfl
  · rw [← hh]; exact e4
  · have := S.2
    rw [List.length_take, List.length_drop]
    omega
  · rw [← hh]
    exact fun x k h0 _ _ _ _ => e5 x k h0
theorem k_subw {g : Nat → Nat → Value} {c0 s0 kn he : Nat} {fi : Int32} {kb : Nat → Int32} {nm : Nat → Value} {pc : Nat → Int32} {a d : Nat} {l : List Nat} (S : STK (HA g c0 s0 kn he fi kb nm pc) a l) (hl : 0 < l.length) : am_M (d + 6) 282 [.ref a, .int 0, .int (Int32.ofNat l.length)] (HA g c0 s0 kn he fi kb nm pc) = some (some (.ref a), (HA g c0 s0 kn he fi kb nm pc)) := by
  have L := str_len (d := d + 3) S.1
  have l2 := S.2
  have sk := S.1.1
  have c1 : (Int32.ofNat l.length < 0) = False := n_lt0 (by omega)
  have c2 : (Int32.ofNat l.length ≤ Int32.ofNat l.length) = True := eq_true (by rw [ci_le]; exact Int.le_refl _)
  have c3 : ((0 : Int32) < 0) = False := eq_false (by decide)
  rw [e282]
  simp (disch := (refine id ?_; first | with_reducible assumption | exact Nat.ne_of_beq_eq_false rfl | with_unfolding_all exact rfl | with_unfolding_all exact Nat.le_of_ble_eq_true rfl | (simp only [am_cat_nil, am_cat_int, am_cat_ref, am_cat_null, am_cat_long, Nat.reduceAdd, Nat.reduceLeDiff]; done) | omega | exact i_bnd2 (by simp only [am_n, Nat.reduceDiv, Nat.reduceMod, Nat.reduceMul, Nat.reduceAdd]; omega) | decide | fail)) only [z282_0, z282_1, z282_4, z282_5, z282_6, z282_7, z282_8, z282_11, z282_12, z282_15, z282_16, z282_17, z282_20, z282_21, z282_21N, z282_22, z282_23, z282_24, z282_25, z282_27, z282_28, z282_31, z282_34, z282_35, z282_38, z282_39, z282_41, z282_44, z282_47, z282_48, z282_51, z282_52, z282_57, z282_57N, z283_0, z283_1, z283_2, z283_3, z283_6, z283_9, z283_9I, z283_10, z291_0, z291_1, z291_4, z291_5, z291_6, z291_9, z291_10, z291_11, z291_14, z291_14N, z291_15, z291_16, z291_17, z291_22, z291_23, HA_r0, HA_r1, HA_r2, HA_r3, HA_r4, HA_r5, HA_a0, HA_a1, HA_a2, HA_w3, HA_w4, HA_w5, HA_b0, HA_b1, HA_b2, e283, e291, L, c1, c2, c3, eq_self, ↓am_kc_f, am_kc_s, ↓reduceIte, i_10, i_00, i_eqll, i_lell, Nat.reduceEqDiff, Nat.reduceLeDiff, am_then_some, am_tl1, am_tl0, List.nil_append, Nat.reduceAdd, ad2]
theorem k_sub1 {g : Nat → Nat → Value} {c0 s0 kn he : Nat} {fi : Int32} {kb : Nat → Int32} {nm : Nat → Value} {pc : Nat → Int32} {a i d : Nat} {l : List Nat} (S : STK (HA g c0 s0 kn he fi kb nm pc) a l) (hi : i < l.length) (h0 : 0 < i) (hc : 440 ≤ c0) : ∃ g', am_M (d + 7) 285 [.ref a, .int (Int32.ofNat i)] (HA g c0 s0 kn he fi kb nm pc) = some (some (.ref (am_a c0 0 19)), HA g' (c0 + 2) (s0 + 4 + (l.length - i)) kn he fi kb nm pc) ∧ STK (HA g' (c0 + 2) (s0 + 4 + (l.length - i)) kn he fi kb nm pc) (am_a c0 0 19) (l.drop i) ∧ FRM (HA g c0 s0 kn he fi kb nm pc) (HA g' (c0 + 2) (s0 + 4 + (l.length - i)) kn he fi kb nm pc) := by
  obtain ⟨h', e1, e2, e3, e4, e5⟩ := str_sub1 (d := d) S.1 hi h0 (show am_P ≤ c0 by unfold am_P; omega)
  have hh := HA_to (h := h') hc e5
  have e2' : h'.1 = c0 + 2 := e2
  have e3' : h'.2.1 = s0 + 4 + (l.length - i) := e3
  rw [e2', e3'] at hh
  refine ⟨h'.2.2, ?_, ⟨?_, ?_⟩, ?_⟩
  · rw [e1, ← hh]
    rfl
  · rw [← hh]; exact e4
  · have := S.2
    rw [List.length_drop]
    omega
  · rw [← hh]
    exact fun x k h0 _ _ _ _ => e5 x k h0
def asV (v : Nat) (l : List Nat) : Nat := l.foldl (fun v c => 10 * v + (c - 48)) v
/-- what a token emits, with the names N, at the place h -/
def asE (N : List (List Nat × Nat)) (h : Nat) (t : List Nat) : List Int32 :=
  if t.getD (t.length - 1) 0 = 58 then []
  else if t.getD 0 0 = 61 then [Int32.ofNat (asF N (t.drop 1)), Int32.ofNat (asF N (t.drop 1)) >>> 8]
  else if t.getD 0 0 = 126 then [Int32.ofNat (asF N (t.drop 1)) - Int32.ofNat h - 1]
  else if t.getD 0 0 = 35 then [Int32.ofNat (64 + 3 * asV 0 (t.drop 1)), Int32.ofNat (64 + 3 * asV 0 (t.drop 1)) >>> 8]
  else [Int32.ofNat (16 * hx (t.getD 0 0) + hx (t.getD 1 0))]
def asN (f : Bool) (N : List (List Nat × Nat)) (h : Nat) (t : List Nat) : List (List Nat × Nat) := if t.getD (t.length - 1) 0 = 58 then (if f = true then N ++ [(t.take (t.length - 1), h)] else N) else N
/-- cells and elements that a token makes -/
def asC (f : Bool) (t : List Nat) : Nat := if t.getD (t.length - 1) 0 = 58 then (if f = true then 2 else 0) else if t.getD 0 0 = 61 ∨ t.getD 0 0 = 126 then 2 else 0
def asS (f : Bool) (t : List Nat) : Nat := if t.getD (t.length - 1) 0 = 58 then (if f = true then 4 + (t.length - 1) else 0) else if t.getD 0 0 = 61 ∨ t.getD 0 0 = 126 then 4 + (t.length - 1) else 0
def hexc (c : Nat) : Bool := (48 ≤ c && c ≤ 57) || (65 ≤ c && c ≤ 70)
def tokOk (t : List Nat) : Bool := (2 ≤ t.length && t.length < 100) && t.all (fun c => c < 128) && (t.getD (t.length - 1) 0 == 58 || t.getD 0 0 == 61 || t.getD 0 0 == 126 || (t.getD 0 0 == 35 && (t.drop 1).all (fun c => 48 ≤ c && c ≤ 57) && t.length ≤ 3) || (t.length == 2 && hexc (t.getD 0 0) && hexc (t.getD 1 0)))
theorem tk_lab {g : Nat → Nat → Value} {c0 s0 he : Nat} {kb : Nat → Int32} {nm : Nat → Value} {pc : Nat → Int32} {N : List (List Nat × Nat)} {f : Bool} {a d : Nat} {t : List Nat} (S : STK (HA g c0 s0 N.length he (if f = true then 1 else 0) kb nm pc) a t) (hp_ : am_P ≤ am_i a) (hN : NAM (HA g c0 s0 N.length he (if f = true then 1 else 0) kb nm pc) N nm pc) (hn : N.length < 95) (hh : he + 2 < 2048) (hc : 440 ≤ c0) (h8 : ∀ j, t.getD j 0 < 128) (hl : 2 ≤ t.length) (hl2 : t.length < 100) (hz : t.getD (t.length - 1) 0 = 58) (hhe : he < 65536) : ∃ g' nm' pc', am_M (d + 9) 202 [.ref 7264534539, .ref a] (HA g c0 s0 N.length he (if f = true then 1 else 0) kb nm pc) = some (none, HA g' (c0 + asC f t) (s0 + asS f t) (asN f N he t).length (he + (asE N he t).length) (if f = true then 1 else 0) (lay kb he ((asE N he t).map sb)) nm' pc') ∧ NAM (HA g' (c0 + asC f t) (s0 + asS f t) (asN f N he t).length (he + (asE N he t).length) (if f = true then 1 else 0) (lay kb he ((asE N he t).map sb)) nm' pc') (asN f N he t) nm' pc' ∧ FRM (HA g c0 s0 N.length he (if f = true then 1 else 0) kb nm pc) (HA g' (c0 + asC f t) (s0 + asS f t) (asN f N he t).length (he + (asE N he t).length) (if f = true then 1 else 0) (lay kb he ((asE N he t).map sb)) nm' pc') := by
  obtain ⟨n, en⟩ : ∃ n, t.length = n := ⟨_, rfl⟩
  have L := str_len (d := d + 6) S.1
  have A0 : am_M (d + 8) 279 [.ref a, .int 0] (HA g c0 s0 N.length he (if f = true then 1 else 0) kb nm pc) = some (some (.int (Int32.ofNat (t.getD 0 0))), (HA g c0 s0 N.length he (if f = true then 1 else 0) kb nm pc)) := str_at (j := 0) (d := d + 4) S.1 (by omega)
  have AL := str_at (j := t.length - 1) (d := d + 4) S.1 (by omega)
  rw [en] at L AL hl hl2
  have n1 : Int32.ofNat n - 1 = Int32.ofNat (n - 1) := n_subl n 1 (by show 1 ≤ n; omega)
  have sk := S.1.1
  obtain ⟨c, ec⟩ : ∃ c, t.getD 0 0 = c := ⟨_, rfl⟩
  obtain ⟨z, ez⟩ : ∃ z, t.getD (n - 1) 0 = z := ⟨_, rfl⟩
  have hc8 := h8 0
  have hz8 := h8 (n - 1)
  rw [ec] at A0 hc8
  rw [ez] at AL hz8
  have q58 : (Int32.ofNat z = 58) = (z = 58) := n_eql z 58 (by omega) (by decide)
  have q61 : (Int32.ofNat c = 61) = (c = 61) := n_eql c 61 (by omega) (by decide)
  have q126 : (Int32.ofNat c = 126) = (c = 126) := n_eql c 126 (by omega) (by decide)
  have q35 : (Int32.ofNat c = 35) = (c = 35) := n_eql c 35 (by omega) (by decide)
  rw [en, ez] at hz
  have k58 := q58.trans (eq_true hz)
  have aE : asE N he t = [] := by unfold asE; rw [if_pos (by rw [en, ez]; exact hz)]
  rw [aE]
  have hlast : t.getD (t.length - 1) 0 = 58 := by rw [en, ez]; exact hz
  cases f with
  | false =>
    have aN : asN false N he t = N := by unfold asN; rw [if_pos hlast]; rfl
    have aC : asC false t = 0 := by unfold asC; rw [if_pos hlast]; rfl
    have aS : asS false t = 0 := by unfold asS; rw [if_pos hlast]; rfl
    rw [aN, aC, aS]
    refine ⟨g, nm, pc, ?_, hN, FRM_r⟩
    rw [e202 rfl]
    simp only [Bool.false_eq_true, ↓reduceIte] at *
    simp (disch := (refine id ?_; first | with_reducible assumption | exact Nat.ne_of_beq_eq_false rfl | with_unfolding_all exact rfl | with_unfolding_all exact Nat.le_of_ble_eq_true rfl | (simp only [am_cat_nil, am_cat_int, am_cat_ref, am_cat_null, am_cat_long, Nat.reduceAdd, Nat.reduceLeDiff]; done) | omega | exact i_bnd2 (by simp only [am_n, Nat.reduceDiv, Nat.reduceMod, Nat.reduceMul, Nat.reduceAdd]; omega) | decide | fail)) only [z202_0, z202_0N, z202_1, z202_4, z202_5, z202_5N, z202_6, z202_7, z202_10, z202_11, z202_11N, z202_12, z202_13, z202_14, z202_15, z202_18, z202_20, z202_23, z202_24, z202_27, z202_30, z202_31, z202_32, z202_35, z202_36, z202_39, z202_39N, z202_40, z202_41, z202_42, z202_43, z202_44, z202_47, z202_48, z202_49, z202_52, z202_53, z202_56, z202_57, z202_60, z202_61, z202_62, z202_62I, z202_63, z202_66, z202_67, z202_68, z202_71, z202_74, z202_75, z202_77, z202_80, z202_81, z202_83, z202_86, z202_87, z202_87N, z202_88, z202_89, z202_92, z202_95, z202_97, z202_99, z202_102, z202_103, z202_106, z202_107, z202_110, z202_112, z202_113, z202_115, z202_116, z202_118, z202_121, z202_122, z202_124, z202_125, z202_128, z202_129, z202_130, z202_131, z202_134, z202_137, z202_138, z202_140, z202_143, z202_144, z202_146, z202_148, z202_149, z202_152, z202_155, z202_156, z202_158, z202_161, z202_162, z202_164, z202_165, z202_167, z202_169, z202_170, z202_173, z202_175, z202_177, z202_178, z202_178N, z202_179, z202_181, z202_184, z202_185, z202_187, z202_188, z202_190, z202_193, z202_196, z202_198, z202_199, z202_201, z202_202, z202_203, z202_205, z202_206, z202_208, z202_211, z202_212, z202_214, z202_216, z202_217, z202_220, z202_223, z202_224, z202_226, z202_227, z202_230, z202_231, z202_231N, z202_232, z202_233, z202_236, z202_239, z202_240, z202_243, HA_r0, HA_r1, HA_r2, HA_r3, HA_r4, HA_r5, HA_a0, HA_a1, HA_a2, HA_w3, HA_w4, HA_w5, HA_b0, HA_b1, HA_b2, L, A0, AL, n1, sk, k58, ↓am_kc_f, am_kc_s, ↓reduceIte, i_10, i_00, i_eqll, i_lell, Nat.reduceEqDiff, Nat.reduceLeDiff, am_then_some, am_tl1, am_tl0, List.nil_append, Nat.reduceAdd, ad2]
    rfl
  | true =>
    have aN : asN true N he t = N ++ [(t.take (t.length - 1), he)] := by unfold asN; rw [if_pos hlast]; rfl
    have aC : asC true t = 2 := by unfold asC; rw [if_pos hlast]; rfl
    have aS : asS true t = 4 + (t.length - 1) := by unfold asS; rw [if_pos hlast]; rfl
    rw [aN, aC, aS]
    obtain ⟨g', e1, e2, e3⟩ := k_sub (d := d + 2) (i := 0) (e := n - 1) S (by omega) (by omega) (by omega) hc
    have e1 : am_M (d + 8) 282 [.ref a, .int 0, .int (Int32.ofNat (n - 1))] _ = _ := e1
    rw [List.drop_zero] at e2
    have lN : (N ++ [(t.take (t.length - 1), he)]).length = N.length + 1 := by rw [List.length_append]; rfl
    have bn : ¬ (Int32.ofNat N.length < 0 ∨ am_n 7348426796 ≤ (Int32.ofNat N.length).toNatClampNeg) := i_bnd2 (by simp only [am_n, Nat.reduceDiv, Nat.reduceMod]; omega)
    have bp : ¬ (Int32.ofNat N.length < 0 ∨ am_n 7365204008 ≤ (Int32.ofNat N.length).toNatClampNeg) := i_bnd2 (by simp only [am_n, Nat.reduceDiv, Nat.reduceMod]; omega)
    have tn : (Int32.ofNat N.length).toNatClampNeg = N.length := tn_of (by omega)
    have k1 : Int32.ofNat N.length + 1 = Int32.ofNat (N.length + 1) := n_add (y := 1)
    have ra : am_ra (am_k 7348426796) = some (am_k (am_a c0 0 19)) := by rw [ama_k (by decide)]; decide
    have F2 : FRM (HA g' (c0 + 2) (s0 + 4 + (n - 1 - 0)) N.length he 1 kb nm pc) (HA g' (c0 + 2) (s0 + 4 + (n - 1 - 0)) (N.length + 1) he 1 kb (up nm N.length (.ref (am_a c0 0 19))) (up pc N.length (Int32.ofNat he))) := HA_frm
    have eS : s0 + (4 + (t.length - 1)) = s0 + 4 + (n - 1 - 0) := by omega
    rw [lN, eS]
    have z1 : (1 : Int32) = 0 ↔ False := ⟨by decide, False.elim⟩
    refine ⟨g', up nm N.length (.ref (am_a c0 0 19)), up pc N.length (Int32.ofNat he), ?_, ?_, ?_⟩
    · rw [e202 rfl]
      simp only [↓reduceIte] at *
      simp (disch := (refine id ?_; first | with_reducible assumption | exact Nat.ne_of_beq_eq_false rfl | with_unfolding_all exact rfl | with_unfolding_all exact Nat.le_of_ble_eq_true rfl | (simp only [am_cat_nil, am_cat_int, am_cat_ref, am_cat_null, am_cat_long, Nat.reduceAdd, Nat.reduceLeDiff]; done) | omega | exact i_bnd2 (by simp only [am_n, Nat.reduceDiv, Nat.reduceMod, Nat.reduceMul, Nat.reduceAdd]; omega) | decide | fail)) only [z202_0, z202_0N, z202_1, z202_4, z202_5, z202_5N, z202_6, z202_7, z202_10, z202_11, z202_11N, z202_12, z202_13, z202_14, z202_15, z202_18, z202_20, z202_23, z202_24, z202_27, z202_30, z202_31, z202_32, z202_35, z202_36, z202_39, z202_39N, z202_40, z202_41, z202_42, z202_43, z202_44, z202_47, z202_48, z202_49, z202_52, z202_53, z202_56, z202_57, z202_60, z202_61, z202_62, z202_62I, z202_63, z202_66, z202_67, z202_68, z202_71, z202_74, z202_75, z202_77, z202_80, z202_81, z202_83, z202_86, z202_87, z202_87N, z202_88, z202_89, z202_92, z202_95, z202_97, z202_99, z202_102, z202_103, z202_106, z202_107, z202_110, z202_112, z202_113, z202_115, z202_116, z202_118, z202_121, z202_122, z202_124, z202_125, z202_128, z202_129, z202_130, z202_131, z202_134, z202_137, z202_138, z202_140, z202_143, z202_144, z202_146, z202_148, z202_149, z202_152, z202_155, z202_156, z202_158, z202_161, z202_162, z202_164, z202_165, z202_167, z202_169, z202_170, z202_173, z202_175, z202_177, z202_178, z202_178N, z202_179, z202_181, z202_184, z202_185, z202_187, z202_188, z202_190, z202_193, z202_196, z202_198, z202_199, z202_201, z202_202, z202_203, z202_205, z202_206, z202_208, z202_211, z202_212, z202_214, z202_216, z202_217, z202_220, z202_223, z202_224, z202_226, z202_227, z202_230, z202_231, z202_231N, z202_232, z202_233, z202_236, z202_239, z202_240, z202_243, HA_r0, HA_r1, HA_r2, HA_r3, HA_r4, HA_r5, HA_a0, HA_a1, HA_a2, HA_w3, HA_w4, HA_w5, HA_b0, HA_b1, HA_b2, L, A0, AL, n1, sk, k58, e1, bn, bp, tn, k1, ra, ↓am_kc_f, am_kc_s, ↓reduceIte, i_10, i_00, i_eqll, i_lell, Nat.reduceEqDiff, Nat.reduceLeDiff, am_then_some, am_tl1, am_tl0, List.nil_append, Nat.reduceAdd, ad2]
      rfl
    · intro j hj
      rw [lN] at hj
      by_cases q : j = N.length
      · subst q
        rw [up_eq, up_eq]
        have gd : (N ++ [(t.take (t.length - 1), he)]).getD N.length ([], 0) = (t.take (t.length - 1), he) := by
          rw [List.getD_eq_getElem?_getD, List.getElem?_append_right (Nat.le_refl _), Nat.sub_self]
          rfl
        rw [gd]
        refine ⟨⟨_, rfl, by rw [ama_i (by decide) (by decide)]; unfold am_P; omega, ?_⟩, rfl, hhe⟩
        have e2b : STK (HA g' (c0 + 2) (s0 + 4 + (n - 1 - 0)) N.length he 1 kb nm pc) (am_a c0 0 19) (List.take (n - 1 - 0) t) := e2
        have := STK_m (h' := HA g' (c0 + 2) (s0 + 4 + (n - 1 - 0)) (N.length + 1) he 1 kb (up nm N.length (.ref (am_a c0 0 19))) (up pc N.length (Int32.ofNat he))) e2b (Nat.le_refl _) F2
        rw [show t.length - 1 = n - 1 - 0 by omega]
        exact this
      · rw [up_ne q, up_ne q]
        have gd : (N ++ [(t.take (t.length - 1), he)]).getD j ([], 0) = N.getD j ([], 0) := by
          rw [List.getD_eq_getElem?_getD, List.getElem?_append_left (by omega), List.getD_eq_getElem?_getD]
        rw [gd]
        obtain ⟨⟨b, b1, b2, b3⟩, b4⟩ := hN j (by omega)
        exact ⟨⟨b, b1, b2, STK_m b3 (by show c0 ≤ c0 + 2; omega) (FRM_t e3 (by show c0 ≤ c0 + 2; omega) F2)⟩, b4⟩
    · exact FRM_t e3 (by show c0 ≤ c0 + 2; omega) F2
theorem tk_eq {g : Nat → Nat → Value} {c0 s0 he : Nat} {kb : Nat → Int32} {nm : Nat → Value} {pc : Nat → Int32} {N : List (List Nat × Nat)} {f : Bool} {a d : Nat} {t : List Nat} (S : STK (HA g c0 s0 N.length he (if f = true then 1 else 0) kb nm pc) a t) (hp_ : am_P ≤ am_i a) (hN : NAM (HA g c0 s0 N.length he (if f = true then 1 else 0) kb nm pc) N nm pc) (hn : N.length < 95) (hh : he + 2 < 2048) (hc : 440 ≤ c0) (h8 : ∀ j, t.getD j 0 < 128) (hl : 2 ≤ t.length) (hl2 : t.length < 100) (hz : t.getD (t.length - 1) 0 ≠ 58) (h0 : t.getD 0 0 = 61) : ∃ g' nm' pc', am_M (d + 9) 202 [.ref 7264534539, .ref a] (HA g c0 s0 N.length he (if f = true then 1 else 0) kb nm pc) = some (none, HA g' (c0 + asC f t) (s0 + asS f t) (asN f N he t).length (he + (asE N he t).length) (if f = true then 1 else 0) (lay kb he ((asE N he t).map sb)) nm' pc') ∧ NAM (HA g' (c0 + asC f t) (s0 + asS f t) (asN f N he t).length (he + (asE N he t).length) (if f = true then 1 else 0) (lay kb he ((asE N he t).map sb)) nm' pc') (asN f N he t) nm' pc' ∧ FRM (HA g c0 s0 N.length he (if f = true then 1 else 0) kb nm pc) (HA g' (c0 + asC f t) (s0 + asS f t) (asN f N he t).length (he + (asE N he t).length) (if f = true then 1 else 0) (lay kb he ((asE N he t).map sb)) nm' pc') := by
  obtain ⟨n, en⟩ : ∃ n, t.length = n := ⟨_, rfl⟩
  have L := str_len (d := d + 6) S.1
  have A0 : am_M (d + 8) 279 [.ref a, .int 0] (HA g c0 s0 N.length he (if f = true then 1 else 0) kb nm pc) = some (some (.int (Int32.ofNat (t.getD 0 0))), (HA g c0 s0 N.length he (if f = true then 1 else 0) kb nm pc)) := str_at (j := 0) (d := d + 4) S.1 (by omega)
  have AL := str_at (j := t.length - 1) (d := d + 4) S.1 (by omega)
  rw [en] at L AL hl hl2
  have n1 : Int32.ofNat n - 1 = Int32.ofNat (n - 1) := n_subl n 1 (by show 1 ≤ n; omega)
  have sk := S.1.1
  obtain ⟨c, ec⟩ : ∃ c, t.getD 0 0 = c := ⟨_, rfl⟩
  obtain ⟨z, ez⟩ : ∃ z, t.getD (n - 1) 0 = z := ⟨_, rfl⟩
  have hc8 := h8 0
  have hz8 := h8 (n - 1)
  rw [ec] at A0 hc8
  rw [ez] at AL hz8
  have q58 : (Int32.ofNat z = 58) = (z = 58) := n_eql z 58 (by omega) (by decide)
  have q61 : (Int32.ofNat c = 61) = (c = 61) := n_eql c 61 (by omega) (by decide)
  have q126 : (Int32.ofNat c = 126) = (c = 126) := n_eql c 126 (by omega) (by decide)
  have q35 : (Int32.ofNat c = 35) = (c = 35) := n_eql c 35 (by omega) (by decide)
  rw [en, ez] at hz
  rw [ec] at h0
  have k58 := q58.trans (eq_false hz)
  have k61 := q61.trans (eq_true (by omega))
  have k126 := q126.trans (eq_false (by omega))
  have hlast : ¬ t.getD (t.length - 1) 0 = 58 := by rw [en, ez]; exact hz
  have hfst : t.getD 0 0 = 61 := by rw [ec]; exact h0
  have aN : asN f N he t = N := by unfold asN; rw [if_neg hlast]
  have aC : asC f t = 2 := by unfold asC; rw [if_neg hlast, if_pos (by omega)]
  have aS : asS f t = 4 + (t.length - 1) := by unfold asS; rw [if_neg hlast, if_pos (by omega)]
  obtain ⟨p, ep⟩ : ∃ p, asF N (t.drop 1) = p := ⟨_, rfl⟩
  have aE : asE N he t = [Int32.ofNat p, Int32.ofNat p >>> 8] := by unfold asE; rw [if_neg hlast, if_pos hfst, ep]
  rw [aN, aC, aS, aE]
  obtain ⟨g', e1, e2, e3⟩ := k_sub1 (d := d + 1) (i := 1) S (by omega) (by omega) hc
  have e1 : am_M (d + 8) 285 [.ref a, .int 1] _ = _ := e1
  have hN2 := NAM_m hN (by show c0 ≤ c0 + 2; omega) e3
  obtain ⟨r, r1, r2⟩ := k_findM (d := d + 5) hN2 rfl (by omega) e2 (by rw [ama_i (by decide) (by decide)]; unfold am_P; omega)
  have eS : s0 + (4 + (t.length - 1)) = s0 + 4 + (t.length - 1) := by omega
  rw [eS]
  have E1 := k_emit (g := g') (c0 := c0 + 2) (s0 := s0 + 4 + (t.length - 1)) (kn := N.length) (he := he) (fi := if f = true then 1 else 0) (kb := kb) (nm := nm) (pc := pc) (v := Int32.ofNat p) (d := d + 7) (by omega)
  
  have E2 := k_emit (g := g') (c0 := c0 + 2) (s0 := s0 + 4 + (t.length - 1)) (kn := N.length) (he := he + 1) (fi := if f = true then 1 else 0) (kb := up kb he (sb (Int32.ofNat p))) (nm := nm) (pc := pc) (v := Int32.ofNat p >>> 8) (d := d + 7) (by omega)
  have c19 : am_k (am_a c0 0 19) = 19 := ama_k (by decide)
  have FF : FRM (HA g' (c0 + 2) (s0 + 4 + (t.length - 1)) N.length he (if f = true then 1 else 0) kb nm pc) (HA g' (c0 + 2) (s0 + 4 + (t.length - 1)) N.length (he + ([Int32.ofNat p, Int32.ofNat p >>> 8]).length) (if f = true then 1 else 0) (lay kb he (([Int32.ofNat p, Int32.ofNat p >>> 8]).map sb)) nm pc) := HA_frm
  refine ⟨g', nm, pc, ?_, NAM_m hN2 (Nat.le_refl _) FF, FRM_t e3 (by show c0 ≤ c0 + 2; omega) FF⟩
  rw [ep] at r2
  rcases r2 with ⟨x1, x2⟩ | ⟨j, x1, x2, x3⟩
  · subst x1
    have g0 : (0 : Int32) ≤ -1 ↔ False := ⟨by decide, False.elim⟩
    have g0' : ((0 : Int32) ≤ -1) = False := propext g0
    subst x2
    have E1' : am_M (d + 8) 204 [.ref 7264534539, .int (0)] (HA g' (c0 + 2) (s0 + 4 + (t.length - 1)) N.length he (if f = true then 1 else 0) kb nm pc) = _ := E1
    have E2' : am_M (d + 8) 204 [.ref 7264534539, .int ((0 : Int32) >>> (8 : Int32))] (HA g' (c0 + 2) (s0 + 4 + (t.length - 1)) N.length (he + 1) (if f = true then 1 else 0) (up kb he (sb (Int32.ofNat 0))) nm pc) = _ := E2
    rw [e202 rfl]
    simp (disch := (refine id ?_; first | with_reducible assumption | exact Nat.ne_of_beq_eq_false rfl | with_unfolding_all exact rfl | with_unfolding_all exact Nat.le_of_ble_eq_true rfl | (simp only [am_cat_nil, am_cat_int, am_cat_ref, am_cat_null, am_cat_long, Nat.reduceAdd, Nat.reduceLeDiff]; done) | omega | exact i_bnd2 (by simp only [am_n, Nat.reduceDiv, Nat.reduceMod, Nat.reduceMul, Nat.reduceAdd]; omega) | decide | fail)) only [z202_0, z202_0N, z202_1, z202_4, z202_5, z202_5N, z202_6, z202_7, z202_10, z202_11, z202_11N, z202_12, z202_13, z202_14, z202_15, z202_18, z202_20, z202_23, z202_24, z202_27, z202_30, z202_31, z202_32, z202_35, z202_36, z202_39, z202_39N, z202_40, z202_41, z202_42, z202_43, z202_44, z202_47, z202_48, z202_49, z202_52, z202_53, z202_56, z202_57, z202_60, z202_61, z202_62, z202_62I, z202_63, z202_66, z202_67, z202_68, z202_71, z202_74, z202_75, z202_77, z202_80, z202_81, z202_83, z202_86, z202_87, z202_87N, z202_88, z202_89, z202_92, z202_95, z202_97, z202_99, z202_102, z202_103, z202_106, z202_107, z202_110, z202_112, z202_113, z202_115, z202_116, z202_118, z202_121, z202_122, z202_124, z202_125, z202_128, z202_129, z202_130, z202_131, z202_134, z202_137, z202_138, z202_140, z202_143, z202_144, z202_146, z202_148, z202_149, z202_152, z202_155, z202_156, z202_158, z202_161, z202_162, z202_164, z202_165, z202_167, z202_169, z202_170, z202_173, z202_175, z202_177, z202_178, z202_178N, z202_179, z202_181, z202_184, z202_185, z202_187, z202_188, z202_190, z202_193, z202_196, z202_198, z202_199, z202_201, z202_202, z202_203, z202_205, z202_206, z202_208, z202_211, z202_212, z202_214, z202_216, z202_217, z202_220, z202_223, z202_224, z202_226, z202_227, z202_230, z202_231, z202_231N, z202_232, z202_233, z202_236, z202_239, z202_240, z202_243, HA_r0, HA_r1, HA_r2, HA_r3, HA_r4, HA_r5, HA_a0, HA_a1, HA_a2, HA_w3, HA_w4, HA_w5, HA_b0, HA_b1, HA_b2, L, A0, AL, n1, sk, k58, k61, k126, e1, r1, g0', E1', E2', c19, i_m8, ↓am_kc_f, am_kc_s, ↓reduceIte, i_10, i_00, i_eqll, i_lell, Nat.reduceEqDiff, Nat.reduceLeDiff, am_then_some, am_tl1, am_tl0, List.nil_append, Nat.reduceAdd, ad2]
    rfl
  · subst x1
    have g0 : ((0 : Int32) ≤ Int32.ofNat j) = True := n_ge0 (by omega)
    have tj : (Int32.ofNat j).toNatClampNeg = j := tn_of (by omega)
    have bj : ¬ (Int32.ofNat j < 0 ∨ am_n 7365204008 ≤ (Int32.ofNat j).toNatClampNeg) := i_bnd2 (by simp only [am_n, Nat.reduceDiv, Nat.reduceMod]; omega)
    have pj : pc j = Int32.ofNat p := by rw [← x3]; exact (hN j x2).2.1
    rw [e202 rfl]
    simp (disch := (refine id ?_; first | with_reducible assumption | exact Nat.ne_of_beq_eq_false rfl | with_unfolding_all exact rfl | with_unfolding_all exact Nat.le_of_ble_eq_true rfl | (simp only [am_cat_nil, am_cat_int, am_cat_ref, am_cat_null, am_cat_long, Nat.reduceAdd, Nat.reduceLeDiff]; done) | omega | exact i_bnd2 (by simp only [am_n, Nat.reduceDiv, Nat.reduceMod, Nat.reduceMul, Nat.reduceAdd]; omega) | decide | fail)) only [z202_0, z202_0N, z202_1, z202_4, z202_5, z202_5N, z202_6, z202_7, z202_10, z202_11, z202_11N, z202_12, z202_13, z202_14, z202_15, z202_18, z202_20, z202_23, z202_24, z202_27, z202_30, z202_31, z202_32, z202_35, z202_36, z202_39, z202_39N, z202_40, z202_41, z202_42, z202_43, z202_44, z202_47, z202_48, z202_49, z202_52, z202_53, z202_56, z202_57, z202_60, z202_61, z202_62, z202_62I, z202_63, z202_66, z202_67, z202_68, z202_71, z202_74, z202_75, z202_77, z202_80, z202_81, z202_83, z202_86, z202_87, z202_87N, z202_88, z202_89, z202_92, z202_95, z202_97, z202_99, z202_102, z202_103, z202_106, z202_107, z202_110, z202_112, z202_113, z202_115, z202_116, z202_118, z202_121, z202_122, z202_124, z202_125, z202_128, z202_129, z202_130, z202_131, z202_134, z202_137, z202_138, z202_140, z202_143, z202_144, z202_146, z202_148, z202_149, z202_152, z202_155, z202_156, z202_158, z202_161, z202_162, z202_164, z202_165, z202_167, z202_169, z202_170, z202_173, z202_175, z202_177, z202_178, z202_178N, z202_179, z202_181, z202_184, z202_185, z202_187, z202_188, z202_190, z202_193, z202_196, z202_198, z202_199, z202_201, z202_202, z202_203, z202_205, z202_206, z202_208, z202_211, z202_212, z202_214, z202_216, z202_217, z202_220, z202_223, z202_224, z202_226, z202_227, z202_230, z202_231, z202_231N, z202_232, z202_233, z202_236, z202_239, z202_240, z202_243, HA_r0, HA_r1, HA_r2, HA_r3, HA_r4, HA_r5, HA_a0, HA_a1, HA_a2, HA_w3, HA_w4, HA_w5, HA_b0, HA_b1, HA_b2, L, A0, AL, n1, sk, k58, k61, k126, e1, r1, g0, E1, E2, c19, tj, bj, pj, i_m8, ↓am_kc_f, am_kc_s, ↓reduceIte, i_10, i_00, i_eqll, i_lell, Nat.reduceEqDiff, Nat.reduceLeDiff, am_then_some, am_tl1, am_tl0, List.nil_append, Nat.reduceAdd, ad2]
    rfl
theorem tk_til {g : Nat → Nat → Value} {c0 s0 he : Nat} {kb : Nat → Int32} {nm : Nat → Value} {pc : Nat → Int32} {N : List (List Nat × Nat)} {f : Bool} {a d : Nat} {t : List Nat} (S : STK (HA g c0 s0 N.length he (if f = true then 1 else 0) kb nm pc) a t) (hp_ : am_P ≤ am_i a) (hN : NAM (HA g c0 s0 N.length he (if f = true then 1 else 0) kb nm pc) N nm pc) (hn : N.length < 95) (hh : he + 2 < 2048) (hc : 440 ≤ c0) (h8 : ∀ j, t.getD j 0 < 128) (hl : 2 ≤ t.length) (hl2 : t.length < 100) (hz : t.getD (t.length - 1) 0 ≠ 58) (h0 : t.getD 0 0 = 126) : ∃ g' nm' pc', am_M (d + 9) 202 [.ref 7264534539, .ref a] (HA g c0 s0 N.length he (if f = true then 1 else 0) kb nm pc) = some (none, HA g' (c0 + asC f t) (s0 + asS f t) (asN f N he t).length (he + (asE N he t).length) (if f = true then 1 else 0) (lay kb he ((asE N he t).map sb)) nm' pc') ∧ NAM (HA g' (c0 + asC f t) (s0 + asS f t) (asN f N he t).length (he + (asE N he t).length) (if f = true then 1 else 0) (lay kb he ((asE N he t).map sb)) nm' pc') (asN f N he t) nm' pc' ∧ FRM (HA g c0 s0 N.length he (if f = true then 1 else 0) kb nm pc) (HA g' (c0 + asC f t) (s0 + asS f t) (asN f N he t).length (he + (asE N he t).length) (if f = true then 1 else 0) (lay kb he ((asE N he t).map sb)) nm' pc') := by
  obtain ⟨n, en⟩ : ∃ n, t.length = n := ⟨_, rfl⟩
  have L := str_len (d := d + 6) S.1
  have A0 : am_M (d + 8) 279 [.ref a, .int 0] (HA g c0 s0 N.length he (if f = true then 1 else 0) kb nm pc) = some (some (.int (Int32.ofNat (t.getD 0 0))), (HA g c0 s0 N.length he (if f = true then 1 else 0) kb nm pc)) := str_at (j := 0) (d := d + 4) S.1 (by omega)
  have AL := str_at (j := t.length - 1) (d := d + 4) S.1 (by omega)
  rw [en] at L AL hl hl2
  have n1 : Int32.ofNat n - 1 = Int32.ofNat (n - 1) := n_subl n 1 (by show 1 ≤ n; omega)
  have sk := S.1.1
  obtain ⟨c, ec⟩ : ∃ c, t.getD 0 0 = c := ⟨_, rfl⟩
  obtain ⟨z, ez⟩ : ∃ z, t.getD (n - 1) 0 = z := ⟨_, rfl⟩
  have hc8 := h8 0
  have hz8 := h8 (n - 1)
  rw [ec] at A0 hc8
  rw [ez] at AL hz8
  have q58 : (Int32.ofNat z = 58) = (z = 58) := n_eql z 58 (by omega) (by decide)
  have q61 : (Int32.ofNat c = 61) = (c = 61) := n_eql c 61 (by omega) (by decide)
  have q126 : (Int32.ofNat c = 126) = (c = 126) := n_eql c 126 (by omega) (by decide)
  have q35 : (Int32.ofNat c = 35) = (c = 35) := n_eql c 35 (by omega) (by decide)
  rw [en, ez] at hz
  rw [ec] at h0
  have k58 := q58.trans (eq_false hz)
  have k61 := q61.trans (eq_false (by omega))
  have k126 := q126.trans (eq_true (by omega))
  have hlast : ¬ t.getD (t.length - 1) 0 = 58 := by rw [en, ez]; exact hz
  have hfst : t.getD 0 0 = 126 := by rw [ec]; exact h0
  have aN : asN f N he t = N := by unfold asN; rw [if_neg hlast]
  have aC : asC f t = 2 := by unfold asC; rw [if_neg hlast, if_pos (by omega)]
  have aS : asS f t = 4 + (t.length - 1) := by unfold asS; rw [if_neg hlast, if_pos (by omega)]
  obtain ⟨p, ep⟩ : ∃ p, asF N (t.drop 1) = p := ⟨_, rfl⟩
  have aE : asE N he t = [Int32.ofNat p - Int32.ofNat he - 1] := by unfold asE; rw [if_neg hlast, if_neg (by omega), if_pos hfst, ep]
  rw [aN, aC, aS, aE]
  obtain ⟨g', e1, e2, e3⟩ := k_sub1 (d := d + 1) (i := 1) S (by omega) (by omega) hc
  have e1 : am_M (d + 8) 285 [.ref a, .int 1] _ = _ := e1
  have hN2 := NAM_m hN (by show c0 ≤ c0 + 2; omega) e3
  obtain ⟨r, r1, r2⟩ := k_findM (d := d + 5) hN2 rfl (by omega) e2 (by rw [ama_i (by decide) (by decide)]; unfold am_P; omega)
  have eS : s0 + (4 + (t.length - 1)) = s0 + 4 + (t.length - 1) := by omega
  rw [eS]
  have E1 := k_emit (g := g') (c0 := c0 + 2) (s0 := s0 + 4 + (t.length - 1)) (kn := N.length) (he := he) (fi := if f = true then 1 else 0) (kb := kb) (nm := nm) (pc := pc) (v := Int32.ofNat p - Int32.ofNat he - 1) (d := d + 7) (by omega)
  
  have E2 := k_emit (g := g') (c0 := c0 + 2) (s0 := s0 + 4 + (t.length - 1)) (kn := N.length) (he := he + 1) (fi := if f = true then 1 else 0) (kb := up kb he (sb (Int32.ofNat p))) (nm := nm) (pc := pc) (v := Int32.ofNat p >>> 8) (d := d + 7) (by omega)
  have c19 : am_k (am_a c0 0 19) = 19 := ama_k (by decide)
  have FF : FRM (HA g' (c0 + 2) (s0 + 4 + (t.length - 1)) N.length he (if f = true then 1 else 0) kb nm pc) (HA g' (c0 + 2) (s0 + 4 + (t.length - 1)) N.length (he + ([Int32.ofNat p - Int32.ofNat he - 1]).length) (if f = true then 1 else 0) (lay kb he (([Int32.ofNat p - Int32.ofNat he - 1]).map sb)) nm pc) := HA_frm
  refine ⟨g', nm, pc, ?_, NAM_m hN2 (Nat.le_refl _) FF, FRM_t e3 (by show c0 ≤ c0 + 2; omega) FF⟩
  rw [ep] at r2
  rcases r2 with ⟨x1, x2⟩ | ⟨j, x1, x2, x3⟩
  · subst x1
    have g0 : (0 : Int32) ≤ -1 ↔ False := ⟨by decide, False.elim⟩
    have g0' : ((0 : Int32) ≤ -1) = False := propext g0
    subst x2
    have E1' : am_M (d + 8) 204 [.ref 7264534539, .int (0 - Int32.ofNat he - 1)] (HA g' (c0 + 2) (s0 + 4 + (t.length - 1)) N.length he (if f = true then 1 else 0) kb nm pc) = _ := E1
    have E2' : am_M (d + 8) 204 [.ref 7264534539, .int ((0 : Int32) >>> (8 : Int32))] (HA g' (c0 + 2) (s0 + 4 + (t.length - 1)) N.length (he + 1) (if f = true then 1 else 0) (up kb he (sb (Int32.ofNat 0))) nm pc) = _ := E2
    rw [e202 rfl]
    simp (disch := (refine id ?_; first | with_reducible assumption | exact Nat.ne_of_beq_eq_false rfl | with_unfolding_all exact rfl | with_unfolding_all exact Nat.le_of_ble_eq_true rfl | (simp only [am_cat_nil, am_cat_int, am_cat_ref, am_cat_null, am_cat_long, Nat.reduceAdd, Nat.reduceLeDiff]; done) | omega | exact i_bnd2 (by simp only [am_n, Nat.reduceDiv, Nat.reduceMod, Nat.reduceMul, Nat.reduceAdd]; omega) | decide | fail)) only [z202_0, z202_0N, z202_1, z202_4, z202_5, z202_5N, z202_6, z202_7, z202_10, z202_11, z202_11N, z202_12, z202_13, z202_14, z202_15, z202_18, z202_20, z202_23, z202_24, z202_27, z202_30, z202_31, z202_32, z202_35, z202_36, z202_39, z202_39N, z202_40, z202_41, z202_42, z202_43, z202_44, z202_47, z202_48, z202_49, z202_52, z202_53, z202_56, z202_57, z202_60, z202_61, z202_62, z202_62I, z202_63, z202_66, z202_67, z202_68, z202_71, z202_74, z202_75, z202_77, z202_80, z202_81, z202_83, z202_86, z202_87, z202_87N, z202_88, z202_89, z202_92, z202_95, z202_97, z202_99, z202_102, z202_103, z202_106, z202_107, z202_110, z202_112, z202_113, z202_115, z202_116, z202_118, z202_121, z202_122, z202_124, z202_125, z202_128, z202_129, z202_130, z202_131, z202_134, z202_137, z202_138, z202_140, z202_143, z202_144, z202_146, z202_148, z202_149, z202_152, z202_155, z202_156, z202_158, z202_161, z202_162, z202_164, z202_165, z202_167, z202_169, z202_170, z202_173, z202_175, z202_177, z202_178, z202_178N, z202_179, z202_181, z202_184, z202_185, z202_187, z202_188, z202_190, z202_193, z202_196, z202_198, z202_199, z202_201, z202_202, z202_203, z202_205, z202_206, z202_208, z202_211, z202_212, z202_214, z202_216, z202_217, z202_220, z202_223, z202_224, z202_226, z202_227, z202_230, z202_231, z202_231N, z202_232, z202_233, z202_236, z202_239, z202_240, z202_243, HA_r0, HA_r1, HA_r2, HA_r3, HA_r4, HA_r5, HA_a0, HA_a1, HA_a2, HA_w3, HA_w4, HA_w5, HA_b0, HA_b1, HA_b2, L, A0, AL, n1, sk, k58, k61, k126, e1, r1, g0', E1', E2', c19, i_m8, ↓am_kc_f, am_kc_s, ↓reduceIte, i_10, i_00, i_eqll, i_lell, Nat.reduceEqDiff, Nat.reduceLeDiff, am_then_some, am_tl1, am_tl0, List.nil_append, Nat.reduceAdd, ad2]
    rfl
  · subst x1
    have g0 : ((0 : Int32) ≤ Int32.ofNat j) = True := n_ge0 (by omega)
    have tj : (Int32.ofNat j).toNatClampNeg = j := tn_of (by omega)
    have bj : ¬ (Int32.ofNat j < 0 ∨ am_n 7365204008 ≤ (Int32.ofNat j).toNatClampNeg) := i_bnd2 (by simp only [am_n, Nat.reduceDiv, Nat.reduceMod]; omega)
    have pj : pc j = Int32.ofNat p := by rw [← x3]; exact (hN j x2).2.1
    rw [e202 rfl]
    simp (disch := (refine id ?_; first | with_reducible assumption | exact Nat.ne_of_beq_eq_false rfl | with_unfolding_all exact rfl | with_unfolding_all exact Nat.le_of_ble_eq_true rfl | (simp only [am_cat_nil, am_cat_int, am_cat_ref, am_cat_null, am_cat_long, Nat.reduceAdd, Nat.reduceLeDiff]; done) | omega | exact i_bnd2 (by simp only [am_n, Nat.reduceDiv, Nat.reduceMod, Nat.reduceMul, Nat.reduceAdd]; omega) | decide | fail)) only [z202_0, z202_0N, z202_1, z202_4, z202_5, z202_5N, z202_6, z202_7, z202_10, z202_11, z202_11N, z202_12, z202_13, z202_14, z202_15, z202_18, z202_20, z202_23, z202_24, z202_27, z202_30, z202_31, z202_32, z202_35, z202_36, z202_39, z202_39N, z202_40, z202_41, z202_42, z202_43, z202_44, z202_47, z202_48, z202_49, z202_52, z202_53, z202_56, z202_57, z202_60, z202_61, z202_62, z202_62I, z202_63, z202_66, z202_67, z202_68, z202_71, z202_74, z202_75, z202_77, z202_80, z202_81, z202_83, z202_86, z202_87, z202_87N, z202_88, z202_89, z202_92, z202_95, z202_97, z202_99, z202_102, z202_103, z202_106, z202_107, z202_110, z202_112, z202_113, z202_115, z202_116, z202_118, z202_121, z202_122, z202_124, z202_125, z202_128, z202_129, z202_130, z202_131, z202_134, z202_137, z202_138, z202_140, z202_143, z202_144, z202_146, z202_148, z202_149, z202_152, z202_155, z202_156, z202_158, z202_161, z202_162, z202_164, z202_165, z202_167, z202_169, z202_170, z202_173, z202_175, z202_177, z202_178, z202_178N, z202_179, z202_181, z202_184, z202_185, z202_187, z202_188, z202_190, z202_193, z202_196, z202_198, z202_199, z202_201, z202_202, z202_203, z202_205, z202_206, z202_208, z202_211, z202_212, z202_214, z202_216, z202_217, z202_220, z202_223, z202_224, z202_226, z202_227, z202_230, z202_231, z202_231N, z202_232, z202_233, z202_236, z202_239, z202_240, z202_243, HA_r0, HA_r1, HA_r2, HA_r3, HA_r4, HA_r5, HA_a0, HA_a1, HA_a2, HA_w3, HA_w4, HA_w5, HA_b0, HA_b1, HA_b2, L, A0, AL, n1, sk, k58, k61, k126, e1, r1, g0, E1, E2, c19, tj, bj, pj, i_m8, ↓am_kc_f, am_kc_s, ↓reduceIte, i_10, i_00, i_eqll, i_lell, Nat.reduceEqDiff, Nat.reduceLeDiff, am_then_some, am_tl1, am_tl0, List.nil_append, Nat.reduceAdd, ad2]
    rfl
theorem hexc_ok {c : Nat} (h : hexc c = true) : 48 ≤ c ∧ (c ≤ 57 ∨ 65 ≤ c) ∧ c ≤ 70 := by
  unfold hexc at h
  simp only [Bool.or_eq_true, Bool.and_eq_true, decide_eq_true_eq] at h
  omega
theorem tk_hex {g : Nat → Nat → Value} {c0 s0 he : Nat} {kb : Nat → Int32} {nm : Nat → Value} {pc : Nat → Int32} {N : List (List Nat × Nat)} {f : Bool} {a d : Nat} {t : List Nat} (S : STK (HA g c0 s0 N.length he (if f = true then 1 else 0) kb nm pc) a t) (hp_ : am_P ≤ am_i a) (hN : NAM (HA g c0 s0 N.length he (if f = true then 1 else 0) kb nm pc) N nm pc) (hn : N.length < 95) (hh : he + 2 < 2048) (hc : 440 ≤ c0) (h8 : ∀ j, t.getD j 0 < 128) (hl : 2 ≤ t.length) (hl2 : t.length < 100) (h1 : t.length = 2) (h2 : hexc (t.getD 0 0) = true) (h3 : hexc (t.getD 1 0) = true) : ∃ g' nm' pc', am_M (d + 9) 202 [.ref 7264534539, .ref a] (HA g c0 s0 N.length he (if f = true then 1 else 0) kb nm pc) = some (none, HA g' (c0 + asC f t) (s0 + asS f t) (asN f N he t).length (he + (asE N he t).length) (if f = true then 1 else 0) (lay kb he ((asE N he t).map sb)) nm' pc') ∧ NAM (HA g' (c0 + asC f t) (s0 + asS f t) (asN f N he t).length (he + (asE N he t).length) (if f = true then 1 else 0) (lay kb he ((asE N he t).map sb)) nm' pc') (asN f N he t) nm' pc' ∧ FRM (HA g c0 s0 N.length he (if f = true then 1 else 0) kb nm pc) (HA g' (c0 + asC f t) (s0 + asS f t) (asN f N he t).length (he + (asE N he t).length) (if f = true then 1 else 0) (lay kb he ((asE N he t).map sb)) nm' pc') := by
  obtain ⟨n, en⟩ : ∃ n, t.length = n := ⟨_, rfl⟩
  have L := str_len (d := d + 6) S.1
  have A0 : am_M (d + 8) 279 [.ref a, .int 0] (HA g c0 s0 N.length he (if f = true then 1 else 0) kb nm pc) = some (some (.int (Int32.ofNat (t.getD 0 0))), (HA g c0 s0 N.length he (if f = true then 1 else 0) kb nm pc)) := str_at (j := 0) (d := d + 4) S.1 (by omega)
  have AL := str_at (j := t.length - 1) (d := d + 4) S.1 (by omega)
  rw [en] at L AL hl hl2
  have n1 : Int32.ofNat n - 1 = Int32.ofNat (n - 1) := n_subl n 1 (by show 1 ≤ n; omega)
  have sk := S.1.1
  obtain ⟨c, ec⟩ : ∃ c, t.getD 0 0 = c := ⟨_, rfl⟩
  obtain ⟨z, ez⟩ : ∃ z, t.getD (n - 1) 0 = z := ⟨_, rfl⟩
  have hc8 := h8 0
  have hz8 := h8 (n - 1)
  rw [ec] at A0 hc8
  rw [ez] at AL hz8
  have q58 : (Int32.ofNat z = 58) = (z = 58) := n_eql z 58 (by omega) (by decide)
  have q61 : (Int32.ofNat c = 61) = (c = 61) := n_eql c 61 (by omega) (by decide)
  have q126 : (Int32.ofNat c = 126) = (c = 126) := n_eql c 126 (by omega) (by decide)
  have q35 : (Int32.ofNat c = 35) = (c = 35) := n_eql c 35 (by omega) (by decide)
  have A1 : am_M (d + 8) 279 [.ref a, .int 1] (HA g c0 s0 N.length he (if f = true then 1 else 0) kb nm pc) = some (some (.int (Int32.ofNat (t.getD 1 0))), (HA g c0 s0 N.length he (if f = true then 1 else 0) kb nm pc)) := str_at (j := 1) (d := d + 4) S.1 (by omega)
  have hz1 : t.getD 1 0 = z := by rw [← ez]; congr 1; omega
  rw [hz1] at h3 A1
  rw [ec] at h2
  have b2 := hexc_ok h2
  have b3 := hexc_ok h3
  have k58 := q58.trans (eq_false (by omega))
  have k61 := q61.trans (eq_false (by omega))
  have k126 := q126.trans (eq_false (by omega))
  have k35 := q35.trans (eq_false (by omega))
  have hlast : ¬ t.getD (t.length - 1) 0 = 58 := by rw [en, ez]; omega
  have f1 : ¬ t.getD 0 0 = 61 := by rw [ec]; omega
  have f2 : ¬ t.getD 0 0 = 126 := by rw [ec]; omega
  have f3 : ¬ t.getD 0 0 = 35 := by rw [ec]; omega
  have aN : asN f N he t = N := by unfold asN; rw [if_neg hlast]
  have aC : asC f t = 0 := by unfold asC; rw [if_neg hlast, if_neg (by omega)]
  have aS : asS f t = 0 := by unfold asS; rw [if_neg hlast, if_neg (by omega)]
  have aE : asE N he t = [Int32.ofNat (16 * hx c + hx z)] := by unfold asE; rw [if_neg hlast, if_neg f1, if_neg f2, if_neg f3, ec, hz1]
  rw [aN, aC, aS, aE]
  have D1 := k_digit (h := (HA g c0 s0 N.length he (if f = true then 1 else 0) kb nm pc)) (d := d + 7) hc8 b2.1 b2.2.1
  have D2 := k_digit (h := (HA g c0 s0 N.length he (if f = true then 1 else 0) kb nm pc)) (d := d + 7) hz8 b3.1 b3.2.1
  have v1 : (16 : Int32) * Int32.ofNat (hx c) = Int32.ofNat (16 * hx c) := n_mul (a := 16)
  have v2 : Int32.ofNat (16 * hx c) + Int32.ofNat (hx z) = Int32.ofNat (16 * hx c + hx z) := n_add
  have E1 := k_emit (g := g) (c0 := c0) (s0 := s0) (kn := N.length) (he := he) (fi := if f = true then 1 else 0) (kb := kb) (nm := nm) (pc := pc) (v := Int32.ofNat (16 * hx c + hx z)) (d := d + 7) (by omega)
  have FF : FRM (HA g c0 s0 N.length he (if f = true then 1 else 0) kb nm pc) (HA g (c0 + 0) (s0 + 0) N.length (he + ([Int32.ofNat (16 * hx c + hx z)] : List Int32).length) (if f = true then 1 else 0) (lay kb he (([Int32.ofNat (16 * hx c + hx z)] : List Int32).map sb)) nm pc) := HA_frm
  refine ⟨g, nm, pc, ?_, NAM_m hN (Nat.le_refl _) FF, FF⟩
  rw [e202 rfl]
  simp (disch := (refine id ?_; first | with_reducible assumption | exact Nat.ne_of_beq_eq_false rfl | with_unfolding_all exact rfl | with_unfolding_all exact Nat.le_of_ble_eq_true rfl | (simp only [am_cat_nil, am_cat_int, am_cat_ref, am_cat_null, am_cat_long, Nat.reduceAdd, Nat.reduceLeDiff]; done) | omega | exact i_bnd2 (by simp only [am_n, Nat.reduceDiv, Nat.reduceMod, Nat.reduceMul, Nat.reduceAdd]; omega) | decide | fail)) only [z202_0, z202_0N, z202_1, z202_4, z202_5, z202_5N, z202_6, z202_7, z202_10, z202_11, z202_11N, z202_12, z202_13, z202_14, z202_15, z202_18, z202_20, z202_23, z202_24, z202_27, z202_30, z202_31, z202_32, z202_35, z202_36, z202_39, z202_39N, z202_40, z202_41, z202_42, z202_43, z202_44, z202_47, z202_48, z202_49, z202_52, z202_53, z202_56, z202_57, z202_60, z202_61, z202_62, z202_62I, z202_63, z202_66, z202_67, z202_68, z202_71, z202_74, z202_75, z202_77, z202_80, z202_81, z202_83, z202_86, z202_87, z202_87N, z202_88, z202_89, z202_92, z202_95, z202_97, z202_99, z202_102, z202_103, z202_106, z202_107, z202_110, z202_112, z202_113, z202_115, z202_116, z202_118, z202_121, z202_122, z202_124, z202_125, z202_128, z202_129, z202_130, z202_131, z202_134, z202_137, z202_138, z202_140, z202_143, z202_144, z202_146, z202_148, z202_149, z202_152, z202_155, z202_156, z202_158, z202_161, z202_162, z202_164, z202_165, z202_167, z202_169, z202_170, z202_173, z202_175, z202_177, z202_178, z202_178N, z202_179, z202_181, z202_184, z202_185, z202_187, z202_188, z202_190, z202_193, z202_196, z202_198, z202_199, z202_201, z202_202, z202_203, z202_205, z202_206, z202_208, z202_211, z202_212, z202_214, z202_216, z202_217, z202_220, z202_223, z202_224, z202_226, z202_227, z202_230, z202_231, z202_231N, z202_232, z202_233, z202_236, z202_239, z202_240, z202_243, HA_r0, HA_r1, HA_r2, HA_r3, HA_r4, HA_r5, HA_a0, HA_a1, HA_a2, HA_w3, HA_w4, HA_w5, HA_b0, HA_b1, HA_b2, L, A0, AL, n1, sk, A1, k58, k61, k126, k35, D1, D2, v1, v2, E1, ↓am_kc_f, am_kc_s, ↓reduceIte, i_10, i_00, i_eqll, i_lell, Nat.reduceEqDiff, Nat.reduceLeDiff, am_then_some, am_tl1, am_tl0, List.nil_append, Nat.reduceAdd, ad2]
  rfl
theorem tk_numl {g : Nat → Nat → Value} {c0 s0 he : Nat} {kb : Nat → Int32} {nm : Nat → Value} {pc : Nat → Int32} {N : List (List Nat × Nat)} {f : Bool} {a d : Nat} {t : List Nat} (S : STK (HA g c0 s0 N.length he (if f = true then 1 else 0) kb nm pc) a t) (hd : ∀ j, 0 < j → j < t.length → 48 ≤ t.getD j 0 ∧ t.getD j 0 ≤ 57) (h8 : ∀ j, t.getD j 0 < 128) (hl2 : t.length < 4) {l3 l5 : Option Value} : ∀ (m k v : Nat), k + m = t.length → 0 < k → v < 1000 * 10 ^ k →
    am_G (d + 8) 202 167 [some (.ref 7264534539), some (.ref a), some (.int (Int32.ofNat t.length)), l3, some (.int (Int32.ofNat v)), some (.int (Int32.ofNat k))] [] (HA g c0 s0 N.length he (if f = true then 1 else 0) kb nm pc) = am_G (d + 8) 202 196 [some (.ref 7264534539), some (.ref a), some (.int (Int32.ofNat t.length)), l3, some (.int (Int32.ofNat (asV v (t.drop k)))), some (.int (Int32.ofNat t.length))] [] (HA g c0 s0 N.length he (if f = true then 1 else 0) kb nm pc) := by
  have sk := S.1.1
  intro m
  induction m with
  | zero =>
    intro k v hm hk hv
    have c : (Int32.ofNat t.length ≤ Int32.ofNat k) = True := (n_le (by omega) (by omega)).trans (eq_true (by omega))
    have e : t.drop k = [] := List.drop_eq_nil_of_le (by omega)
    have ek : k = t.length := by omega
    rw [e, z202_167]
    simp (disch := (refine id ?_; first | with_reducible assumption | exact Nat.ne_of_beq_eq_false rfl | with_unfolding_all exact rfl | with_unfolding_all exact Nat.le_of_ble_eq_true rfl | (simp only [am_cat_nil, am_cat_int, am_cat_ref, am_cat_null, am_cat_long, Nat.reduceAdd, Nat.reduceLeDiff]; done) | omega | exact i_bnd2 (by simp only [am_n, Nat.reduceDiv, Nat.reduceMod, Nat.reduceMul, Nat.reduceAdd]; omega) | decide | fail)) only [z202_169, z202_170, z202_173, z202_175, z202_177, z202_178, z202_178N, z202_179, z202_181, z202_184, z202_185, z202_187, z202_188, z202_190, z202_193, HA_r0, HA_r1, HA_r2, HA_r3, HA_r4, HA_r5, HA_a0, HA_a1, HA_a2, HA_w3, HA_w4, HA_w5, HA_b0, HA_b1, HA_b2, c, ↓am_kc_f, am_kc_s, ↓reduceIte, i_10, i_00, i_eqll, i_lell, Nat.reduceEqDiff, Nat.reduceLeDiff, am_then_some, am_tl1, am_tl0, List.nil_append, Nat.reduceAdd, ad2]
    rw [ek]
    rfl
  | succ m ih =>
    intro k v hm hk hv
    have c : (Int32.ofNat t.length ≤ Int32.ofNat k) = False := (n_le (by omega) (by omega)).trans (eq_false (by omega))
    have A := str_at (j := k) (d := d + 4) S.1 (by omega)
    obtain ⟨x, ex⟩ : ∃ x, t.getD k 0 = x := ⟨_, rfl⟩
    have hx_ := hd k hk (by omega)
    rw [ex] at A hx_
    have p : 10 ^ k ≤ 10 ^ 3 := Nat.pow_le_pow_right (by decide) (by omega)
    have p2 : 10 ^ (k + 1) = 10 * 10 ^ k := by rw [Nat.pow_succ, Nat.mul_comm]
    have p1 : 1 ≤ 10 ^ k := Nat.le_trans Nat.one_le_two_pow (Nat.pow_le_pow_left (by decide) k)
    have v1 : (10 : Int32) * Int32.ofNat v = Int32.ofNat (10 * v) := n_mul (a := 10)
    have v2 : Int32.ofNat (10 * v) + Int32.ofNat x = Int32.ofNat (10 * v + x) := n_add
    have v3 : Int32.ofNat (10 * v + x) - 48 = Int32.ofNat (10 * v + x - 48) := n_subl (10 * v + x) 48 (by show 48 ≤ 10 * v + x; omega)
    have k1 : Int32.ofNat k + 1 = Int32.ofNat (k + 1) := n_add (y := 1)
    have I := ih (k + 1) (10 * v + x - 48) (by omega) (by omega) (by rw [p2]; omega)
    have e : asV v (t.drop k) = asV (10 * v + x - 48) (t.drop (k + 1)) := by
      have e1 : t.drop k = x :: t.drop (k + 1) := by
        rw [List.drop_eq_getElem_cons (by omega), ← ex]
        congr 1
        rw [List.getD_eq_getElem?_getD, List.getElem?_eq_getElem (by omega)]
        rfl
      rw [e1]
      show asV (10 * v + (x - 48)) _ = _
      rw [show 10 * v + (x - 48) = 10 * v + x - 48 by omega]
    rw [e, z202_167]
    simp (disch := (refine id ?_; first | with_reducible assumption | exact Nat.ne_of_beq_eq_false rfl | with_unfolding_all exact rfl | with_unfolding_all exact Nat.le_of_ble_eq_true rfl | (simp only [am_cat_nil, am_cat_int, am_cat_ref, am_cat_null, am_cat_long, Nat.reduceAdd, Nat.reduceLeDiff]; done) | omega | exact i_bnd2 (by simp only [am_n, Nat.reduceDiv, Nat.reduceMod, Nat.reduceMul, Nat.reduceAdd]; omega) | decide | fail)) only [z202_169, z202_170, z202_173, z202_175, z202_177, z202_178, z202_178N, z202_179, z202_181, z202_184, z202_185, z202_187, z202_188, z202_190, z202_193, HA_r0, HA_r1, HA_r2, HA_r3, HA_r4, HA_r5, HA_a0, HA_a1, HA_a2, HA_w3, HA_w4, HA_w5, HA_b0, HA_b1, HA_b2, c, A, v1, v2, v3, k1, I, ↓am_kc_f, am_kc_s, ↓reduceIte, i_10, i_00, i_eqll, i_lell, Nat.reduceEqDiff, Nat.reduceLeDiff, am_then_some, am_tl1, am_tl0, List.nil_append, Nat.reduceAdd, ad2]
theorem asV_le {l : List Nat} (h : l.length ≤ 2) (h2 : ∀ x ∈ l, x ≤ 57) : asV 0 l ≤ 99 := by
  match l, h, h2 with
  | [], _, _ => exact Nat.zero_le _
  | [a], _, h2 =>
    have := h2 a (by simp)
    show 10 * 0 + (a - 48) ≤ 99
    omega
  | [a, b], _, h2 =>
    have := h2 a (by simp)
    have := h2 b (by simp)
    show 10 * (10 * 0 + (a - 48)) + (b - 48) ≤ 99
    omega
theorem tk_num {g : Nat → Nat → Value} {c0 s0 he : Nat} {kb : Nat → Int32} {nm : Nat → Value} {pc : Nat → Int32} {N : List (List Nat × Nat)} {f : Bool} {a d : Nat} {t : List Nat} (S : STK (HA g c0 s0 N.length he (if f = true then 1 else 0) kb nm pc) a t) (hp_ : am_P ≤ am_i a) (hN : NAM (HA g c0 s0 N.length he (if f = true then 1 else 0) kb nm pc) N nm pc) (hn : N.length < 95) (hh : he + 2 < 2048) (hc : 440 ≤ c0) (h8 : ∀ j, t.getD j 0 < 128) (hl : 2 ≤ t.length) (hl2 : t.length < 100) (hz : t.getD (t.length - 1) 0 ≠ 58) (h0 : t.getD 0 0 = 35) (hd : ∀ j, 0 < j → j < t.length → 48 ≤ t.getD j 0 ∧ t.getD j 0 ≤ 57) (hl3 : t.length < 4) : ∃ g' nm' pc', am_M (d + 9) 202 [.ref 7264534539, .ref a] (HA g c0 s0 N.length he (if f = true then 1 else 0) kb nm pc) = some (none, HA g' (c0 + asC f t) (s0 + asS f t) (asN f N he t).length (he + (asE N he t).length) (if f = true then 1 else 0) (lay kb he ((asE N he t).map sb)) nm' pc') ∧ NAM (HA g' (c0 + asC f t) (s0 + asS f t) (asN f N he t).length (he + (asE N he t).length) (if f = true then 1 else 0) (lay kb he ((asE N he t).map sb)) nm' pc') (asN f N he t) nm' pc' ∧ FRM (HA g c0 s0 N.length he (if f = true then 1 else 0) kb nm pc) (HA g' (c0 + asC f t) (s0 + asS f t) (asN f N he t).length (he + (asE N he t).length) (if f = true then 1 else 0) (lay kb he ((asE N he t).map sb)) nm' pc') := by
  have NL := fun l3 => tk_numl (d := d) S hd h8 hl3 (l3 := l3) (l5 := none) (t.length - 1) 1 0 (by omega) (by decide) (by decide)
  obtain ⟨n, en⟩ : ∃ n, t.length = n := ⟨_, rfl⟩
  have L := str_len (d := d + 6) S.1
  have A0 : am_M (d + 8) 279 [.ref a, .int 0] (HA g c0 s0 N.length he (if f = true then 1 else 0) kb nm pc) = some (some (.int (Int32.ofNat (t.getD 0 0))), (HA g c0 s0 N.length he (if f = true then 1 else 0) kb nm pc)) := str_at (j := 0) (d := d + 4) S.1 (by omega)
  have AL := str_at (j := t.length - 1) (d := d + 4) S.1 (by omega)
  rw [en] at L AL hl hl2
  have n1 : Int32.ofNat n - 1 = Int32.ofNat (n - 1) := n_subl n 1 (by show 1 ≤ n; omega)
  have sk := S.1.1
  obtain ⟨c, ec⟩ : ∃ c, t.getD 0 0 = c := ⟨_, rfl⟩
  obtain ⟨z, ez⟩ : ∃ z, t.getD (n - 1) 0 = z := ⟨_, rfl⟩
  have hc8 := h8 0
  have hz8 := h8 (n - 1)
  rw [ec] at A0 hc8
  rw [ez] at AL hz8
  have q58 : (Int32.ofNat z = 58) = (z = 58) := n_eql z 58 (by omega) (by decide)
  have q61 : (Int32.ofNat c = 61) = (c = 61) := n_eql c 61 (by omega) (by decide)
  have q126 : (Int32.ofNat c = 126) = (c = 126) := n_eql c 126 (by omega) (by decide)
  have q35 : (Int32.ofNat c = 35) = (c = 35) := n_eql c 35 (by omega) (by decide)
  rw [en, ez] at hz
  rw [ec] at h0
  rw [en] at NL
  have k58 := q58.trans (eq_false hz)
  have k61 := q61.trans (eq_false (by omega))
  have k126 := q126.trans (eq_false (by omega))
  have k35 := q35.trans (eq_true (by omega))
  have hlast : ¬ t.getD (t.length - 1) 0 = 58 := by rw [en, ez]; exact hz
  have f1 : ¬ t.getD 0 0 = 61 := by rw [ec]; omega
  have f2 : ¬ t.getD 0 0 = 126 := by rw [ec]; omega
  have f3 : t.getD 0 0 = 35 := by rw [ec]; omega
  have aN : asN f N he t = N := by unfold asN; rw [if_neg hlast]
  have aC : asC f t = 0 := by unfold asC; rw [if_neg hlast, if_neg (by omega)]
  have aS : asS f t = 0 := by unfold asS; rw [if_neg hlast, if_neg (by omega)]
  have vle : asV 0 (t.drop 1) ≤ 99 := asV_le (by rw [List.length_drop]; omega) (fun x hx_ => by
    obtain ⟨j, hj, ej⟩ := List.getElem_of_mem hx_
    rw [List.length_drop] at hj
    have := (hd (1 + j) (by omega) (by omega)).2
    rw [List.getElem_drop] at ej
    rw [List.getD_eq_getElem?_getD, List.getElem?_eq_getElem (by omega)] at this
    rw [← ej]
    exact this)
  obtain ⟨v, ev⟩ : ∃ v, asV 0 (t.drop 1) = v := ⟨_, rfl⟩
  rw [ev] at NL vle
  have NL : ∀ l3, am_G (d + 8) 202 167 [some (.ref 7264534539), some (.ref a), some (.int (Int32.ofNat n)), l3, some (.int 0), some (.int 1)] [] (HA g c0 s0 N.length he (if f = true then 1 else 0) kb nm pc) = am_G (d + 8) 202 196 [some (.ref 7264534539), some (.ref a), some (.int (Int32.ofNat n)), l3, some (.int (Int32.ofNat v)), some (.int (Int32.ofNat n))] [] (HA g c0 s0 N.length he (if f = true then 1 else 0) kb nm pc) := NL
  have aE : asE N he t = [Int32.ofNat (64 + 3 * v), Int32.ofNat (64 + 3 * v) >>> 8] := by unfold asE; rw [if_neg hlast, if_neg f1, if_neg f2, if_pos f3, ev]
  rw [aN, aC, aS, aE]
  have v1 : (3 : Int32) * Int32.ofNat v = Int32.ofNat (3 * v) := n_mul (a := 3)
  have v2 : (64 : Int32) + Int32.ofNat (3 * v) = Int32.ofNat (64 + 3 * v) := n_add (x := 64)
  have E1 := k_emit (g := g) (c0 := c0) (s0 := s0) (kn := N.length) (he := he) (fi := if f = true then 1 else 0) (kb := kb) (nm := nm) (pc := pc) (v := Int32.ofNat (64 + 3 * v)) (d := d + 7) (by omega)
  have E2 := k_emit (g := g) (c0 := c0) (s0 := s0) (kn := N.length) (he := he + 1) (fi := if f = true then 1 else 0) (kb := up kb he (sb (Int32.ofNat (64 + 3 * v)))) (nm := nm) (pc := pc) (v := Int32.ofNat (64 + 3 * v) >>> 8) (d := d + 7) (by omega)
  have FF : FRM (HA g c0 s0 N.length he (if f = true then 1 else 0) kb nm pc) (HA g (c0 + 0) (s0 + 0) N.length (he + ([Int32.ofNat (64 + 3 * v), Int32.ofNat (64 + 3 * v) >>> 8] : List Int32).length) (if f = true then 1 else 0) (lay kb he (([Int32.ofNat (64 + 3 * v), Int32.ofNat (64 + 3 * v) >>> 8] : List Int32).map sb)) nm pc) := HA_frm
  refine ⟨g, nm, pc, ?_, NAM_m hN (Nat.le_refl _) FF, FF⟩
  rw [e202 rfl]
  simp (disch := (refine id ?_; first | with_reducible assumption | exact Nat.ne_of_beq_eq_false rfl | with_unfolding_all exact rfl | with_unfolding_all exact Nat.le_of_ble_eq_true rfl | (simp only [am_cat_nil, am_cat_int, am_cat_ref, am_cat_null, am_cat_long, Nat.reduceAdd, Nat.reduceLeDiff]; done) | omega | exact i_bnd2 (by simp only [am_n, Nat.reduceDiv, Nat.reduceMod, Nat.reduceMul, Nat.reduceAdd]; omega) | decide | fail)) only [z202_0, z202_0N, z202_1, z202_4, z202_5, z202_5N, z202_6, z202_7, z202_10, z202_11, z202_11N, z202_12, z202_13, z202_14, z202_15, z202_18, z202_20, z202_23, z202_24, z202_27, z202_30, z202_31, z202_32, z202_35, z202_36, z202_39, z202_39N, z202_40, z202_41, z202_42, z202_43, z202_44, z202_47, z202_48, z202_49, z202_52, z202_53, z202_56, z202_57, z202_60, z202_61, z202_62, z202_62I, z202_63, z202_66, z202_67, z202_68, z202_71, z202_74, z202_75, z202_77, z202_80, z202_81, z202_83, z202_86, z202_87, z202_87N, z202_88, z202_89, z202_92, z202_95, z202_97, z202_99, z202_102, z202_103, z202_106, z202_107, z202_110, z202_112, z202_113, z202_115, z202_116, z202_118, z202_121, z202_122, z202_124, z202_125, z202_128, z202_129, z202_130, z202_131, z202_134, z202_137, z202_138, z202_140, z202_143, z202_144, z202_146, z202_148, z202_149, z202_152, z202_155, z202_156, z202_158, z202_161, z202_162, z202_164, z202_165, z202_196, z202_198, z202_199, z202_201, z202_202, z202_203, z202_205, z202_206, z202_208, z202_211, z202_212, z202_214, z202_216, z202_217, z202_220, z202_223, z202_224, z202_226, z202_227, z202_230, z202_231, z202_231N, z202_232, z202_233, z202_236, z202_239, z202_240, z202_243, HA_r0, HA_r1, HA_r2, HA_r3, HA_r4, HA_r5, HA_a0, HA_a1, HA_a2, HA_w3, HA_w4, HA_w5, HA_b0, HA_b1, HA_b2, L, A0, AL, n1, sk, k58, k61, k126, k35, NL, v1, v2, E1, E2, i_m8, ↓am_kc_f, am_kc_s, ↓reduceIte, i_10, i_00, i_eqll, i_lell, Nat.reduceEqDiff, Nat.reduceLeDiff, am_then_some, am_tl1, am_tl0, List.nil_append, Nat.reduceAdd, ad2]
  rfl
