/-! SOUNDNESS: calls, by their kinds; ends; the whole -/
theorem lw_good4 {a b c d : Cond} (h1 : a ∈ lw_all) (h2 : b ∈ lw_all) (h3 : c ∈ lw_all) (h4 : d ∈ lw_all) : ∀ w ∈ ([a, b, c, d] : List Cond), w ∈ lw_all := by
  intro w hw
  simp only [List.mem_cons, List.not_mem_nil, or_false] at hw
  rcases hw with rfl | rfl | rfl | rfl <;> assumption
section SN10
variable {p : Program} {l : Launch} {e : Env} {R : Room} {s : State} {m : MethodId} {args : Array Value} {below : List Frame} {meth : Method} {c : Code} {Q : State → Prop}
variable {D : sn_D} {tg0 : Nat → Nat} {h0 : am_H} {x : am_R} {nL mid pc pc' : Nat} {ls ls' : am_L} {st st' : List Value} {h h' : am_H}
theorem sn_stk {n : Nat} {w : Value} {r : List Value} (hdr : st.drop n = w :: r) : st.map (sn_v D) = ((st.take n).reverse.map (sn_v D)).reverse ++ sn_v D w :: r.map (sn_v D) := by
  conv => lhs; rw [← List.take_append_drop n st, hdr]
  simp [List.map_reverse]
theorem sn_recv {tg : Nat → Nat} {H : Heap} {b f : Nat} (hE : sn_E D s) (hR : sn_R D tg s h H) (ho : sn_ok tg h.1 (.ref b)) (hk : am_k b = am_own f) (h20 : am_own f < 20) (h0 : 0 < am_own f) (hy : (am_y f).cls = am_nm (am_own f)) : ∃ (q : Nat) (cell : Cell), sn_v D (.ref b) = .ref q ∧ H[q]? = some cell ∧ cell.vm.isStatics = false ∧ s.vm.findClass (am_y f).cls = some cell.cls ∧ ∃ cC, ClassAt s (am_y f).cls cC := by
  obtain ⟨r, hr⟩ : ∃ r, am_cls[am_own f]? = some r := ⟨_, List.getElem?_eq_getElem (show am_own f < am_cls.length from h20)⟩
  obtain ⟨q, cell, e1, e2, e3, e4, e5, e6, e7, hKn⟩ := sn_obj hE hR ho hr hk
  have hnm : r.1 = am_nm (am_own f) := by
    have : ∀ (c : Nat) (r : vw_C), 0 < c → am_cls[c]? = some r → r.1 = am_nm c := by
      intro c r hc hr
      match c, hc, hr with
      | 1, _, h => obtain rfl := Option.some.inj h; rfl
      | 2, _, h => obtain rfl := Option.some.inj h; rfl
      | 3, _, h => obtain rfl := Option.some.inj h; rfl
      | 4, _, h => obtain rfl := Option.some.inj h; rfl
      | 5, _, h => obtain rfl := Option.some.inj h; rfl
      | 6, _, h => obtain rfl := Option.some.inj h; rfl
      | 7, _, h => obtain rfl := Option.some.inj h; rfl
      | 8, _, h => obtain rfl := Option.some.inj h; rfl
      | 9, _, h => obtain rfl := Option.some.inj h; rfl
      | 10, _, h => obtain rfl := Option.some.inj h; rfl
      | 11, _, h => obtain rfl := Option.some.inj h; rfl
      | 12, _, h => obtain rfl := Option.some.inj h; rfl
      | 13, _, h => obtain rfl := Option.some.inj h; rfl
      | 14, _, h => obtain rfl := Option.some.inj h; rfl
      | 15, _, h => obtain rfl := Option.some.inj h; rfl
      | 16, _, h => obtain rfl := Option.some.inj h; rfl
      | 17, _, h => obtain rfl := Option.some.inj h; rfl
      | 18, _, h => obtain rfl := Option.some.inj h; rfl
      | 19, _, h => obtain rfl := Option.some.inj h; rfl
      | n + 20, _, h => simp [am_cls] at h
    exact this _ _ h0 hr
  exact ⟨q, cell, e1, e2, e3, by rw [hy, ← hnm, e6]; exact hKn.2.1, D.1 (am_own f), by rw [hy, ← hnm]; exact hKn.2⟩
set_option maxHeartbeats 16000000 in
theorem sn_s7c {d : Nat} (hx : p.tables.exec = Jvm.exec) (hb : c.code = am_code mid) (hml : c.maxLocals = nL) (hE : sn_E D s) (hts : ∀ w ∈ lw_all, w.before args s = true) (hown : s.vm.findClass (am_nm (am_own mid)) = some m.cls) (hfr : d + 1 ≤ R.frames) (hlo : 64 * d + 64 ≤ R.locals) (hRc : x.2.1 - h0.1 ≤ R.cells) (hRs : x.2.2.1 - h0.2.1 ≤ R.slots) {i : Instr} {n : Nat} (hd : decode (am_code mid) pc = .ok (i, n)) {f : Nat} {as r : List Value} (E : am_s7 mid i n pc ls st h = some (.inr (.inr (f, as, pc', ls', r, h'))))
    {v : Option Value} {h2 : am_H} (IH : sn_C l D d f as h' (v, h2))
    (K : sn_W D s m (fun H locs k n g => W p l e R s m args below meth c H locs k n Q g) tg0 h0 x nL pc' ls' (v.toList ++ r) h2) : sn_W D s m (fun H locs k n g => W p l e R s m args below meth c H locs k n Q g) tg0 h0 x nL pc ls st h := by
  have call : ∀ {f0 : Nat} {as0 : List Value} {pc1 : Nat} {r0 : List Value}, am_call f0 as0 pc1 ls r0 h = some (.inr (.inr (f, as, pc', ls', r, h'))) → am_cat r0 ≤ 8 ∧ f0 = f ∧ as0 = as ∧ pc1 = pc' ∧ ls = ls' ∧ r0 = r ∧ h = h' := by
    intro f0 as0 pc1 r0 w
    unfold am_call at w
    split at w
    · cases w
      exact ⟨by assumption, rfl, rfl, rfl, rfl, rfl, rfl⟩
    · cases w
  have vir : ∀ {f0 pc1 : Nat}, am_vir f0 pc1 ls st h = some (.inr (.inr (f, as, pc', ls', r, h'))) → ∃ b, st.drop (am_ar f) = .ref b :: r ∧ am_ar f ≤ st.length ∧ am_k b = am_own f ∧ am_cat r ≤ 8 ∧ f0 = f ∧ as = .ref b :: (st.take (am_ar f)).reverse ∧ pc1 = pc' ∧ ls = ls' ∧ h = h' := by
    intro f0 pc1 w
    unfold am_vir at w
    split at w
    · rename_i b r0 hdr
      split at w
      · rename_i hc
        obtain ⟨g1, g2, g3, g4, g5, g6, g7⟩ := call w
        subst g2; subst g6
        exact ⟨b, hdr, hc.1, hc.2, g1, rfl, g3.symm, g4, g5, g7⟩
      · cases w
    · cases w
  have hw8 : ∀ {q : Nat} {Ls : Array Slot} {st0 : List Value}, am_cat r ≤ 8 → 2 * (F0 m q Ls st0).monitorRoom + ((r.map (sn_v D)).map fun v => v.category).sum ≤ 8 := by
    intro q Ls st0 w
    exact lv_room (by rw [sn_sum hE.1]; exact w)
  have lenAs : am_ar f ≤ st.length → ((st.take (am_ar f)).reverse.map (sn_v D)).length = am_ar f := by
    intro w
    simp [w]
  have hsub1 : ∀ w ∈ (st.take (am_ar f)).reverse, w ∈ st := fun w hw => List.mem_of_mem_take (List.mem_reverse.mp hw)
  have hsubd : ∀ {k : Nat} {y : Value} {r0 : List Value}, st.drop k = y :: r0 → y ∈ st ∧ ∀ w ∈ r0, w ∈ st := fun hdr => ⟨List.mem_of_mem_drop (by rw [hdr]; exact List.mem_cons_self), fun w hw => List.mem_of_mem_drop (by rw [hdr]; exact List.mem_cons_of_mem _ hw)⟩
  cases i
  case invokevirtual k =>
    obtain ⟨rfl, E2⟩ := am_w_some E
    split at E2
    · rename_i f0 kk hf
      split at E2
      · rename_i hk
        obtain ⟨b, hdr, hlen, hkb, hcat, rfl, rfl, rfl, rfl, rfl⟩ := vir E2
        obtain ⟨hmy, hmn, hmh, hmx, hma, hmi, hmini, hmc⟩ := ct_m f0 ((ct_mr hf).1 (by rcases hk with w | w <;> omega)).1 ((ct_mr hf).1 (by rcases hk with w | w <;> omega)).2
        obtain ⟨hbm, hrm⟩ := hsubd hdr
        refine sn_called IH (fun w hw => (List.mem_cons.mp hw).elim (fun q => by rw [q]; exact hbm) (hsub1 w)) hrm K (fun a1 a2 a4 b1 b2 hPc => ?_) hE
        have hob := a4 _ hbm
        have h20 := (ct_mr hf).2.2 (by rcases hk with w | w <;> omega)
        obtain ⟨q, cell, e1, e2, e3, e4, -⟩ := sn_recv hE a1 hob hkb h20.1 h20.2 hmn
        have hst := sn_stk (D := D) hdr
        rw [e1] at hst
        have hPc' := fun U (w1 : U.heap = _) w2 => hPc U w1 w2
        rw [List.map_cons, e1] at hPc'
        rcases hk with hk | ⟨hk, hkh⟩
        · subst hk
          obtain ⟨-, l1, l2, l3⟩ : (0 : Nat) = 0 ∧ Cond.methodLink (am_nm (am_own mid)) k (am_y f0) ∈ lw_all ∧ Cond.instanceMethod (am_y f0) ∈ lw_all ∧ Cond.selects (am_y f0).cls (am_y f0) (am_y f0) ∈ lw_all := by
            rcases ct_ml hf with w | w | w | w | w | w | w | w | w | w | w | w
            all_goals first | exact w | exact absurd w.1 (by decide)
          rcases hmc with ⟨-, hmc⟩ | ⟨-, hh, hmc⟩
          · exact va_runV (C := (am_y f0).cls) (As := (st.take (am_ar f0)).reverse.map (sn_v D)) (rest := r.map (sn_v D)) ⟨hx, hb, hml, hown, hts⟩ (IH.2 _ _ (Or.inl rfl)) (cwV (am_ar f0) hts (lw_V l1 l2 l3 hmini hmc) rfl rfl rfl ⟨rfl, hmh.1, hmh.2, hma⟩ ⟨hfr, by show 8 + (am_mxl f0 + 11) + 64 * d ≤ _; omega⟩) ⟨sn_blind _ _ _ _, ⟨cell, e2, e3, e4⟩, hPc'⟩ rfl (lenAs hlen) a2.2.1 hst (hw8 hcat) hd ⟨Nat.le_trans b1 hRc, Nat.le_trans b2 hRs⟩
          · exact vx_runVW (C := (am_y f0).cls) (As := (st.take (am_ar f0)).reverse.map (sn_v D)) (rest := r.map (sn_v D)) ⟨hx, hb, hml, hown, hts⟩ (IH.2 _ _ (Or.inr ⟨hh, rfl⟩)) (vx_cwVW (am_ar f0) hts (lw_VW l1 l2 l3 hmini hmc) rfl rfl rfl ⟨rfl, hmh.1, hmh.2, hma⟩ ⟨hfr, by show 8 + (am_mxl f0 + 11) + 64 * d ≤ _; omega⟩) ⟨sn_blind _ _ _ _, ⟨cell, e2, e3, e4⟩, hPc'⟩ rfl (lenAs hlen) a2.2.1 hst (hw8 hcat) hd ⟨Nat.le_trans b1 hRc, Nat.le_trans b2 hRs⟩
        · subst hk
          obtain ⟨-, ⟨host, l1⟩, l2, l3⟩ : (3 : Nat) = 3 ∧ (∃ host, Cond.methodLinkNest (am_nm (am_own mid)) k (am_y f0) host ∈ lw_tbl) ∧ Cond.instanceMethod (am_y f0) ∈ lw_all ∧ Cond.selects (am_y f0).cls (am_y f0) (am_y f0) ∈ lw_all := by
            rcases ct_ml hf with w | w | w | w | w | w | w | w | w | w | w | w
            all_goals first | exact w | exact absurd w.1 (by decide)
          rcases hmc with ⟨-, hmc⟩ | ⟨w, -⟩
          · exact va_runVN (C := (am_y f0).cls) (As := (st.take (am_ar f0)).reverse.map (sn_v D)) (rest := r.map (sn_v D)) ⟨hx, hb, hml, hown, hts⟩ (IH.2 _ _ (Or.inl rfl)) ⟨va_cnB (am_ar f0) hts (lw_meth hmc) rfl rfl rfl (hE.2.2.2.1 _ _ _ _ l1) (hts _ hmini) ⟨hmh.1, hmh.2, hma⟩ ⟨hfr, by show 8 + (am_mxl f0 + 11) + 64 * d ≤ _; omega⟩, hts _ l2, hts _ l3⟩ ⟨sn_blind _ _ _ _, ⟨cell, e2, e3, e4⟩, hPc'⟩ rfl (lenAs hlen) a2.2.1 hst (hw8 hcat) hd ⟨Nat.le_trans b1 hRc, Nat.le_trans b2 hRs⟩
          · rw [w] at hkh; cases hkh
      · cases E2
    · cases E2
  case invokestatic k =>
    obtain ⟨rfl, E2⟩ := am_w_some E
    split at E2
    · rename_i f0 kk hf
      split at E2
      · exfalso
        split at E2
        · split at E2 <;> cases E2
        · cases E2
      · split at E2
        · exfalso
          split at E2
          · split at E2 <;> cases E2
          · cases E2
        · split at E2
          · exfalso
            split at E2
            · split at E2 <;> cases E2
            · cases E2
          · split at E2
            · exfalso
              split at E2
              · split at E2 <;> cases E2
              · cases E2
            · split at E2
              · rename_i n7 n9 n10 n11 hk
                obtain ⟨hk, hkh, hlen⟩ := hk
                obtain ⟨hcat, g2, g3, rfl, rfl, g6, rfl⟩ := call E2
                subst g2; subst g3; subst g6
                obtain ⟨hmy, hmn, hmh, hmx, hma, hmi, hmini, hmc⟩ := ct_m f0 ((ct_mr hf).1 (by rcases hk with w | w <;> omega)).1 ((ct_mr hf).1 (by rcases hk with w | w <;> omega)).2
                rcases hmc with ⟨-, hmc⟩ | ⟨w, -⟩
                · refine sn_called IH hsub1 (fun w hw => List.mem_of_mem_drop hw) K (fun a1 a2 a4 b1 b2 hPc => ?_) hE
                  have hst : st.map (sn_v D) = ((st.take (am_ar f0)).reverse.map (sn_v D)).reverse ++ (st.drop (am_ar f0)).map (sn_v D) := by
                    conv => lhs; rw [← List.take_append_drop (am_ar f0) st]
                    simp [List.map_reverse]
                  rcases hk with hk | hk
                  · subst hk
                    obtain ⟨-, l1, l2⟩ : (1 : Nat) = 1 ∧ Cond.methodLink (am_nm (am_own mid)) k (am_y f0) ∈ lw_all ∧ Cond.static (am_y f0) ∈ lw_all := by
                      rcases ct_ml hf with w | w | w | w | w | w | w | w | w | w | w | w
                      all_goals first | exact w | exact absurd w.1 (by decide)
                    exact va_runS (As := (st.take (am_ar f0)).reverse.map (sn_v D)) (rest := (st.drop (am_ar f0)).map (sn_v D)) ⟨hx, hb, hml, hown, hts⟩ (IH.2 _ _ (Or.inl rfl)) (va_cwS (am_ar f0) hts (lw_S l1 l2 hmini hmc) rfl rfl rfl ⟨hmh.1, hmh.2, hma⟩ ⟨hfr, by show 8 + (am_mxl f0 + 11) + 64 * d ≤ _; omega⟩) ⟨sn_blind _ _ _ _, hPc⟩ rfl (lenAs hlen) a2.2.1 hst (hw8 hcat) hd ⟨Nat.le_trans b1 hRc, Nat.le_trans b2 hRs⟩
                  · subst hk
                    obtain ⟨-, ⟨host, l1⟩, l2⟩ : (4 : Nat) = 4 ∧ (∃ host, Cond.methodLinkNest (am_nm (am_own mid)) k (am_y f0) host ∈ lw_tbl) ∧ Cond.static (am_y f0) ∈ lw_all := by
                      rcases ct_ml hf with w | w | w | w | w | w | w | w | w | w | w | w
                      all_goals first | exact w | exact absurd w.1 (by decide)
                    exact va_runSN (As := (st.take (am_ar f0)).reverse.map (sn_v D)) (rest := (st.drop (am_ar f0)).map (sn_v D)) ⟨hx, hb, hml, hown, hts⟩ (IH.2 _ _ (Or.inl rfl)) ⟨va_cnB (am_ar f0) hts (lw_meth hmc) rfl rfl rfl (hE.2.2.2.1 _ _ _ _ l1) (hts _ hmini) ⟨hmh.1, hmh.2, hma⟩ ⟨hfr, by show 8 + (am_mxl f0 + 11) + 64 * d ≤ _; omega⟩, hts _ l2, trivial⟩ ⟨sn_blind _ _ _ _, hPc⟩ rfl (lenAs hlen) a2.2.1 hst (hw8 hcat) hd ⟨Nat.le_trans b1 hRc, Nat.le_trans b2 hRs⟩
                · rw [w] at hkh; cases hkh
              · cases E2
    · cases E2
  case invokespecial k =>
    obtain ⟨rfl, E2⟩ := am_w_some E
    split at E2
    · rename_i f0 kk hf
      split at E2
      · exfalso
        split at E2
        · split at E2 <;> cases E2
        · cases E2
      · split at E2
        · rename_i n6 hk
          obtain ⟨hk, hkh⟩ := hk
          split at E2
          · rename_i b r0 hdr
            split at E2
            · rename_i hlr
              obtain ⟨hlen, hreal⟩ := hlr
              obtain ⟨hcat, g2, g3, rfl, rfl, g6, rfl⟩ := call E2
              subst g2; subst g3; subst g6
              obtain ⟨hmy, hmn, hmh, hmx, hma, hmi, hmini, hmc⟩ := ct_m f0 ((ct_mr hf).1 (by rcases hk with w | w <;> omega)).1 ((ct_mr hf).1 (by rcases hk with w | w <;> omega)).2
              obtain ⟨hbm, hrm⟩ := hsubd hdr
              rcases hmc with ⟨-, hmc⟩ | ⟨w, -⟩
              · refine sn_called IH (fun w hw => (List.mem_cons.mp hw).elim (fun q => by rw [q]; exact hbm) (hsub1 w)) hrm K (fun a1 a2 a4 b1 b2 hPc => ?_) hE
                obtain ⟨q, cell, e1, e2, e3, e4⟩ := sn_real a1 (a4 _ hbm) hreal
                have hst := sn_stk (D := D) hdr
                rw [e1] at hst
                have hPc' := fun U (w1 : U.heap = _) w2 => hPc U w1 w2
                rw [List.map_cons, e1] at hPc'
                rcases hk with hk | hk
                · subst hk
                  obtain ⟨-, l1, l2, l3, l4⟩ : (2 : Nat) = 2 ∧ Cond.methodLink (am_nm (am_own mid)) k (am_y f0) ∈ lw_all ∧ Cond.instanceMethod (am_y f0) ∈ lw_all ∧ (am_y f0).name = "<init>" ∧ am_rt f0 = none := by
                    rcases ct_ml hf with w | w | w | w | w | w | w | w | w | w | w | w
                    all_goals first | exact w | exact absurd w.1 (by decide)
                  rw [l4] at hmc
                  exact va_runI (bytes := am_code f0) (maxL := am_mxl f0) (As := (st.take (am_ar f0)).reverse.map (sn_v D)) (rest := r0.map (sn_v D)) ⟨hx, hb, hml, hown, hts⟩ (IH.2 _ (Cond.code (am_y f0) (am_code f0) (am_mxl f0) none) (Or.inl (by rw [l4]))) (cwI (am_ar f0) hts (lw_meth hmc) rfl rfl rfl (hts _ hmini) (hts _ l1) (hts _ l2) l3 ⟨hmh.1, hmh.2, hma⟩ ⟨hfr, by show 8 + (am_mxl f0 + 11) + 64 * d ≤ _; omega⟩) ⟨sn_blind _ _ _ _, hPc'⟩ rfl (lenAs hlen) a2.2.1 hst (hw8 hcat) hd ⟨Nat.le_trans b1 hRc, Nat.le_trans b2 hRs⟩
                · subst hk
                  obtain ⟨-, ⟨host, l1⟩, l2, l3, l4⟩ : (5 : Nat) = 5 ∧ (∃ host, Cond.methodLinkNest (am_nm (am_own mid)) k (am_y f0) host ∈ lw_tbl) ∧ Cond.instanceMethod (am_y f0) ∈ lw_all ∧ (am_y f0).name = "<init>" ∧ am_rt f0 = none := by
                    rcases ct_ml hf with w | w | w | w | w | w | w | w | w | w | w | w
                    all_goals first | exact w | exact absurd w.1 (by decide)
                  rw [l4] at hmc
                  exact va_runIN (bytes := am_code f0) (maxL := am_mxl f0) (As := (st.take (am_ar f0)).reverse.map (sn_v D)) (rest := r0.map (sn_v D)) ⟨hx, hb, hml, hown, hts⟩ (IH.2 _ (Cond.code (am_y f0) (am_code f0) (am_mxl f0) none) (Or.inl (by rw [l4]))) ⟨va_cnB (am_ar f0) hts (lw_meth hmc) rfl rfl rfl (hE.2.2.2.1 _ _ _ _ l1) (hts _ hmini) ⟨hmh.1, hmh.2, hma⟩ ⟨hfr, by show 8 + (am_mxl f0 + 11) + 64 * d ≤ _; omega⟩, l3, hts _ l2⟩ ⟨sn_blind _ _ _ _, hPc'⟩ rfl (lenAs hlen) a2.2.1 hst (hw8 hcat) hd ⟨Nat.le_trans b1 hRc, Nat.le_trans b2 hRs⟩
              · rw [w] at hkh; cases hkh
            · cases E2
          · cases E2
        · cases E2
    · cases E2
  case invokeinterface k k2 =>
    obtain ⟨rfl, E2⟩ := am_w_some E
    split at E2
    · rename_i f0 kk hf
      split at E2
      · rename_i hk
        obtain ⟨hk, hkh, hown12⟩ := hk
        subst hk
        obtain ⟨b, hdr, hlen, hkb, hcat, rfl, rfl, rfl, rfl, rfl⟩ := vir E2
        obtain ⟨hmy, hmn, hmh, hmx, hma, hmi, hmini, hmc⟩ := ct_m f0 ((ct_mr hf).1 (by omega)).1 ((ct_mr hf).1 (by omega)).2
        obtain ⟨hbm, hrm⟩ := hsubd hdr
        obtain ⟨-, l1, l2, l3, l4⟩ : (8 : Nat) = 8 ∧ Cond.methodLink (am_nm (am_own mid)) k ⟨"ModulaWorks$Ports", "out", "(LModulaWorks$Chip;II)V"⟩ ∈ lw_all ∧ Cond.selects "ModulaWorks$Program" ⟨"ModulaWorks$Ports", "out", "(LModulaWorks$Chip;II)V"⟩ (am_y f0) ∈ lw_all ∧ Cond.instanceMethod (am_y f0) ∈ lw_all ∧ f0 = 209 := by
          rcases ct_ml hf with w | w | w | w | w | w | w | w | w | w | w | w
          all_goals first | exact w | exact absurd w.1 (by decide)
        subst l4
        refine sn_called IH (fun w hw => (List.mem_cons.mp hw).elim (fun q => by rw [q]; exact hbm) (hsub1 w)) hrm K (fun a1 a2 a4 b1 b2 hPc => ?_) hE
        have hob := a4 _ hbm
        obtain ⟨q, cell, e1, e2, e3, e4, cC, hat⟩ := sn_recv hE a1 hob hkb (by decide) (by decide) hmn
        have hst := sn_stk (D := D) hdr
        rw [e1] at hst
        have hPc' := fun U (w1 : U.heap = _) w2 => hPc U w1 w2
        rw [List.map_cons, e1] at hPc'
        rcases hmc with ⟨-, hmc⟩ | ⟨w, -⟩
        · exact va_runF (C := "ModulaWorks$Program") (x := ⟨"ModulaWorks$Ports", "out", "(LModulaWorks$Chip;II)V"⟩) (As := (st.take (am_ar 209)).reverse.map (sn_v D)) (rest := r.map (sn_v D)) hat ⟨hx, hb, hml, hown, hts⟩ (IH.2 _ _ (Or.inl rfl)) (va_cwF (am_ar 209) hts (lw_app (lw_good4 l1 l2 l3 hmini) (lw_meth hmc)) rfl rfl rfl hE.2.2.2.2.2.2.2 ⟨by decide, by decide, by decide +kernel⟩ ⟨hfr, by show 8 + (am_mxl 209 + 11) + 64 * d ≤ _; omega⟩) ⟨sn_blind _ _ _ _, ⟨cell, e2, e3, e4⟩, hPc'⟩ rfl (lenAs hlen) a2.2.1 hst (hw8 hcat) hd ⟨Nat.le_trans b1 hRc, Nat.le_trans b2 hRs⟩
        · rw [w] at hkh; cases hkh
      · cases E2
    · cases E2
  all_goals (cases E)
end SN10
