/-! SOUNDNESS: calls that are one step: the empty constructor, max and min, a copy of bytes -/
theorem st_pairs (cell : Cell) (d : Nat) : ∀ (xs : List Value) (i : Nat) (c : Cell), (∀ (j : Nat), d + i ≤ j → j < d + i + xs.length → j < c.slots.size) → ∀ j : Nat, (c.storePairs d (xs.zipIdx i)).slots[j]? = if d + i ≤ j ∧ j < d + i + xs.length then xs[j - (d + i)]? else c.slots[j]?
  | [], i, c, _, j => by
    show c.slots[j]? = _
    rw [if_neg (by simp only [List.length_nil]; omega)]
  | y :: xs, i, c, hs, j => by
    rw [List.zipIdx_cons]
    show ((c.setSlot (d + i) y).storePairs d (xs.zipIdx (i + 1))).slots[j]? = _
    have hlen : (y :: xs).length = xs.length + 1 := rfl
    rw [st_pairs cell d xs (i + 1) _ (fun j h1 h2 => by rw [k2_slotsz]; exact hs j (by omega) (by omega)) j]
    have hi : d + i < c.slots.size := hs (d + i) (Nat.le_refl _) (by omega)
    by_cases h : d + (i + 1) ≤ j ∧ j < d + (i + 1) + xs.length
    · rw [if_pos h, if_pos (by omega)]
      have e : j - (d + i) = (j - (d + (i + 1))) + 1 := by omega
      rw [e, List.getElem?_cons_succ]
    · rw [if_neg h, sn_slot hi]
      by_cases hj : j = d + i
      · rw [if_pos hj, if_pos (by omega)]
        have e : j - (d + i) = 0 := by omega
        rw [e]
        rfl
      · rw [if_neg hj, if_neg (by omega)]
section SN8
variable {p : Program} {l : Launch} {e : Env} {R : Room} {s : State} {m : MethodId} {args : Array Value} {below : List Frame} {meth : Method} {c : Code} {Q : State → Prop}
variable {D : sn_D} {tg0 : Nat → Nat} {h0 : am_H} {x : am_R} {nL mid pc pc' : Nat} {ls ls' : am_L} {st st' : List Value} {h h' : am_H}
theorem sn_sum (hp : sn_pre D) (r : List Value) : ((r.map (sn_v D)).map fun v => v.category).sum = am_cat r := by
  unfold am_cat
  rw [List.map_map]
  congr 1
  apply List.map_congr_left
  intro v _
  exact sn_cat D hp v
theorem sn_nn (z : Int32) (hz : ¬ z < 0) : z.toInt = (z.toNatClampNeg : Int) := by
  have hz0 : (0 : Int) ≤ z.toInt := by
    have := Int32.not_lt.mp hz
    simpa using Int32.le_iff_toInt_le.mp this
  show z.toInt = ((z.toInt.toNat : Nat) : Int)
  omega
theorem sn_bcopy (hx : p.tables.exec = Jvm.exec) (hb : c.code = am_code mid) (hml : c.maxLocals = nL) (hE : sn_E D s) (hts : ∀ w ∈ lw_all, w.before args s = true) (hown : s.vm.findClass (am_nm (am_own mid)) = some m.cls) (hfr : 1 ≤ R.frames) (hlo : 64 ≤ R.locals) {i : Nat} (hd : decode (am_code mid) pc = .ok (.invokestatic i, 3)) (hl : Cond.methodLink (am_nm (am_own mid)) i arraycopyName ∈ lw_all)
    {a b : Nat} {n sp dp : Int32} {r : List Value} (ka : am_k a = 41) (kb : am_k b = 41) (hab : a ≠ b) (hP : am_P ≤ am_i b) (h1 : ¬ sp < 0) (h2 : ¬ dp < 0) (h3 : ¬ n < 0) (h4 : sp.toNatClampNeg + n.toNatClampNeg ≤ am_n a) (h5 : dp.toNatClampNeg + n.toNatClampNeg ≤ am_n b) (hr : am_cat r ≤ 8)
    (K : sn_W D s m (fun H locs k n g => W p l e R s m args below meth c H locs k n Q g) tg0 h0 x nL (pc + 3) ls r (am_copy h a b sp.toNatClampNeg dp.toNatClampNeg n.toNatClampNeg)) : sn_W D s m (fun H locs k n g => W p l e R s m args below meth c H locs k n Q g) tg0 h0 x nL pc ls (.int n :: .int dp :: .ref b :: .int sp :: .ref a :: r) h := by
  refine ⟨K.1, fun tg Ls H locs a1 a2 a3 a4 a5 a6 a7 a8 => ?_⟩
  obtain ⟨-, o1⟩ := sn_okv_cons.mp a4
  obtain ⟨-, o2⟩ := sn_okv_cons.mp o1
  obtain ⟨ob, o3⟩ := sn_okv_cons.mp o2
  obtain ⟨-, o4⟩ := sn_okv_cons.mp o3
  obtain ⟨oa, o5⟩ := sn_okv_cons.mp o4
  obtain ⟨qa, ca, f1, f2, f3, f4, f5, f6, f7, f8⟩ := sn_ary a1 oa (by omega) (by omega)
  obtain ⟨qb, cb, g1, g2, g3, g4, g5, g6, g7, g8⟩ := sn_ary a1 ob (by omega) (by omega)
  obtain ⟨k0, cm0, hk0, hkk0, -⟩ := f6
  obtain ⟨k1, cm1, hk1, hkk1, -⟩ := id g6
  rw [ka] at hkk0
  rw [kb] at hkk1
  have hcat := sn_sum hE.1 r
  have hlocals : ((r.map (sn_v D)).map fun v => v.category).sum + (nativeFrameWords "java/lang/System" "arraycopy" 5 + 11) ≤ R.locals := by
    rw [hcat]
    have : nativeFrameWords "java/lang/System" "arraycopy" 5 + 11 ≤ 56 := by decide
    omega
  rw [List.map_cons, List.map_cons, List.map_cons, List.map_cons, List.map_cons, f1, g1]
  intro T hT X
  obtain ⟨vm', X', step⟩ := X.arraycopy hx hown (hts _ hl) (hts _ q986) (hts _ q985) (hts _ q305) (src := qa) (dst := qb) (cs := ca) (cd := cb) (srcPos := sp) (destPos := dp) (n := n) (by rw [hT]; exact f2) (by rw [hT]; exact g2)
    (fun _ w => by rw [w] at f3; cases f3) (fun _ w => by rw [w] at g3; cases g3) f4 g4 hk0 hk1 hkk0 hkk1 (by decide) h1 h2 h3
    (by rw [sn_nn sp h1, sn_nn n h3, f7]; omega)
    (by rw [sn_nn dp h2, sn_nn n h3, g7]; omega)
    (fun vm₁ _ i hi => by
      obtain ⟨e1, -, e3⟩ := f8 (sp.toNatClampNeg + i) (by omega)
      obtain ⟨z, ez, ef⟩ := e3 ka
      have ee : ca.slots.getD (sp.toNatClampNeg + i) .null = .int z := by
        rw [Array.getD_eq_getD_getElem?, e1, ez]
        rfl
      refine ⟨?_, ?_⟩
      · rw [ee]
        exact ef
      · rw [ee]
        exact trivial)
    (g := F0 m pc Ls (.int n :: .int dp :: .ref qb :: .int sp :: .ref qa :: r.map (sn_v D))) rfl (by rw [hml]; exact a2.2.1) (rest := r.map (sn_v D)) rfl (by rw [hb]; exact hd) hfr (by show 2 * 0 + _ + _ ≤ _; omega)
  have hlt : qb < H.size := (Array.getElem?_eq_some_iff.mp g2).1
  have hheap : ((T.setVm vm').setCell qb (copied ca cb sp dp n)).heap = H.setIfInBounds qb (copied ca cb sp dp n) := by rw [← hT]; rfl
  have hsl : (ca.stretch sp.toNatClampNeg n.toNatClampNeg).length = n.toNatClampNeg := by simp [Cell.stretch]
  have hst : ∀ j : Nat, (copied ca cb sp dp n).slots[j]? = if dp.toNatClampNeg ≤ j ∧ j < dp.toNatClampNeg + n.toNatClampNeg then (ca.stretch sp.toNatClampNeg n.toNatClampNeg)[j - dp.toNatClampNeg]? else cb.slots[j]? := by
    intro j
    have := st_pairs ca dp.toNatClampNeg (ca.stretch sp.toNatClampNeg n.toNatClampNeg) 0 cb (fun j _ q => by rw [hsl] at q; rw [g7]; omega) j
    rw [hsl] at this
    exact this
  obtain ⟨s1, s2, s3, -⟩ := Cell.storePairs_facts cb dp.toNatClampNeg (ca.stretch sp.toNatClampNeg n.toNatClampNeg).zipIdx
  have t1 : (copied ca cb sp dp n).cls = cb.cls := s1
  have t2 : (copied ca cb sp dp n).vm = cb.vm := s2
  have t3 : (copied ca cb sp dp n).slots.size = cb.slots.size := s3
  have key : sn_R D tg s (am_copy h a b sp.toNatClampNeg dp.toNatClampNeg n.toNatClampNeg) (H.setIfInBounds qb (copied ca cb sp dp n)) := by
    have z2 : (H.setIfInBounds qb (copied ca cb sp dp n)).size = H.size := by simp
    have z3 : ∀ q' : Nat, q' ≠ qb → (H.setIfInBounds qb (copied ca cb sp dp n))[q']? = H[q']? := fun q' hq' => by simp [Array.getElem?_setIfInBounds, Ne.symm hq']
    refine ⟨a1.1, by rw [z2]; exact a1.2.1, fun i hi => ⟨(a1.2.2.1 i hi).1, ?_⟩, fun q' hq' => ?_, a1.2.2.2.2⟩
    · by_cases hib : tg i = b
      · rw [hib]
        refine Or.inr ⟨qb, copied ca cb sp dp n, g1, (fun w => by omega), by simp [Array.getElem?_setIfInBounds, hlt], by rw [t2]; exact g3, by rw [t2]; exact g4, (fun w => by rw [t2]; exact g5 w), Or.inr ⟨by omega, by omega, ?_, by rw [t3]; exact g7, fun j hj => ?_⟩⟩
        · obtain ⟨kA, comp, y1, y2, y3⟩ := g6
          exact ⟨kA, comp, by rw [t1]; exact y1, y2, y3⟩
        · rw [hst]
          by_cases hjc : dp.toNatClampNeg ≤ j ∧ j < dp.toNatClampNeg + n.toNatClampNeg
          · have hv : am_g (am_copy h a b sp.toNatClampNeg dp.toNatClampNeg n.toNatClampNeg) b j = am_g h a (sp.toNatClampNeg + (j - dp.toNatClampNeg)) := by
              simp [am_g, am_copy, hjc]
            obtain ⟨y1, y2, y3⟩ := f8 (sp.toNatClampNeg + (j - dp.toNatClampNeg)) (by omega)
            rw [if_pos hjc, hv]
            refine ⟨?_, y2, fun _ => y3 ka⟩
            unfold Cell.stretch
            rw [List.getElem?_map, List.getElem?_range (by omega)]
            show some (ca.slots.getD (sp.toNatClampNeg + (j - dp.toNatClampNeg)) .null) = _
            rw [Array.getD_eq_getD_getElem?, y1]
            rfl
          · have hv : am_g (am_copy h a b sp.toNatClampNeg dp.toNatClampNeg n.toNatClampNeg) b j = am_g h b j := by
              simp only [am_g, am_copy]
              rw [if_neg (fun w => hjc w.2)]
            rw [if_neg hjc, hv]
            exact g8 j hj
      · have hv : am_g (am_copy h a b sp.toNatClampNeg dp.toNatClampNeg n.toNatClampNeg) (tg i) = am_g h (tg i) := by
          funext j
          simp [am_g, am_copy, hib]
        rw [hv]
        by_cases hr : am_k (tg i) = 63
        · exact Or.inl hr
        · exact sn_cell_kept (a1.2.2.1 i hi).2 (fun q' w => z3 q' (sn_apart a1 hi ob hP g1 hib hr q' w))
    · have := sn_hi hP g1
      rw [z3 q' (by omega)]
      exact a1.2.2.2.1 q' hq'
  obtain ⟨t, w1, w2⟩ := K.2 tg Ls _ _ key a2 a3 o5 (fun q hq => by
      rcases List.mem_append.mp hq with w | w
      · exact a5 q w
      · obtain ⟨z, -, hz⟩ := List.mem_map.mp w
        rw [← hz]
        exact sn_hi hP g1) a6 a7 a8 _ hheap X'
  exact ⟨t, step t w1, w2⟩
theorem sn_s7 (hx : p.tables.exec = Jvm.exec) (hb : c.code = am_code mid) (hml : c.maxLocals = nL) (hE : sn_E D s) (hts : ∀ w ∈ lw_all, w.before args s = true) (hown : s.vm.findClass (am_nm (am_own mid)) = some m.cls) (hfr : 1 ≤ R.frames) (hlo : 64 ≤ R.locals) (hRc : x.2.1 - h0.1 ≤ R.cells) (hRs : x.2.2.1 - h0.2.1 ≤ R.slots) {i : Instr} {n : Nat} (hd : decode (am_code mid) pc = .ok (i, n)) (E : am_s7 mid i n pc ls st h = some (.inl (pc', ls', st', h')))
    (K : sn_W D s m (fun H locs k n g => W p l e R s m args below meth c H locs k n Q g) tg0 h0 x nL pc' ls' st' h') : sn_W D s m (fun H locs k n g => W p l e R s m args below meth c H locs k n Q g) tg0 h0 x nL pc ls st h := by
  have nocall : ∀ {f : Nat} {as : List Value} {pc1 : Nat} {r : List Value}, am_call f as pc1 ls r h = some (.inl (pc', ls', st', h')) → False := by
    intro f as pc1 r w
    unfold am_call at w
    split at w <;> cases w
  have novir : ∀ {f pc1 : Nat}, am_vir f pc1 ls st h = some (.inl (pc', ls', st', h')) → False := by
    intro f pc1 w
    unfold am_vir at w
    split at w
    · split at w
      · exact nocall w
      · cases w
    · cases w
  cases i
  case invokevirtual k =>
    obtain ⟨rfl, E2⟩ := am_w_some E
    split at E2
    · split at E2
      · exact (novir E2).elim
      · cases E2
    · cases E2
  case invokeinterface k k2 =>
    obtain ⟨rfl, E2⟩ := am_w_some E
    split at E2
    · split at E2
      · exact (novir E2).elim
      · cases E2
    · cases E2
  case invokespecial k =>
    obtain ⟨rfl, E2⟩ := am_w_some E
    split at E2
    · rename_i f kk hf
      split at E2
      · rename_i h6
        subst h6
        split at E2
        · rename_i a r
          split at E2
          · rename_i hc
            cases E2
            rcases ct_ml hf with w | w | w | w | w | w | w | w | w | w | w | w
            · exact absurd w.1 (by decide)
            · exact absurd w.1 (by decide)
            · exact absurd w.1 (by decide)
            · exact absurd w.1 (by decide)
            · exact absurd w.1 (by decide)
            · exact absurd w.1 (by decide)
            · refine sn_pR K (fun tg a b => ⟨a, (sn_okv_cons.mp b).2⟩) (fun tg Ls H locs k n hR ho hL g => ?_)
              obtain ⟨q, cell, e1, -⟩ := sn_real hR (sn_okv_cons.mp ho).1 hc.2
              rw [List.map_cons, e1]
              refine W.objInit hx hb hown (hts _ w.2) (hts _ q320) (hts _ q321) rfl (by rw [hml]; exact hL.2.1) rfl hd hfr ?_ (g Ls hL)
              show 2 * 0 + _ + 12 ≤ _
              rw [sn_sum hE.1]
              omega
            · exact absurd w.1 (by decide)
            · exact absurd w.1 (by decide)
            · exact absurd w.1 (by decide)
            · exact absurd w.1 (by decide)
            · exact absurd w.1 (by decide)
          · cases E2
        · cases E2
      · split at E2
        · split at E2
          · split at E2
            · exact (nocall E2).elim
            · cases E2
          · cases E2
        · cases E2
    · cases E2
  case invokestatic k =>
    obtain ⟨rfl, E2⟩ := am_w_some E
    split at E2
    · rename_i f kk hf
      split at E2
      · rename_i h6
        subst h6
        split at E2
        · rename_i n dp b sp a r
          split at E2
          · rename_i hc
            obtain ⟨c1, c2, c3, c4, c5, c6, c7, c8, c9, c10⟩ := hc
            cases E2
            have hl : Cond.methodLink (am_nm (am_own mid)) k arraycopyName ∈ lw_all := by
              rcases ct_ml hf with w | w | w | w | w | w | w | w | w | w | w | w
              all_goals first | exact w.2 | exact absurd w.1 (by decide)
            exact sn_bcopy hx hb hml hE hts hown hfr hlo hd hl c1 c2 c3 c4 c5 c6 c7 c8 c9 c10 K
          · cases E2
        · cases E2
      · split at E2
        · rename_i h6
          subst h6
          split at E2
          · rename_i y z r
            split at E2
            · rename_i hc
              cases E2
              have hl : Cond.methodLink (am_nm (am_own mid)) k Lib.Math.max.name ∈ lw_all := by
                rcases ct_ml hf with w | w | w | w | w | w | w | w | w | w | w | w
                all_goals first | exact w.2 | exact absurd w.1 (by decide)
              have K1 := K.1
              refine ⟨K.1, fun tg Ls H locs a1 a2 a3 a4 a5 a6 a7 a8 => ?_⟩
              have K2 := K.2 tg Ls H locs a1 a2 a3 (sn_okv_cons.mpr ⟨sn_ok_int, (sn_okv_cons.mp (sn_okv_cons.mp a4).2).2⟩) a5 a6 a7 a8
              exact va_mmax hx hb (by rw [hml]; exact a2.2.1.symm) hown (hts _ hl) (hts _ q1807) (hts _ q304) (hts _ q1808) hfr (by rw [sn_sum hE.1]; omega) (by omega) (by omega) hd K2
            · cases E2
          · cases E2
        · split at E2
          · rename_i h6
            subst h6
            split at E2
            · rename_i y z r
              split at E2
              · rename_i hc
                cases E2
                have hl : Cond.methodLink (am_nm (am_own mid)) k Lib.Math.min.name ∈ lw_all := by
                  rcases ct_ml hf with w | w | w | w | w | w | w | w | w | w | w | w
                  all_goals first | exact w.2 | exact absurd w.1 (by decide)
                have K1 := K.1
                refine ⟨K.1, fun tg Ls H locs a1 a2 a3 a4 a5 a6 a7 a8 => ?_⟩
                have K2 := K.2 tg Ls H locs a1 a2 a3 (sn_okv_cons.mpr ⟨sn_ok_int, (sn_okv_cons.mp (sn_okv_cons.mp a4).2).2⟩) a5 a6 a7 a8
                exact va_mmin hx hb (by rw [hml]; exact a2.2.1.symm) hown (hts _ hl) (hts _ q982) (hts _ q304) (hts _ q983) hfr (by rw [sn_sum hE.1]; omega) (by omega) (by omega) hd K2
              · cases E2
            · cases E2
          · split at E2
            · rename_i h6
              subst h6
              split at E2
              · rename_i y r
                split at E2
                · rename_i hc
                  cases E2
                  have hl : Cond.methodLink (am_nm (am_own mid)) k Lib.Math.abs.name ∈ lw_all := by
                    rcases ct_ml hf with w | w | w | w | w | w | w | w | w | w | w | w
                    all_goals first | exact w.2 | exact absurd w.1 (by decide)
                  have K1 := K.1
                  refine ⟨K.1, fun tg Ls H locs a1 a2 a3 a4 a5 a6 a7 a8 => ?_⟩
                  have K2 := K.2 tg Ls H locs a1 a2 a3 (sn_okv_cons.mpr ⟨sn_ok_int, (sn_okv_cons.mp a4).2⟩) a5 a6 a7 a8
                  exact va_mabs hx hb (by rw [hml]; exact a2.2.1.symm) hown (hts _ hl) (hts _ q2010) (hts _ q304) (hts _ q2011) hfr (by rw [sn_sum hE.1]; omega) (by omega) (by omega) hd K2
                · cases E2
              · cases E2
            · split at E2
              · exact (nocall E2).elim
              · cases E2
    · cases E2
  all_goals (cases E)
end SN8
