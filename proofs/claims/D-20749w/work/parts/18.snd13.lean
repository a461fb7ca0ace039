/-! SOUNDNESS: the whole -/
theorem am_or {a b : am_O} {y} (h : a.or b = some y) : a = some y ∨ (a = none ∧ b = some y) := by
  cases a with
  | none => exact Or.inr ⟨rfl, h⟩
  | some z => exact Or.inl h
/-- which group an answer comes from -/
theorem am_s_of {m pc : Nat} {ls : am_L} {st : List Value} {h : am_H} {y} (E : am_s m pc ls st h = some y) : ∃ i n, decode (am_code m) pc = .ok (i, n) ∧ (am_s1 i n pc ls st h = some y ∨ am_s2 i n pc ls st h = some y ∨ am_s3 i n pc ls st h = some y ∨ am_s4 i n pc ls st h = some y ∨ am_s5 m i n pc ls st h = some y ∨ am_s6 m i n pc ls st h = some y ∨ am_s7 m i n pc ls st h = some y ∨ am_s8 m i n st h = some y) := by
  unfold am_s am_ins at E
  split at E
  · cases E
  · rename_i i n hi
    split at hi
    · rename_i r hr
      cases hi
      refine ⟨i, n, hr, ?_⟩
      rcases am_or E with q | ⟨-, E⟩
      · exact Or.inl q
      rcases am_or E with q | ⟨-, E⟩
      · exact Or.inr (Or.inl q)
      rcases am_or E with q | ⟨-, E⟩
      · exact Or.inr (Or.inr (Or.inl q))
      rcases am_or E with q | ⟨-, E⟩
      · exact Or.inr (Or.inr (Or.inr (Or.inl q)))
      rcases am_or E with q | ⟨-, E⟩
      · exact Or.inr (Or.inr (Or.inr (Or.inr (Or.inl q))))
      rcases am_or E with q | ⟨-, E⟩
      · exact Or.inr (Or.inr (Or.inr (Or.inr (Or.inr (Or.inl q)))))
      rcases am_or E with q | ⟨-, E⟩
      · exact Or.inr (Or.inr (Or.inr (Or.inr (Or.inr (Or.inr (Or.inl q))))))
      · exact Or.inr (Or.inr (Or.inr (Or.inr (Or.inr (Or.inr (Or.inr E))))))
    · cases hi
theorem am_s_bd {m pc : Nat} {ls : am_L} {st : List Value} {h : am_H} {y} (E : am_s m pc ls st h = some y) : am_bd h (some y) := by
  obtain ⟨i, n, -, q⟩ := am_s_of E
  rcases q with q | q | q | q | q | q | q | q
  · rw [← q]; exact (bd_s1 _ _ _ _ _ _).1
  · rw [← q]; exact (bd_s2 _ _ _ _ _ _).1
  · rw [← q]; exact (bd_s3 _ _ _ _ _ _).1
  · rw [← q]; exact (bd_s4 _ _ _ _ _ _).1
  · rw [← q]; exact (bd_s5 _ _ _ _ _ _ _).1
  · rw [← q]; exact (bd_s6 _ _ _ _ _ _ _).1
  · rw [← q]; exact (bd_s7 _ _ _ _ _ _ _).1
  · rw [← q]; exact (bd_s8 _ _ _ _ _).1
theorem am_run_bd {c : Nat → List Value → am_H → Option am_R} (hc : ∀ f as h r, c f as h = some r → h.1 ≤ r.2.1 ∧ h.2.1 ≤ r.2.2.1) : ∀ (n m pc : Nat) (ls : am_L) (st : List Value) (h : am_H) (x : am_R), am_run c n m pc ls st h = some x → h.1 ≤ x.2.1 ∧ h.2.1 ≤ x.2.2.1 := by
  intro n
  induction n with
  | zero => intro m pc ls st h x e; simp [am_run] at e
  | succ n ih =>
    intro m pc ls st h x e
    rw [am_run] at e
    split at e
    · cases e
    · rename_i E
      have h1 := am_s_bd E
      have h2 := ih _ _ _ _ _ _ e
      exact ⟨Nat.le_trans h1.1 h2.1, Nat.le_trans h1.2 h2.2⟩
    · rename_i E
      cases e
      exact am_s_bd E
    · rename_i E
      have h1 := am_s_bd E
      split at e
      · cases e
      · rename_i v h' hq
        have h2 := ih _ _ _ _ _ _ e
        have h3 := hc _ _ _ _ hq
        exact ⟨Nat.le_trans h1.1 (Nat.le_trans h3.1 h2.1), Nat.le_trans h1.2 (Nat.le_trans h3.2 h2.2)⟩
theorem am_M_bd : ∀ (d f : Nat) (as : List Value) (h : am_H) (r : am_R), am_M d f as h = some r → h.1 ≤ r.2.1 ∧ h.2.1 ≤ r.2.2.1 := by
  intro d
  induction d with
  | zero => intro f as h r e; cases e
  | succ d ih =>
    intro f as h r e
    rw [am_M] at e
    split at e
    · obtain ⟨n, hn⟩ := am_lim_some e
      exact am_run_bd ih n _ _ _ _ _ _ hn
    · cases e
theorem am_s7_rng {mid pc n pc' : Nat} {i : Instr} {ls ls' : am_L} {st r as : List Value} {h h' : am_H} {f : Nat} (E : am_s7 mid i n pc ls st h = some (.inr (.inr (f, as, pc', ls', r, h')))) : 1 ≤ f ∧ f < 300 := by
  have call : ∀ {f0 : Nat} {as0 : List Value} {pc1 : Nat} {r0 : List Value}, am_call f0 as0 pc1 ls r0 h = some (.inr (.inr (f, as, pc', ls', r, h'))) → f0 = f := by
    intro f0 as0 pc1 r0 w
    unfold am_call at w
    split at w
    · cases w; rfl
    · cases w
  have vir : ∀ {f0 pc1 : Nat}, am_vir f0 pc1 ls st h = some (.inr (.inr (f, as, pc', ls', r, h'))) → f0 = f := by
    intro f0 pc1 w
    unfold am_vir at w
    split at w
    · split at w
      · exact call w
      · cases w
    · cases w
  cases i
  case invokevirtual k =>
    obtain ⟨rfl, E2⟩ := am_w_some E
    split at E2
    · rename_i f0 kk hf
      split at E2
      · rename_i hk
        obtain rfl := vir E2
        exact (ct_mr hf).1 (by rcases hk with w | w <;> omega)
      · cases E2
    · cases E2
  case invokeinterface k k2 =>
    obtain ⟨rfl, E2⟩ := am_w_some E
    split at E2
    · rename_i f0 kk hf
      split at E2
      · rename_i hk
        obtain rfl := vir E2
        exact (ct_mr hf).1 (by omega)
      · cases E2
    · cases E2
  case invokestatic k =>
    obtain ⟨rfl, E2⟩ := am_w_some E
    split at E2
    · rename_i f0 kk hf
      split at E2
      · exfalso
        split at E2
        · split at E2 <;> cases E2
        · cases E2
      · split at E2
        · exfalso
          split at E2
          · split at E2 <;> cases E2
          · cases E2
        · split at E2
          · exfalso
            split at E2
            · split at E2 <;> cases E2
            · cases E2
          · split at E2
            · exfalso
              split at E2
              · split at E2 <;> cases E2
              · cases E2
            · split at E2
              · rename_i n7 n9 n10 n11 hk
                obtain rfl := call E2
                exact (ct_mr hf).1 (by rcases hk.1 with w | w <;> omega)
              · cases E2
    · cases E2
  case invokespecial k =>
    obtain ⟨rfl, E2⟩ := am_w_some E
    split at E2
    · rename_i f0 kk hf
      split at E2
      · exfalso
        split at E2
        · split at E2 <;> cases E2
        · cases E2
      · split at E2
        · rename_i n6 hk
          split at E2
          · split at E2
            · obtain rfl := call E2
              exact (ct_mr hf).1 (by rcases hk.1 with w | w <;> omega)
            · cases E2
          · cases E2
        · cases E2
    · cases E2
  all_goals (cases E)
section SN11
variable {p : Program} {l : Launch} {e : Env} {R : Room} {s : State} {m : MethodId} {args : Array Value} {below : List Frame} {meth : Method} {c : Code}
variable {D : sn_D} {tg0 : Nat → Nat} {h0 : am_H} {x : am_R} {nL mid pc pc' : Nat} {ls ls' : am_L} {st st' : List Value} {h h' : am_H}
theorem sn_s8 (hx : p.tables.exec = Jvm.exec) (hb : c.code = am_code mid) (hE : sn_E D s) (hr : meth.sig.returnType = am_rt mid) (hlocks : meth.locks = false) {i : Instr} {n : Nat} (hd : decode (am_code mid) pc = .ok (i, n)) (E : am_s8 mid i n st h = some (.inr (.inl x))) :
    sn_W D s m (fun H locs k n g => W p l e R s m args below meth c H locs k n (MQ below (sn_Qc D tg0 h0 x) args s (x.2.1 - h0.1) (x.2.2.1 - h0.2.1) (fun q => sn_b D ≤ q)) g) tg0 h0 x nL pc ls st h := by
  have fin : ∀ {v : Option Value} {tg : Nat → Nat} {H : Heap} {w : Option Value}, x = (v, h) → w = v.map (sn_v D) → sn_R D tg s h H → (∀ z, v = some z → sn_ok tg h.1 z) → (∀ i, i < h0.1 → tg i = tg0 i) → ∀ t : State, t.heap = H → s.WarmedH t.vm → sn_Qc D tg0 h0 x args s (.returned w) t := by
    intro v tg H w e1 e2 hR hok hi t ht hW
    subst e1; subst e2
    exact ⟨rfl, tg, hi, by rw [ht]; exact sn_R_moved hW.alike hR, hok⟩
  cases i
  case return_ =>
    obtain ⟨rfl, E2⟩ := am_w_some E
    split at E2
    · rename_i hrt
      cases E2
      refine ⟨⟨Nat.le_refl _, Nat.le_refl _⟩, fun tg Ls H locs a1 a2 a3 a4 a5 a6 a7 a8 => ?_⟩
      exact W.vret hx hb (hr.trans hrt) (fin rfl rfl a1 (fun z w => by cases w) a8) a5 hd hlocks
    · cases E2
  case ireturn =>
    obtain ⟨rfl, E2⟩ := am_w_some E
    split at E2
    · rename_i v ty hrt
      split at E2
      · rename_i hn
        cases E2
        refine ⟨⟨Nat.le_refl _, Nat.le_refl _⟩, fun tg Ls H locs a1 a2 a3 a4 a5 a6 a7 a8 => ?_⟩
        exact W.zret hx hb (hr.trans hrt) hn (fin (v := some (.int v)) rfl rfl a1 (fun z w => by cases w; exact sn_ok_int) a8) a5 hd hlocks
      · cases E2
    · cases E2
  case lreturn =>
    obtain ⟨rfl, E2⟩ := am_w_some E
    split at E2
    · rename_i v hrt
      cases E2
      refine ⟨⟨Nat.le_refl _, Nat.le_refl _⟩, fun tg Ls H locs a1 a2 a3 a4 a5 a6 a7 a8 => ?_⟩
      exact W.lret hx hb (hr.trans hrt) (fin (v := some (.long v)) rfl rfl a1 (fun z w => by cases w; exact sn_ok_long) a8) a5 hd hlocks
    · cases E2
  case areturn =>
    obtain ⟨rfl, E2⟩ := am_w_some E
    split at E2
    · rename_i v ty hrt
      cases E2
      refine ⟨⟨Nat.le_refl _, Nat.le_refl _⟩, fun tg Ls H locs a1 a2 a3 a4 a5 a6 a7 a8 => ?_⟩
      exact W.aret (v := sn_v D (.ref v)) hx hb (hr.trans hrt) (Or.inl ⟨_, rfl⟩) (sn_rv hE.1 v) (fin (v := some (.ref v)) rfl rfl a1 (fun z w => by cases w; exact (sn_okv_cons.mp a4).1) a8) a5 hd hlocks
    · rename_i v ty hrt
      cases E2
      refine ⟨⟨Nat.le_refl _, Nat.le_refl _⟩, fun tg Ls H locs a1 a2 a3 a4 a5 a6 a7 a8 => ?_⟩
      exact W.aret (v := sn_v D (.ref v)) hx hb (hr.trans hrt) (Or.inr ⟨_, rfl⟩) (sn_rv hE.1 v) (fin (v := some (.ref v)) rfl rfl a1 (fun z w => by cases w; exact (sn_okv_cons.mp a4).1) a8) a5 hd hlocks
    · rename_i ty hrt
      cases E2
      refine ⟨⟨Nat.le_refl _, Nat.le_refl _⟩, fun tg Ls H locs a1 a2 a3 a4 a5 a6 a7 a8 => ?_⟩
      exact W.aret (v := .null) hx hb (hr.trans hrt) (Or.inl ⟨_, rfl⟩) (Or.inl rfl) (fin (v := some .null) rfl rfl a1 (fun z w => by cases w; exact sn_ok_null) a8) a5 hd hlocks
    · rename_i ty hrt
      cases E2
      refine ⟨⟨Nat.le_refl _, Nat.le_refl _⟩, fun tg Ls H locs a1 a2 a3 a4 a5 a6 a7 a8 => ?_⟩
      exact W.aret (v := .null) hx hb (hr.trans hrt) (Or.inr ⟨_, rfl⟩) (Or.inl rfl) (fin (v := some .null) rfl rfl a1 (fun z w => by cases w; exact sn_ok_null) a8) a5 hd hlocks
    · cases E2
  all_goals (cases E)
/-- a run, from any place of the code -/
theorem sn_runs {d : Nat} {Q : State → Prop} (hx : p.tables.exec = Jvm.exec) (hb : c.code = am_code mid) (hml : c.maxLocals = nL) (hE : sn_E D s) (hts : ∀ w ∈ lw_all, w.before args s = true) (hown : s.vm.findClass (am_nm (am_own mid)) = some m.cls) (hin : am_isI mid = true → meth.name = "<init>") (hfr : d + 1 ≤ R.frames) (hlo : 64 * d + 64 ≤ R.locals) (hRc : x.2.1 - h0.1 ≤ R.cells) (hRs : x.2.2.1 - h0.2.1 ≤ R.slots)
    (IH : ∀ f as h r, am_M d f as h = some r → 1 ≤ f → f < 300 → sn_C l D d f as h r)
    (hend : ∀ (pc : Nat) (ls : am_L) (st : List Value) (h : am_H) (i : Instr) (n : Nat), decode (am_code mid) pc = .ok (i, n) → am_s8 mid i n st h = some (.inr (.inl x)) → sn_W D s m (fun H locs k n g => W p l e R s m args below meth c H locs k n Q g) tg0 h0 x nL pc ls st h) :
    ∀ (n pc : Nat) (ls : am_L) (st : List Value) (h : am_H), am_run (am_M d) n mid pc ls st h = some x → sn_W D s m (fun H locs k n g => W p l e R s m args below meth c H locs k n Q g) tg0 h0 x nL pc ls st h := by
  intro n
  induction n with
  | zero => intro pc ls st h E; simp [am_run] at E
  | succ n ih =>
    intro pc ls st h E
    rw [am_run] at E
    split at E
    · cases E
    · rename_i E1
      have K := ih _ _ _ _ E
      obtain ⟨i, k, hd, q⟩ := am_s_of E1
      rcases q with q | q | q | q | q | q | q | q
      · exact sn_s1 hE.1 hx hb hd q K
      · exact sn_s2 hx hb hd q K
      · exact sn_s3 hx hb hd q K
      · exact sn_s4 hx hb hd q K
      · exact sn_s5 hx hb hE hts hown hin hd q K
      · exact sn_s6 hx hb hE hts hown hRc hRs hd q K
      · exact sn_s7 hx hb hml hE hts hown (by omega) (by omega) hRc hRs hd q K
      · have := (bd_s8 mid i k st h).2
        rw [q] at this
        exact this.elim
    · rename_i E1
      cases E
      obtain ⟨i, k, hd, q⟩ := am_s_of E1
      rcases q with q | q | q | q | q | q | q | q
      · have := (bd_s1 i k pc ls st h).2
        rw [q] at this
        exact this.elim
      · have := (bd_s2 i k pc ls st h).2
        rw [q] at this
        exact this.elim
      · have := (bd_s3 i k pc ls st h).2
        rw [q] at this
        exact this.elim
      · have := (bd_s4 i k pc ls st h).2
        rw [q] at this
        exact this.elim
      · have := (bd_s5 mid i k pc ls st h).2
        rw [q] at this
        exact this.elim
      · have := (bd_s6 mid i k pc ls st h).2
        rw [q] at this
        exact this.elim
      · have := (bd_s7 mid i k pc ls st h).2
        rw [q] at this
        exact this.elim
      · exact hend _ _ _ _ _ _ hd q
    · rename_i f as pc1 ls1 st1 h1 E1
      split at E
      · cases E
      · rename_i v h2 hq
        have K := ih _ _ _ _ E
        obtain ⟨i, k, hd, q⟩ := am_s_of E1
        rcases q with q | q | q | q | q | q | q | q
        · have := (bd_s1 i k pc ls st h).2
          rw [q] at this
          exact this.elim
        · have := (bd_s2 i k pc ls st h).2
          rw [q] at this
          exact this.elim
        · have := (bd_s3 i k pc ls st h).2
          rw [q] at this
          exact this.elim
        · have := (bd_s4 i k pc ls st h).2
          rw [q] at this
          exact this.elim
        · have := (bd_s5 mid i k pc ls st h).2
          rw [q] at this
          exact this.elim
        · have := (bd_s6 mid i k pc ls st h).2
          rw [q] at this
          exact this.elim
        · have hrg := am_s7_rng q
          exact sn_s7c hx hb hml hE hts hown hfr hlo hRc hRs hd q (IH _ _ _ _ hq hrg.1 hrg.2) K
        · have := (bd_s8 mid i k st h).2
          rw [q] at this
          exact this.elim
/-! the locals at a method's entry -/
theorem sn_ent_len {D : sn_D} (hp : sn_pre D) (as : List Value) : (lg_sl (as.map (sn_v D))).length = (am_args as).length := by
  induction as with
  | nil => rfl
  | cons v t ih =>
    show (lg_sl (sn_v D v :: t.map (sn_v D))).length = _
    unfold lg_sl at ih ⊢
    rw [List.flatMap_cons, List.length_append, ih, am_args]
    rw [sn_cat D hp]
    split
    · simp; omega
    · simp; omega
theorem sn_ent_at {D : sn_D} (hp : sn_pre D) (as : List Value) : ∀ (j : Nat) (w : Value), (am_args as)[j]? = some (some w) → (∀ q, w ≠ .retAddr q) → (lg_sl (as.map (sn_v D)))[j]? = some (.val (sn_v D w)) := by
  induction as with
  | nil => intro j w h; simp [am_args] at h
  | cons v t ih =>
    intro j w h hw
    show (lg_sl (sn_v D v :: t.map (sn_v D)))[j]? = _
    have e : lg_sl (sn_v D v :: t.map (sn_v D)) = (if (sn_v D v).category = 2 then [.val (sn_v D v), .second] else [.val (sn_v D v)]) ++ lg_sl (t.map (sn_v D)) := by
      unfold lg_sl
      rw [List.flatMap_cons]
    rw [e, sn_cat D hp]
    rw [am_args] at h
    split at h
    · rename_i hc
      rw [if_pos hc]
      match j, h with
      | 0, h => cases h; rfl
      | 1, h => cases h; exact absurd rfl (hw 0)
      | j + 2, h => exact ih j w h hw
    · rename_i hc
      rw [if_neg hc]
      match j, h with
      | 0, h => cases h; rfl
      | j + 1, h => exact ih j w h hw
theorem sn_ent_ok {tg : Nat → Nat} {n k : Nat} {as : List Value} (h : sn_okv tg n as) : sn_oks tg n (am_ent k as) := by
  intro v hv
  unfold am_ent at hv
  rcases List.mem_append.mp hv with q | q
  · clear hv
    induction as with
    | nil => cases q
    | cons w t ih =>
      rw [am_args] at q
      have h2 := sn_okv_cons.mp h
      split at q
      · rcases List.mem_cons.mp q with r | r
        · cases r; exact h2.1
        · rcases List.mem_cons.mp r with r | r
          · cases r; exact sn_ok_ra
          · exact ih h2.2 r
      · rcases List.mem_cons.mp q with r | r
        · cases r; exact h2.1
        · exact ih h2.2 r
  · have := List.eq_of_mem_replicate q
    cases this
theorem sn_ent {D : sn_D} (hp : sn_pre D) {as : List Value} {n : Nat} (h : (am_args as).length ≤ n) : sn_L D (am_ent n as) ((lg_sl (as.map (sn_v D)) ++ List.replicate (n - (lg_sl (as.map (sn_v D))).length) Slot.unset).toArray) n := by
  have hl := sn_ent_len hp as
  have h2 := lv_entry (as.map (sn_v D)) (n := n) (by rw [hl]; exact h)
  refine ⟨by unfold am_ent; simp; omega, h2.1, h2.2.1, fun j w hw => ?_⟩
  obtain ⟨a1, a2, a3⟩ := hw
  unfold am_ent at a1
  have hj : j < (am_args as).length := by
    rcases Nat.lt_or_ge j (am_args as).length with q | q
    · exact q
    · rw [List.getElem?_append_right q] at a1
      have := List.mem_of_getElem? a1
      have := List.eq_of_mem_replicate this
      cases this
  rw [List.getElem?_append_left hj] at a1
  have := sn_ent_at hp as j w a1 a2
  simp only [List.getElem?_toArray]
  rw [List.getElem?_append_left (by rw [hl]; exact hj)]
  exact this
/-- **the abstract machine is sound** -/
theorem sn_all (l : Launch) (D : sn_D) : ∀ (d f : Nat) (as : List Value) (h : am_H) (r : am_R), am_M d f as h = some r → 1 ≤ f → f < 300 → sn_C l D d f as h r := by
  intro d
  induction d with
  | zero => intro f as h r e; cases e
  | succ d ih =>
    intro f as h r e h1 h2
    refine ⟨am_M_bd _ _ _ _ _ e, fun tg cw hcw => ?_⟩
    rw [am_M] at e
    split at e
    · rename_i hlen
      obtain ⟨n, hn⟩ := am_lim_some e
      obtain ⟨hmy, hmn, hmh, hmx, hma, hmi, hmini, -⟩ := ct_m f h1 h2
      rcases hcw with rfl | ⟨hh, rfl⟩
      · refine Met.ofW (cc := am_code f) (maxL := am_mxl f) (ret := am_rt f) hmy rfl ?_
        intro p e s m args below meth c s₁ B hml hv
        obtain ⟨rfl, hE, hR, hok⟩ := hv
        have hts := atoms_spec (ws := Cond.code (am_y f) (am_code f) (am_mxl f) (am_rt f) :: lw_all) B.pre
        have hts : ∀ w ∈ lw_all, w.before _ s = true := fun w h => hts w (List.mem_cons_of_mem _ h)
        have hown : s.vm.findClass (am_nm (am_own f)) = some m.cls := by rw [← hmn]; exact findClass_of_methodNamed B.named
        have K := sn_runs (p := p) (l := l) (e := e) (below := below) (meth := meth) (c := c) (s := s) (m := m) (D := D) (Q := MQ below (sn_Qc D tg h r) (as.map (sn_v D)).toArray s (r.2.1 - h.1) (r.2.2.1 - h.2.1) (fun q => sn_b D ≤ q)) (tg0 := tg) (h0 := h) (x := r) (nL := am_mxl f) (d := d) (R := (headSpec (Cond.code (am_y f) (am_code f) (am_mxl f) (am_rt f) :: lw_all) (sn_room (d + 1) (r.2.1 - h.1) (r.2.2.1 - h.2.1))).room) B.exec B.bytes hml hE hts hown (fun w => (name_of_methodNamed B.named B.method).1.trans (hmi w)) (Nat.le_refl _) (Nat.le_refl _) (Nat.le_refl _) (Nat.le_refl _) ih (fun pc ls st h i n hd E => sn_s8 (p := p) (l := l) (e := e) B.exec B.bytes hE B.returns B.notSynchronized hd E) n 0 (am_ent (am_mxl f) as) [] h hn
        have K2 := K.2 tg _ s.heap [] hR (sn_ent hE.1 hlen) (sn_ent_ok hok) sn_okv_nil (fun q hq => by cases hq) (Nat.le_refl _) (Nat.le_refl _) (fun _ _ => rfl)
        rw [Nat.sub_self, Nat.sub_self] at K2
        rw [lg_entry_eq]
        exact K2
      · refine va_MetW (cc := am_code f) (maxL := am_mxl f) (ret := am_rt f) (hh := hh) hmy rfl ?_
        intro p e s m args below meth c s₁ B hml hv
        obtain ⟨rfl, hE, hR, hok⟩ := hv
        have hts := atoms_spec (ws := Cond.codeWith (am_y f) (am_code f) (am_mxl f) (am_rt f) hh :: lw_all) B.pre
        have hts : ∀ w ∈ lw_all, w.before _ s = true := fun w h => hts w (List.mem_cons_of_mem _ h)
        have hown : s.vm.findClass (am_nm (am_own f)) = some m.cls := by rw [← hmn]; exact findClass_of_methodNamed B.named
        have K := sn_runs (p := p) (l := l) (e := e) (below := below) (meth := meth) (c := c) (s := s) (m := m) (D := D) (Q := MQ below (sn_Qc D tg h r) (as.map (sn_v D)).toArray s (r.2.1 - h.1) (r.2.2.1 - h.2.1) (fun q => sn_b D ≤ q)) (tg0 := tg) (h0 := h) (x := r) (nL := am_mxl f) (d := d) (R := (headSpec (Cond.codeWith (am_y f) (am_code f) (am_mxl f) (am_rt f) hh :: lw_all) (sn_room (d + 1) (r.2.1 - h.1) (r.2.2.1 - h.2.1))).room) B.exec B.bytes hml hE hts hown (fun w => (name_of_methodNamed B.named B.method).1.trans (hmi w)) (Nat.le_refl _) (Nat.le_refl _) (Nat.le_refl _) (Nat.le_refl _) ih (fun pc ls st h i n hd E => sn_s8 (p := p) (l := l) (e := e) B.exec B.bytes hE B.returns B.notSynchronized hd E) n 0 (am_ent (am_mxl f) as) [] h hn
        have K2 := K.2 tg _ s.heap [] hR (sn_ent hE.1 hlen) (sn_ent_ok hok) sn_okv_nil (fun q hq => by cases hq) (Nat.le_refl _) (Nat.le_refl _) (fun _ _ => rfl)
        rw [Nat.sub_self, Nat.sub_self] at K2
        rw [lg_entry_eq]
        exact K2
    · cases e
end SN11
