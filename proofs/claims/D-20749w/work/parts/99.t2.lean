/-! the claim (printed by gen/fin5.py) -/
set_option maxRecDepth 100000
set_option maxHeartbeats 8000000
theorem rs_all : rSS KTF true + rSS KTF false ≤ 5000000 := by decide +kernel
/-! THE CLAIM OUT OF ONE WALK OF THE LAW'S BODY. Your part is whole_start (and what it stands on); all else here is the same for every law, but numbers. -/
def R_law : String := "ModulaWorksLaw"
def lw_P (b : Addr) (xs : List Int32) (args : Array Value) (s : State) : Prop := args = #[.ref b] ∧ s.IntsAt b xs ∧ xs.length ≤ 260 ∧ (Jvm.Cond.and given_1 narrow_1).before args s = true
def lw_Q (_ : Array Value) (s : State) (o : Outcome) (t : State) : Prop := o = .returned (some (.int 1)) ∧ Framed s o t [] 1200520 5497570
def lw_Z (below : List Frame) (a : Array Value) (s : State) : State → Prop := fun t => ∃ o, t.status = .running ∧ Ended t below o ∧ lw_Q a s o t
/-- the law's own end, with 1 on the stack, nothing written that was there before, its room as the claim has it -/
theorem lw_ret {p : Program} {l : Launch} {e : Env} {s : State} {m : MethodId} {below : List Frame} {meth : Method} {c : Code} {b : Nat} (hx : p.tables.exec = Jvm.exec) (hb : c.code = code) (hr : meth.sig.returnType = ret) (hlocks : meth.locks = false) {pc : Nat} {H : Heap} {ls : Array Slot} (hdg : decode code pc = .ok (.ireturn, 1)) : W p l e room_1 s m #[Value.ref b] below meth c H [] 1200520 5497570 (lw_Z below #[Value.ref b] s) (F0 m pc ls [.int 1]) := by
  intro T hT X
  obtain ⟨fs, hret, hrun, hended, hW, hframe⟩ := X.leave (v := some (.int 1)) (hlocks := hlocks) (fun h => by rw [hr] at h; cases h)
  have hmeth' : T.vm.method? m = some meth := X.method'
  refine ⟨T.setFrames fs, ?_, .returned (some (.int 1)), hrun, hended, rfl, ⟨_, rfl⟩, hW, hframe⟩
  jvm_step X.here [X.here.top, hx, hb, hdg, hmeth', hr, ret, narrow_b1]
  (try refine ⟨rfl, ?_⟩); (try refine ⟨rfl, ?_⟩)
  first | (intro acts; rw [hret _ acts rfl rfl rfl]) | rw [hret _ _ rfl rfl rfl]
  exact Steps.refl _
/-- what holds at the law's entry: the machine, the code, the tables' words (any of lw_tbl by 'hts w (by decide +kernel)'), the script of L ints xs at the cell b, what the Statement gives of the start (any of its parts by flat_of_before) -/
def lw_At (p : Program) (s : State) (m : MethodId) (meth : Method) (c : Code) (b L : Nat) (xs : Nat → Int32) : Prop :=
  p.tables.exec = Jvm.exec ∧ c.code = code ∧ meth.sig.returnType = ret ∧ c.maxLocals = 14 ∧ s.vm.findClass R_law = some m.cls ∧ (∀ w ∈ lw_tbl, w.before #[Value.ref b] s = true) ∧ va_X b L xs s s.heap ∧ b < s.heap.size ∧ meth.locks = false ∧ (Jvm.Cond.and given_1 narrow_1).before #[Value.ref b] s = true
theorem whole_start {p : Program} {e : Env} {s : State} {m : MethodId} {below : List Frame} {meth : Method} {c : Code} (l : Launch) (hflags : l.flags = flags0) {b L : Nat} {xs : Nat → Int32} (hL : L ≤ 260) (C0 : lw_At p s m meth c b L xs) : W p l e room_1 s m #[Value.ref b] below meth c s.heap [] 0 0 (lw_Z below #[Value.ref b] s) (entryFrame m ([Value.ref b] : List Value).toArray 14) := by
  obtain ⟨hx, hb, hr, hml, hown, hts, hX, hbl, hlocks, hgv⟩ := C0
  have H1 := flat_of_before _ hgv
  have F1 := pc_1 H1
  have hall : ∀ w ∈ lw_all, w.before #[Value.ref b] s = true := fun w h => hts w (lw_all_tbl h)
  have CK : ∀ c : Nat, ∃ q : ClassId × (Nat → Nat), ∀ r : vw_C, am_cls[c]? = some r → u_Kn s r.1 r.2.1 r.2.2 q.1 q.2 := fun c => by
    cases e : am_cls[c]? with
    | none => exact ⟨((0 : Nat), fun _ => 0), fun r h => by cases h⟩
    | some r =>
      obtain ⟨cC, iS, h⟩ := cls_kn hall c r e
      exact ⟨(cC, iS), fun r' h' => by cases h'; exact h⟩
  obtain ⟨cid, hcid⟩ := Classical.axiomOfChoice CK
  have SA : ∀ j, ∃ q : Nat × Nat, j < 141 → STQ s (am_nm (SKL.getD j (0, 0)).1) (SKL.getD j (0, 0)).2 (am_tx.getD j []) q.1 q.2 := fun j => by
    by_cases h : j < 141
    · obtain ⟨q, t, k⟩ := ALLF_get 141 0 (sj_all H1) j (Nat.zero_le _) (by omega)
      exact ⟨(q, t), fun _ => k⟩
    · exact ⟨(0, 0), fun z => absurd z h⟩
  obtain ⟨ad, had⟩ := Classical.axiomOfChoice SA
  obtain ⟨t1, e1, r1⟩ := isRef_e (t := Term.static "java/lang/Throwable" "UNASSIGNED_STACK" "[Ljava/lang/StackTraceElement;") (F1 _ (List.mem_of_getElem? (i := 2) rfl))
  obtain ⟨t2, e2, r2⟩ := isRef_e (t := Term.static "java/lang/Throwable" "SUPPRESSED_SENTINEL" "Ljava/util/List;") (F1 _ (List.mem_of_getElem? (i := 3) rfl))
  obtain ⟨t3, e3, r3⟩ := isRef_e (t := Term.static "jdk/internal/util/Preconditions" "SIOOBE_FORMATTER" "Ljava/util/function/BiFunction;") (F1 _ (List.mem_of_getElem? (i := 5) rfl))
  obtain ⟨sx, esx⟩ : ∃ sx : Nat → Int32, sx = fun j => if j < L then xs j else 0 := ⟨_, rfl⟩
  have hs1 : ∀ j, j < L → sx j = xs j := fun j hj => by rw [esx]; exact if_pos hj
  have hs2 : ∀ j, ¬ j < L → sx j = 0 := fun j hj => by rw [esx]; exact if_neg hj
  have E := start_E (cid := cid) (ad := ad) (t1 := t1) (t2 := t2) (t3 := t3) hts F1 hcid had e1 e2 e3 r1 r2 r3
  have RR := start_R (cid := cid) (ad := ad) (t1 := t1) (t2 := t2) (t3 := t3) hX hL hs1 hcid had
  have bD : sn_b ((fun c => (cid c).1, fun c k => (cid c).2 k, (fun i => if i = 0 then .ref b else if i = 1 then t1 else if i = 2 then t2 else if i = 3 then t3 else if i % 2 = 0 then .ref (ad ((i - 4) / 2)).1 else .ref (ad ((i - 5) / 2)).2), s.heap.size, s.heap) : sn_D) = s.heap.size := rfl
  have vD : sn_v ((fun c => (cid c).1, fun c k => (cid c).2 k, (fun i => if i = 0 then .ref b else if i = 1 then t1 else if i = 2 then t2 else if i = 3 then t3 else if i % 2 = 0 then .ref (ad ((i - 4) / 2)).1 else .ref (ad ((i - 5) / 2)).2), s.heap.size, s.heap) : sn_D) (.ref (64 * L + 40)) = .ref b := by
    have ei : am_i (64 * L + 40) = 0 := by unfold am_i; omega
    refine (if_pos (show am_i (64 * L + 40) < 286 by omega)).trans ?_
    rw [ei]
    rfl
  generalize ((fun c => (cid c).1, fun c k => (cid c).2 k, (fun i => if i = 0 then .ref b else if i = 1 then t1 else if i = 2 then t2 else if i = 3 then t3 else if i % 2 = 0 then .ref (ad ((i - 4) / 2)).1 else .ref (ad ((i - 5) / 2)).2), s.heap.size, s.heap) : sn_D) = D at E RR bD vD
  obtain ⟨h, LA, c1, c2⟩ := law_all (W := g0 L sx) (s := 0) (sa := 64 * L + 40) (sx := sx) (g0_GS hL) (g0_SCR hL hs2)
  have rs := rs_all
  obtain ⟨n, hn⟩ := am_lim_some LA
  have hend : ∀ (pc : Nat) (ls : am_L) (st : List Value) (h' : am_H) (i : Instr) (k : Nat), decode (am_code 0) pc = .ok (i, k) → am_s8 0 i k st h' = some (.inr (.inl (some (.int 1), h))) → sn_W D s m (fun H locs k n g => W p l e room_1 s m #[Value.ref b] below meth c H locs k n (lw_Z below #[Value.ref b] s) g) (tg0 L) (286, 0, g0 L sx) (some (.int 1), h) 14 pc ls st h' := by
    intro pc ls st h' i k hd E2
    cases i
    case return_ =>
      obtain ⟨rfl, E3⟩ := am_w_some E2
      split at E3
      · cases E3
      · cases E3
    case ireturn =>
      obtain ⟨rfl, E3⟩ := am_w_some E2
      split at E3
      · split at E3
        · cases E3
          refine ⟨⟨Nat.le_refl _, Nat.le_refl _⟩, fun tg Ls H locs a1 a2 a3 a4 a5 a6 a7 a8 => ?_⟩
          refine va_forget (fun q hq => by rw [← bD]; exact a5 q hq) ?_
          refine W.widen (show h.1 - 286 ≤ 1200520 by omega) (show h.2.1 - 0 ≤ 5497570 by omega) ?_
          exact lw_ret hx hb hr hlocks hd
        · cases E3
      · cases E3
    case lreturn =>
      obtain ⟨rfl, E3⟩ := am_w_some E2
      split at E3
      · cases E3
      · cases E3
    case areturn =>
      obtain ⟨rfl, E3⟩ := am_w_some E2
      split at E3
      all_goals (cases E3)
    all_goals (cases E2)
  have SR := sn_runs (p := p) (l := l) (e := e) (below := below) (meth := meth) (c := c) (s := s) (m := m) (args := #[Value.ref b]) (D := D) (Q := lw_Z below #[Value.ref b] s) (tg0 := tg0 L) (h0 := (286, 0, g0 L sx)) (x := (some (.int 1), h)) (nL := 14) (mid := 0) (d := 30) (R := room_1) hx hb hml E hall hown (fun z => absurd z (by decide)) (by decide) (by decide) (show h.1 - 286 ≤ 1200520 by omega) (show h.2.1 - 0 ≤ 5497570 by omega) (sn_all l D 30) hend n 0 _ [] _ hn
  have okv : sn_okv (tg0 L) 286 [Value.ref (64 * L + 40)] := fun v hv => by
    rw [List.mem_singleton.mp hv]
    intro z hz
    cases hz
    have ei : am_i (64 * L + 40) = 0 := by unfold am_i; omega
    exact ⟨by omega, by rw [ei]; rfl⟩
  have K2 := SR.2 (tg0 L) _ s.heap [] RR (sn_ent (as := [Value.ref (64 * L + 40)]) (n := 14) E.1 (Nat.le_of_ble_eq_true rfl)) (sn_ent_ok (as := [Value.ref (64 * L + 40)]) (k := 14) okv) sn_okv_nil (fun q hq => by cases hq) (Nat.le_refl _) (Nat.le_refl _) (fun _ _ => rfl)
  rw [Nat.sub_self, Nat.sub_self] at K2
  have ev : ([Value.ref (64 * L + 40)] : List Value).map (sn_v D) = [Value.ref b] := by
    show [sn_v D (.ref (64 * L + 40))] = _
    rw [vD]
  have K3 : W p l e room_1 s m #[Value.ref b] below meth c s.heap [] 0 0 (lw_Z below #[Value.ref b] s) (entryFrame m (([Value.ref (64 * L + 40)] : List Value).map (sn_v D)).toArray 14) := by
    rw [lg_entry_eq]
    exact K2
  rw [ev] at K3
  exact K3
set_option maxHeartbeats 4000000 in
theorem lw_walk (l : Launch) (hflags : l.flags = flags0) (b : Addr) (xs : List Int32) : MetFree l x (headSpec (Jvm.Cond.code x code maxLocals ret :: tables_1) room_1) (lw_P b xs) (fun _ _ _ _ _ => True) lw_Q := by
  refine MetFree.of_bodyS (code := code) (maxLocals := maxLocals) (ret := ret) (by decide) ?_ ?_
  · intro args s m h hn
    obtain ⟨meth, c, h1, h2, h3, h4, h5, h6, -, -⟩ := Cond.code_spec hn (atoms_spec (ws := Jvm.Cond.code x code maxLocals ret :: tables_1) h _ List.mem_cons_self)
    exact ⟨meth, c, h1, h2, h3, h4, h5, h6⟩
  · intro p e s m args below meth c s₁ B hml0 hP _
    obtain ⟨rfl, hx, hbd, hgv⟩ := hP
    obtain ⟨scr, harrAt, hlist, hof, hsmall⟩ := hx
    obtain ⟨hcb, hkn, -, -⟩ := State.arrayAt?_spec harrAt
    have hown : s.vm.findClass R_law = some m.cls := findClass_of_methodNamed B.named
    have hts0 : ∀ c ∈ (Jvm.Cond.code x code maxLocals ret :: tables_1), c.before #[Value.ref b] s = true := atoms_spec (ws := Jvm.Cond.code x code maxLocals ret :: tables_1) B.pre
    have hts : ∀ w ∈ lw_tbl, w.before #[Value.ref b] s = true := k2_hts_sels lw_privs (fun w hw => hts0 w (List.mem_cons_of_mem _ hw)) lw_privs_ok
    have hml : c.maxLocals = 14 := B.maxLocals_eq (hts0 _ List.mem_cons_self)
    have X₀ : Stand p l e room_1 s m #[Value.ref b] below meth c s₁ [] 0 0 := Stand.of_body B
    have hh0 : s₁.heap = s.heap := by rw [B.state]; rfl
    have hsz : scr.slots.size = xs.length := by rw [← Array.length_toList, hlist, List.length_map]
    have hval : ∀ j : Nat, j < xs.length → scr.slots[j]? = some (.int (xs.getD j 0)) := fun j hj => by
      rw [← Array.getElem?_toList, hlist]
      simp [hj]
    have hbl : b < s.heap.size := (Array.getElem?_eq_some_iff.mp hcb).1
    have hX : va_X b xs.length (fun j => xs.getD j 0) s s.heap := ⟨scr, hcb, hof, hkn, hsz, hval⟩
    have K : W p l e room_1 s m #[Value.ref b] below meth c s₁.heap [] 0 0 (lw_Z below #[Value.ref b] s) (entryFrame m ([Value.ref b] : List Value).toArray 14) := by
      rw [hh0]
      exact whole_start l hflags hbd ⟨B.exec, B.bytes, B.returns, hml, hown, hts, hX, hbl, B.notSynchronized, hgv⟩
    obtain ⟨t, a1, o, b1, b2, b3⟩ := K s₁ rfl X₀
    exact ⟨t, o, a1, b1, b2, b3⟩
theorem lw_pre_spec {args : Array Value} {s : State} (h : (Jvm.Cond.and given_1 narrow_1).before args s = true) (hr : rest_1_c.before args s = true) : ∃ (b : Addr) (xs : List Int32), lw_P b xs args s := by
  have hs := flat_of_before _ h
  have hq := flat_of_before _ hr
  have hc : (Cond.count 1).before args s = true := hs _ (by decide +kernel)
  have harr : (Cond.arrayOf (.arg 0) .int).before args s = true := hs _ (by decide +kernel)
  have hle : (Cond.le (.length (.arg 0)) (.int 260)).before args s = true := hs _ (by decide +kernel)
  have hlen : (Cond.isInt (.length (.arg 0))).before args s = true := hq _ (by decide +kernel)
  have hall : (Cond.all (.arg 0) (.isInt (.elem (.arg 0) (.index 0)))).before args s = true := hq _ (by decide +kernel)
  obtain ⟨b, xs, hb, hx⟩ := State.ints_of_pre rfl harr hlen hall
  have hsm : xs.length < 2 ^ 31 := hx.choose_spec.2.2.2
  have hev : (Term.length (.arg 0)).eval args s none [] s = some (.int xs.length.toInt32) := hx.length_eval hb
  have hv := Cond.le_ints hev (show (Term.int 260).eval args s none [] s = some (.int 260) from rfl)
  have hd : xs.length.toInt32 ≤ 260 := by
    simpa [Cond.before, Cond.holds, hv] using hle
  have hN : xs.length ≤ 260 := (Int32.ofNat_le_ofNat hsm (by decide)).mp (show Int32.ofNat xs.length ≤ Int32.ofNat 260 from hd)
  exact ⟨b, xs, Cond.one_arg hc (show args[0]? = some (.ref b) from hb), hx, hN, h⟩
theorem lw_comes (l : Launch) (hflags : l.flags = flags0) : Comes l x (Jvm.Cond.code x code maxLocals ret :: tables_1) room_1 (fun tb e args s => Calls_1 tb e args s ∧ rest_1 tb e args s ∧ Pre_1 tb e args s)
    (fun _ _ args s o t => lw_Q args s o t) := by
  intro p e ha hc hk s m args below hf hfit hheap happ hpre
  obtain ⟨b, xs, hP⟩ := lw_pre_spec hpre.2.2 hpre.2.1
  obtain ⟨k, o, h1, h2, h3, hQ⟩ := lw_walk l hflags b xs p e ha hc hk s m args below hf ((Spec.applies_iff_loose hf).mp happ).1 hP trivial
  exact ⟨k, o, h1, h2, h3, hQ⟩
theorem lw_frame {s t : State} {o : Outcome} {args : Array Value} (h : Framed s o t [] 1200520 5497570) :
    Framed s o t (fieldLocs frame_1_writes args s ++ arrayLocs frame_1_arrays args s ++ staticLocs frame_1_statics s) 1200520 5497570 := h
theorem lw_limb (L : Cond) (hL : ∀ (args : Array Value) (s t : State), L.after args s (.returned (some (.int 1))) t = true) :
    ArmFor flags0 classFile x code maxLocals ret World_1 tables_1 room_1 Calls_1 rest_1 Pre_1
      (fun tb e a s o t => postC L tb e a s o t ∧ Framed s o t (fieldLocs frame_1_writes a s ++ arrayLocs frame_1_arrays a s ++ staticLocs frame_1_statics s) 1200520 5497570) := by
  intro l hflags _ _ p e ha hc hk s m args below hf hfit hheap happ hpre
  obtain ⟨k, o, h1, h2, h3, rfl, hF⟩ := lw_comes l hflags p e ha hc hk s m args below hf hfit hheap happ hpre
  exact ⟨k, _, h1, h2, h3, hL args s _, lw_frame hF⟩
theorem i_vc : Claimed_1_1 ∧ Claimed_1_2 := ⟨lw_limb limb_1_1 (fun args s t => by simp [limb_1_1, Cond.after, Cond.holds, Cond.value]), lw_limb limb_1_2 (fun args s t => Cond.after_iff.mpr (by
  first | (rw [show limb_1_2 = Cond.eq .result (.int 1) from rfl, Cond.eq_ints (x := 1) (y := 1) rfl rfl]; simp; done) | (simp [limb_1_2, Cond.value, Term.eval]; done)))⟩
