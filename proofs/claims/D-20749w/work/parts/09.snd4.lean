/-! SOUNDNESS: branches, with references among them; switches -/
theorem sn_lt {D : sn_D} {tg : Nat → Nat} {U : State} {h : am_H} {H : Heap} {a : Nat} (hR : sn_R D tg U h H) (ho : sn_ok tg h.1 (.ref a)) : sn_cell D U tg h.1 (am_g h a) a H := by
  obtain ⟨h1, h2⟩ := ho a rfl
  have := (hR.2.2.1 _ h1).2
  rw [h2] at this
  exact this
theorem sn_real {D : sn_D} {tg : Nat → Nat} {U : State} {h : am_H} {H : Heap} {a : Nat} (hR : sn_R D tg U h H) (ho : sn_ok tg h.1 (.ref a)) (hr : am_real a = true) : ∃ (q : Nat) (cell : Cell), sn_v D (.ref a) = .ref q ∧ (am_i a < am_P → q < sn_b D) ∧ H[q]? = some cell ∧ cell.vm.isStatics = false := by
  rcases sn_lt hR ho with q | ⟨q, cell, h1, h2, h3, h4, -⟩
  · have := of_decide_eq_true hr
    omega
  · exact ⟨q, cell, h1, h2, h3, h4⟩
theorem sn_new {D : sn_D} {a : Nat} (h : am_P ≤ am_i a) : sn_v D (.ref a) = .ref (sn_b D + (am_i a - am_P)) := by
  simp only [sn_v]
  rw [if_neg (Nat.not_lt.mpr h)]
/-- two valid addresses that may be compared: one iff their pictures are -/
theorem sn_cmp {D : sn_D} {tg : Nat → Nat} {U : State} {h : am_H} {H : Heap} {a b qa qb : Nat} (hR : sn_R D tg U h H) (oa : sn_ok tg h.1 (.ref a)) (ob : sn_ok tg h.1 (.ref b)) (hc : am_cmpok a b = true) (ha : sn_v D (.ref a) = .ref qa) (hb : sn_v D (.ref b) = .ref qb) : qa = qb ↔ a = b := by
  constructor
  · intro hq
    subst hq
    unfold am_cmpok at hc
    simp only [Bool.and_eq_true, Bool.or_eq_true, decide_eq_true_eq] at hc
    obtain ⟨hc, ra, rb⟩ := hc
    obtain ⟨a1, a2⟩ := oa a rfl
    obtain ⟨b1, b2⟩ := ob b rfl
    have key : am_i a = am_i b := by
      by_cases pa : am_P ≤ am_i a <;> by_cases pb : am_P ≤ am_i b
      · rw [sn_new pa] at ha; rw [sn_new pb] at hb
        have e1 : sn_b D + (am_i a - am_P) = qa := Value.ref.inj ha
        have e2 : sn_b D + (am_i b - am_P) = qa := Value.ref.inj hb
        omega
      · exfalso
        rw [sn_new pa] at ha
        obtain ⟨q, cell, h1, h2, -⟩ := sn_real hR ob rb
        have e3 : (qa : Nat) = q := Value.ref.inj (hb.symm.trans h1)
        have := h2 (by omega)
        have e1 : sn_b D + (am_i a - am_P) = qa := Value.ref.inj ha
        omega
      · exfalso
        rw [sn_new pb] at hb
        obtain ⟨q, cell, h1, h2, -⟩ := sn_real hR oa ra
        have e3 : (qa : Nat) = q := Value.ref.inj (ha.symm.trans h1)
        have := h2 (by omega)
        have e1 : sn_b D + (am_i b - am_P) = qa := Value.ref.inj hb
        omega
      · rcases hc with (hc | hc) | hc
        · rw [hc]
        · exact absurd hc pa
        · exact absurd hc pb
    rw [← a2, ← b2, key]
  · intro hq
    subst hq
    rw [ha] at hb
    cases hb
    rfl
section SN4
variable {p : Program} {l : Launch} {e : Env} {R : Room} {s : State} {m : MethodId} {args : Array Value} {below : List Frame} {meth : Method} {c : Code} {Q : State → Prop}
variable {D : sn_D} {tg0 : Nat → Nat} {h0 : am_H} {x : am_R} {nL mid pc pc' : Nat} {ls ls' : am_L} {st st' : List Value} {h h' : am_H}
/-- as sn_p, with the picture at hand -/
theorem sn_pR {w : Heap → List Loc → Nat → Nat → JFrame → Prop} (K : sn_W D s m w tg0 h0 x nL pc' ls' st' h)
    (hok : ∀ tg, sn_oks tg h.1 ls → sn_okv tg h.1 st → sn_oks tg h.1 ls' ∧ sn_okv tg h.1 st')
    (row : ∀ (tg : Nat → Nat) (Ls : Array Slot) (H : Heap) (locs : List Loc) (k n : Nat), sn_R D tg s h H → sn_okv tg h.1 st → sn_L D ls Ls nL → (∀ Ls' : Array Slot, sn_L D ls' Ls' nL → w H locs k n (F0 m pc' Ls' (st'.map (sn_v D)))) → w H locs k n (F0 m pc Ls (st.map (sn_v D)))) : sn_W D s m w tg0 h0 x nL pc ls st h :=
  ⟨K.1, fun tg Ls H locs a1 a2 a3 a4 a5 a6 a7 a8 => row tg Ls H locs _ _ a1 a4 a2 (fun Ls' g => K.2 tg Ls' H locs a1 g (hok tg a3 a4).1 (hok tg a3 a4).2 a5 a6 a7 a8)⟩
theorem sn_brR {b : Prop} {db : Decidable b} {off : Int} {r : List Value} (hs : ∀ v ∈ r, v ∈ st) (row : ∀ {tgt : Nat} {tg : Nat → Nat} {Ls : Array Slot} {H : Heap} {locs : List Loc} {i n : Nat}, sn_R D tg s h H → sn_okv tg h.1 st → (pc : Int) + off = (tgt : Int) → (b → W p l e R s m args below meth c H locs i n Q (F0 m tgt Ls (r.map (sn_v D)))) → (¬ b → W p l e R s m args below meth c H locs i n Q (F0 m (pc + 3) Ls (r.map (sn_v D)))) → W p l e R s m args below meth c H locs i n Q (F0 m pc Ls (st.map (sn_v D))))
    (E : am_br b pc off ls r h = some (.inl (pc', ls', st', h'))) (K : sn_W D s m (fun H locs k n g => W p l e R s m args below meth c H locs k n Q g) tg0 h0 x nL pc' ls' st' h') : sn_W D s m (fun H locs k n g => W p l e R s m args below meth c H locs k n Q g) tg0 h0 x nL pc ls st h := by
  unfold am_br at E
  split at E
  · rename_i q
    have ht := (Int.toNat_of_nonneg q).symm
    split at E
    · rename_i hc
      cases E
      exact sn_pR K (fun tg a b => ⟨a, sn_okv_sub b hs⟩) (fun tg Ls H locs k n r0 o0 a g => row r0 o0 ht (fun _ => g Ls a) (fun q => absurd hc q))
    · rename_i hc
      cases E
      exact sn_pR K (fun tg a b => ⟨a, sn_okv_sub b hs⟩) (fun tg Ls H locs k n r0 o0 a g => row r0 o0 ht (fun q => absurd q hc) (fun _ => g Ls a))
  · cases E
theorem sn_acmp {neg : Bool} {off : Int}
    (row : ∀ {rx ry : Option Nat} {tgt : Nat} {Ls : Array Slot} {H : Heap} {locs : List Loc} {i n : Nat} {rest : List Value}, (pc : Int) + off = (tgt : Int) → ((decide (rx = ry) ^^ neg) = true → W p l e R s m args below meth c H locs i n Q (F0 m tgt Ls rest)) → (¬ (decide (rx = ry) ^^ neg) = true → W p l e R s m args below meth c H locs i n Q (F0 m (pc + 3) Ls rest)) → W p l e R s m args below meth c H locs i n Q (F0 m pc Ls (va_rf ry :: va_rf rx :: rest)))
    (E : am_acmp neg pc off ls st h = some (.inl (pc', ls', st', h'))) (K : sn_W D s m (fun H locs k n g => W p l e R s m args below meth c H locs k n Q g) tg0 h0 x nL pc' ls' st' h') : sn_W D s m (fun H locs k n g => W p l e R s m args below meth c H locs k n Q g) tg0 h0 x nL pc ls st h := by
  unfold am_acmp at E
  split at E
  · rename_i b a r
    split at E
    · rename_i hc
      refine sn_brR (fun v hv => List.mem_cons_of_mem _ (List.mem_cons_of_mem _ hv)) (fun hR ho ht kt kf => ?_) E K
      have ob := (sn_okv_cons.mp ho).1
      have oa := (sn_okv_cons.mp (sn_okv_cons.mp ho).2).1
      have hc2 := hc
      unfold am_cmpok at hc2
      simp only [Bool.and_eq_true] at hc2
      obtain ⟨qa, _, ea, -⟩ := sn_real hR oa hc2.2.1
      obtain ⟨qb, _, eb, -⟩ := sn_real hR ob hc2.2.2
      have key := sn_cmp hR oa ob hc ea eb
      rw [List.map_cons, List.map_cons, ea, eb]
      have kd : decide (some qa = some qb) = decide (a = b) := by simp [key]
      exact row (rx := some qa) (ry := some qb) ht (fun q => kt (by rw [← kd]; exact q)) (fun q => kf (by rw [← kd]; exact q))
    · cases E
  · rename_i a r
    split at E
    · rename_i hc
      refine sn_brR (fun v hv => List.mem_cons_of_mem _ (List.mem_cons_of_mem _ hv)) (fun hR ho ht kt kf => ?_) E K
      obtain ⟨qa, _, ea, -⟩ := sn_real hR (sn_okv_cons.mp (sn_okv_cons.mp ho).2).1 hc
      rw [List.map_cons, List.map_cons, ea]
      exact row (rx := some qa) (ry := none) ht (fun q => kt (by simpa using q)) (fun q => kf (by simpa using q))
    · cases E
  · rename_i b r
    split at E
    · rename_i hc
      refine sn_brR (fun v hv => List.mem_cons_of_mem _ (List.mem_cons_of_mem _ hv)) (fun hR ho ht kt kf => ?_) E K
      obtain ⟨qb, _, eb, -⟩ := sn_real hR (sn_okv_cons.mp ho).1 hc
      rw [List.map_cons, List.map_cons, eb]
      exact row (rx := none) (ry := some qb) ht (fun q => kt (by simpa using q)) (fun q => kf (by simpa using q))
    · cases E
  · refine sn_brR (fun v hv => List.mem_cons_of_mem _ (List.mem_cons_of_mem _ hv)) (fun hR ho ht kt kf => ?_) E K
    exact row (rx := none) (ry := none) ht (fun q => kt (by simpa using q)) (fun q => kf (by simpa using q))
  · cases E
theorem sn_ifn {neg : Bool} {off : Int}
    (row : ∀ {z tgt : Nat} {Ls : Array Slot} {H : Heap} {locs : List Loc} {i n : Nat} {rest : List Value}, (pc : Int) + off = (tgt : Int) → (neg = true → W p l e R s m args below meth c H locs i n Q (F0 m tgt Ls rest)) → (¬ neg = true → W p l e R s m args below meth c H locs i n Q (F0 m (pc + 3) Ls rest)) → W p l e R s m args below meth c H locs i n Q (F0 m pc Ls (.ref z :: rest)))
    (rowN : ∀ {tgt : Nat} {Ls : Array Slot} {H : Heap} {locs : List Loc} {i n : Nat} {rest : List Value}, (pc : Int) + off = (tgt : Int) → (neg = false → W p l e R s m args below meth c H locs i n Q (F0 m tgt Ls rest)) → (¬ neg = false → W p l e R s m args below meth c H locs i n Q (F0 m (pc + 3) Ls rest)) → W p l e R s m args below meth c H locs i n Q (F0 m pc Ls (.null :: rest)))
    (E : am_ifn neg pc off ls st h = some (.inl (pc', ls', st', h'))) (K : sn_W D s m (fun H locs k n g => W p l e R s m args below meth c H locs k n Q g) tg0 h0 x nL pc' ls' st' h') : sn_W D s m (fun H locs k n g => W p l e R s m args below meth c H locs k n Q g) tg0 h0 x nL pc ls st h := by
  unfold am_ifn at E
  split at E
  · rename_i a r
    split at E
    · rename_i hc
      refine sn_brR (fun v hv => List.mem_cons_of_mem _ hv) (fun hR ho ht kt kf => ?_) E K
      obtain ⟨qa, _, ea, -⟩ := sn_real hR (sn_okv_cons.mp ho).1 hc
      rw [List.map_cons, ea]
      exact row ht kt kf
    · cases E
  · exact sn_brR (fun v hv => List.mem_cons_of_mem _ hv) (fun hR ho ht kt kf => rowN ht kt kf) E K
  · cases E
theorem sn_s4 (hx : p.tables.exec = Jvm.exec) (hb : c.code = am_code mid) {i : Instr} {n : Nat} (hd : decode (am_code mid) pc = .ok (i, n)) (E : am_s4 i n pc ls st h = some (.inl (pc', ls', st', h')))
    (K : sn_W D s m (fun H locs k n g => W p l e R s m args below meth c H locs k n Q g) tg0 h0 x nL pc' ls' st' h') : sn_W D s m (fun H locs k n g => W p l e R s m args below meth c H locs k n Q g) tg0 h0 x nL pc ls st h := by
  cases i
  case ifCond cd off =>
    cases cd
    · obtain ⟨rfl, E2⟩ := am_w_some E; exact sn_if1 (fun ht a b => lv_if_eq hx hb hd ht a b) E2 K
    · obtain ⟨rfl, E2⟩ := am_w_some E; exact sn_if1 (fun ht a b => lv_if_ne hx hb hd ht a (fun q => b (fun r => r q))) E2 K
    · obtain ⟨rfl, E2⟩ := am_w_some E; exact sn_if1 (fun ht a b => lv_if_lt hx hb hd ht a b) E2 K
    · obtain ⟨rfl, E2⟩ := am_w_some E; exact sn_if1 (fun ht a b => lv_if_ge hx hb hd ht a b) E2 K
    · obtain ⟨rfl, E2⟩ := am_w_some E; exact sn_if1 (fun ht a b => lv_if_gt hx hb hd ht a b) E2 K
    · obtain ⟨rfl, E2⟩ := am_w_some E; exact sn_if1 (fun ht a b => lv_if_le hx hb hd ht a b) E2 K
  case if_icmp cd off =>
    cases cd
    · obtain ⟨rfl, E2⟩ := am_w_some E; exact sn_if2 (fun ht a b => lv_icmp_eq hx hb hd ht a b) E2 K
    · obtain ⟨rfl, E2⟩ := am_w_some E; exact sn_if2 (fun ht a b => lv_icmp_ne hx hb hd ht a (fun q => b (fun r => r q))) E2 K
    · obtain ⟨rfl, E2⟩ := am_w_some E; exact sn_if2 (fun ht a b => lv_icmp_lt hx hb hd ht a b) E2 K
    · obtain ⟨rfl, E2⟩ := am_w_some E; exact sn_if2 (fun ht a b => lv_icmp_ge hx hb hd ht a b) E2 K
    · obtain ⟨rfl, E2⟩ := am_w_some E; exact sn_if2 (fun ht a b => lv_icmp_gt hx hb hd ht a b) E2 K
    · obtain ⟨rfl, E2⟩ := am_w_some E; exact sn_if2 (fun ht a b => lv_icmp_le hx hb hd ht a b) E2 K
  case if_acmp cd off =>
    cases cd
    · obtain ⟨rfl, E2⟩ := am_w_some E
      exact sn_acmp (fun ht a b => lv_acmp_eq hx hb hd ht (fun q => a (by simpa using q)) (fun q => b (by simpa using q))) E2 K
    · obtain ⟨rfl, E2⟩ := am_w_some E
      exact sn_acmp (fun ht a b => lv_acmp_ne hx hb hd ht (fun q => a (by simpa using q)) (fun q => b (by simpa using q))) E2 K
  case ifnull off =>
    obtain ⟨rfl, E2⟩ := am_w_some E
    exact sn_ifn (fun ht a b => lv_ifnull hx hb hd (b (by decide))) (fun ht a b => lv_ifnullN hx hb hd ht (a rfl)) E2 K
  case ifnonnull off =>
    obtain ⟨rfl, E2⟩ := am_w_some E
    exact sn_ifn (fun ht a b => lv_ifnonnull hx hb hd ht (a rfl)) (fun ht a b => lv_ifnonnullN hx hb hd (b (by decide))) E2 K
  case goto off =>
    obtain ⟨rfl, E2⟩ := am_w_some E
    obtain ⟨t, ht, q⟩ := am_go_some E2
    cases q
    exact sn_p K (fun tg a b => ⟨a, b⟩) (fun Ls H locs k n a g => lv_goto hx hb hd ht (g Ls a))
  case tableswitch d lo hi os =>
    have E2 : am_tsw d lo hi os pc ls st h = some (.inl (pc', ls', st', h')) := E
    unfold am_tsw at E2
    split at E2
    · split at E2
      · rename_i hc
        obtain ⟨t, ht, q⟩ := am_go_some E2
        cases q
        exact sn_p K (fun tg a b => ⟨a, (sn_okv_cons.mp b).2⟩) (fun Ls H locs k n a g => lv_tableOut hx hb hd hc ht (g Ls a))
      · rename_i hc
        split at E2
        · rename_i o ho
          obtain ⟨t, ht, q⟩ := am_go_some E2
          cases q
          exact sn_p K (fun tg a b => ⟨a, (sn_okv_cons.mp b).2⟩) (fun Ls H locs k n a g => lv_tableIn hx hb hd (fun q => hc (Or.inl q)) (fun q => hc (Or.inr q)) ho ht (g Ls a))
        · cases E2
    · cases E2
  case lookupswitch d ps =>
    have E2 : am_lsw d ps pc ls st h = some (.inl (pc', ls', st', h')) := E
    unfold am_lsw at E2
    split at E2
    · split at E2
      · rename_i hc
        obtain ⟨t, ht, q⟩ := am_go_some E2
        cases q
        exact sn_p K (fun tg a b => ⟨a, (sn_okv_cons.mp b).2⟩) (fun Ls H locs k n a g => lv_lookup hx hb hd hc rfl ht (g Ls a))
      · cases E2
    · cases E2
  all_goals (cases E)
end SN4
