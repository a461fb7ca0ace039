/-! SOUNDNESS: constants, locals, the stack; branches -/
theorem sn_rv {D : sn_D} (hp : sn_pre D) (a : Nat) : sn_v D (.ref a) = .null ∨ ∃ q, sn_v D (.ref a) = .ref q := by
  simp only [sn_v]
  split
  · exact hp _
  · exact Or.inr ⟨_, rfl⟩
section SN2
variable {p : Program} {l : Launch} {e : Env} {R : Room} {s : State} {m : MethodId} {args : Array Value} {below : List Frame} {meth : Method} {c : Code} {Q : State → Prop}
variable {D : sn_D} {tg0 : Nat → Nat} {h0 : am_H} {x : am_R} {nL mid pc pc' : Nat} {ls ls' : am_L} {st st' : List Value} {h h' : am_H}
theorem sn_li {k pc1 : Nat} (row : ∀ {z : Int32} {Ls : Array Slot} {H : Heap} {locs : List Loc} {i n : Nat} {rest : List Value}, Ls[k]? = some (.val (.int z)) → W p l e R s m args below meth c H locs i n Q (F0 m pc1 Ls (.int z :: rest)) → W p l e R s m args below meth c H locs i n Q (F0 m pc Ls rest))
    (E : am_li ls k pc1 st h = some (.inl (pc', ls', st', h'))) (K : sn_W D s m (fun H locs k n g => W p l e R s m args below meth c H locs k n Q g) tg0 h0 x nL pc' ls' st' h') : sn_W D s m (fun H locs k n g => W p l e R s m args below meth c H locs k n Q g) tg0 h0 x nL pc ls st h := by
  unfold am_li at E
  split at E
  · rename_i z hk
    cases E
    exact sn_p K (fun tg a b => ⟨a, by simp only [sn_okv_cons]; exact ⟨sn_ok_int, b⟩⟩) (fun Ls H locs k n a g => row (a.2.2.2 _ (.int z) ⟨hk, (fun _ h => by cases h), (fun h => by cases h)⟩) (g Ls a))
  · cases E
theorem sn_ll {k pc1 : Nat} (row : ∀ {z : Int64} {Ls : Array Slot} {H : Heap} {locs : List Loc} {i n : Nat} {rest : List Value}, Ls[k]? = some (.val (.long z)) → W p l e R s m args below meth c H locs i n Q (F0 m pc1 Ls (.long z :: rest)) → W p l e R s m args below meth c H locs i n Q (F0 m pc Ls rest))
    (E : am_ll ls k pc1 st h = some (.inl (pc', ls', st', h'))) (K : sn_W D s m (fun H locs k n g => W p l e R s m args below meth c H locs k n Q g) tg0 h0 x nL pc' ls' st' h') : sn_W D s m (fun H locs k n g => W p l e R s m args below meth c H locs k n Q g) tg0 h0 x nL pc ls st h := by
  unfold am_ll at E
  split at E
  · rename_i z y hk hk2
    cases E
    exact sn_p K (fun tg a b => ⟨a, by simp only [sn_okv_cons]; exact ⟨sn_ok_long, b⟩⟩) (fun Ls H locs k n a g => row (a.2.2.2 _ (.long z) ⟨hk, (fun _ h => by cases h), (fun _ => ⟨y, hk2⟩)⟩) (g Ls a))
  · cases E
theorem sn_la (hp : sn_pre D) {k pc1 : Nat} (row : ∀ {z : Nat} {Ls : Array Slot} {H : Heap} {locs : List Loc} {i n : Nat} {rest : List Value}, Ls[k]? = some (.val (.ref z)) → W p l e R s m args below meth c H locs i n Q (F0 m pc1 Ls (.ref z :: rest)) → W p l e R s m args below meth c H locs i n Q (F0 m pc Ls rest))
    (rowN : ∀ {Ls : Array Slot} {H : Heap} {locs : List Loc} {i n : Nat} {rest : List Value}, Ls[k]? = some (.val .null) → W p l e R s m args below meth c H locs i n Q (F0 m pc1 Ls (.null :: rest)) → W p l e R s m args below meth c H locs i n Q (F0 m pc Ls rest))
    (E : am_la ls k pc1 st h = some (.inl (pc', ls', st', h'))) (K : sn_W D s m (fun H locs k n g => W p l e R s m args below meth c H locs k n Q g) tg0 h0 x nL pc' ls' st' h') : sn_W D s m (fun H locs k n g => W p l e R s m args below meth c H locs k n Q g) tg0 h0 x nL pc ls st h := by
  unfold am_la at E
  split at E
  · rename_i z hk
    cases E
    refine sn_p K (fun tg a b => ⟨a, by simp only [sn_okv_cons]; exact ⟨sn_oks_at a hk, b⟩⟩) (fun Ls H locs k n a g => ?_)
    have q1 := a.2.2.2 _ (.ref z) ⟨hk, (fun _ h => by cases h), (fun h => by cases h)⟩
    have g1 := g Ls a
    rw [List.map_cons] at g1
    rcases sn_rv hp z with q | ⟨q, r⟩
    · rw [q] at g1 q1; exact rowN q1 g1
    · rw [r] at g1 q1; exact row q1 g1
  · rename_i hk
    cases E
    exact sn_p K (fun tg a b => ⟨a, by simp only [sn_okv_cons]; exact ⟨sn_ok_null, b⟩⟩) (fun Ls H locs k n a g => rowN (a.2.2.2 _ .null ⟨hk, (fun _ h => by cases h), (fun h => by cases h)⟩) (g Ls a))
  · cases E
theorem sn_si (hp : sn_pre D) {k pc1 : Nat} (row : ∀ {z : Int32} {Ls : Array Slot} {lv : List (Nat × Value)} {H : Heap} {locs : List Loc} {i n : Nat} {rest : List Value}, lv_has Ls nL lv → k < nL → (∀ Ls' : Array Slot, lv_has Ls' nL ((k, .int z) :: lv.filter (fun q => !(q.1 == k) && !(q.1 + 1 == k && q.2.category == 2))) → W p l e R s m args below meth c H locs i n Q (F0 m pc1 Ls' rest)) → W p l e R s m args below meth c H locs i n Q (F0 m pc Ls (.int z :: rest)))
    (E : am_si ls k pc1 st h = some (.inl (pc', ls', st', h'))) (K : sn_W D s m (fun H locs k n g => W p l e R s m args below meth c H locs k n Q g) tg0 h0 x nL pc' ls' st' h') : sn_W D s m (fun H locs k n g => W p l e R s m args below meth c H locs k n Q g) tg0 h0 x nL pc ls st h := by
  unfold am_si at E
  split at E
  · rename_i z r
    split at E
    · rename_i hk
      cases E
      exact sn_p K (fun tg a b => ⟨sn_oks_set a sn_ok_int, (sn_okv_cons.mp b).2⟩) (fun Ls H locs i n a g => row (sn_L_has a) (by rw [← a.1]; exact hk) (fun Ls' h => g Ls' (sn_L_set hp a.1 rfl (fun _ h => by cases h) h)))
    · cases E
  · cases E
theorem sn_sl (hp : sn_pre D) {k pc1 : Nat} (row : ∀ {z : Int64} {Ls : Array Slot} {lv : List (Nat × Value)} {H : Heap} {locs : List Loc} {i n : Nat} {rest : List Value}, lv_has Ls nL lv → k + 1 < nL → (∀ Ls' : Array Slot, lv_has Ls' nL ((k, .long z) :: lv.filter (fun q => !(q.1 == k) && (!(q.1 == k + 1) && !(q.1 + 1 == k && q.2.category == 2)))) → W p l e R s m args below meth c H locs i n Q (F0 m pc1 Ls' rest)) → W p l e R s m args below meth c H locs i n Q (F0 m pc Ls (.long z :: rest)))
    (E : am_sl ls k pc1 st h = some (.inl (pc', ls', st', h'))) (K : sn_W D s m (fun H locs k n g => W p l e R s m args below meth c H locs k n Q g) tg0 h0 x nL pc' ls' st' h') : sn_W D s m (fun H locs k n g => W p l e R s m args below meth c H locs k n Q g) tg0 h0 x nL pc ls st h := by
  unfold am_sl at E
  split at E
  · rename_i z r
    split at E
    · rename_i hk
      cases E
      exact sn_p K (fun tg a b => ⟨sn_oks_set (sn_oks_set a sn_ok_long) sn_ok_ra, (sn_okv_cons.mp b).2⟩) (fun Ls H locs i n a g => row (sn_L_has a) (by rw [← a.1]; exact hk) (fun Ls' h => g Ls' (sn_L_setl hp a.1 h)))
    · cases E
  · cases E
theorem sn_sa (hp : sn_pre D) {k pc1 : Nat} (row : ∀ {z : Nat} {Ls : Array Slot} {lv : List (Nat × Value)} {H : Heap} {locs : List Loc} {i n : Nat} {rest : List Value}, lv_has Ls nL lv → k < nL → (∀ Ls' : Array Slot, lv_has Ls' nL ((k, .ref z) :: lv.filter (fun q => !(q.1 == k) && !(q.1 + 1 == k && q.2.category == 2))) → W p l e R s m args below meth c H locs i n Q (F0 m pc1 Ls' rest)) → W p l e R s m args below meth c H locs i n Q (F0 m pc Ls (.ref z :: rest)))
    (rowN : ∀ {Ls : Array Slot} {lv : List (Nat × Value)} {H : Heap} {locs : List Loc} {i n : Nat} {rest : List Value}, lv_has Ls nL lv → k < nL → (∀ Ls' : Array Slot, lv_has Ls' nL ((k, .null) :: lv.filter (fun q => !(q.1 == k) && !(q.1 + 1 == k && q.2.category == 2))) → W p l e R s m args below meth c H locs i n Q (F0 m pc1 Ls' rest)) → W p l e R s m args below meth c H locs i n Q (F0 m pc Ls (.null :: rest)))
    (E : am_sa ls k pc1 st h = some (.inl (pc', ls', st', h'))) (K : sn_W D s m (fun H locs k n g => W p l e R s m args below meth c H locs k n Q g) tg0 h0 x nL pc' ls' st' h') : sn_W D s m (fun H locs k n g => W p l e R s m args below meth c H locs k n Q g) tg0 h0 x nL pc ls st h := by
  unfold am_sa at E
  split at E
  · rename_i z r
    split at E
    · rename_i hk
      cases E
      refine sn_p K (fun tg a b => ⟨sn_oks_set a (sn_okv_cons.mp b).1, (sn_okv_cons.mp b).2⟩) (fun Ls H locs i n a g => ?_)
      rw [List.map_cons]
      have g1 := fun (Ls' : Array Slot) h => g Ls' (sn_L_set (v := .ref z) hp a.1 rfl (fun _ h => by cases h) h)
      rcases sn_rv hp z with q | ⟨q, q2⟩
      · rw [q] at g1 ⊢; exact rowN (sn_L_has a) (by rw [← a.1]; exact hk) g1
      · rw [q2] at g1 ⊢; exact row (sn_L_has a) (by rw [← a.1]; exact hk) g1
    · cases E
  · rename_i r
    split at E
    · rename_i hk
      cases E
      exact sn_p K (fun tg a b => ⟨sn_oks_set a sn_ok_null, (sn_okv_cons.mp b).2⟩) (fun Ls H locs i n a g => rowN (sn_L_has a) (by rw [← a.1]; exact hk) (fun Ls' h => g Ls' (sn_L_set (v := .null) hp a.1 rfl (fun _ h => by cases h) h)))
    · cases E
  · cases E
theorem sn_s1 (hp : sn_pre D) (hx : p.tables.exec = Jvm.exec) (hb : c.code = am_code mid) {i : Instr} {n : Nat} (hd : decode (am_code mid) pc = .ok (i, n)) (E : am_s1 i n pc ls st h = some (.inl (pc', ls', st', h')))
    (K : sn_W D s m (fun H locs k n g => W p l e R s m args below meth c H locs k n Q g) tg0 h0 x nL pc' ls' st' h') : sn_W D s m (fun H locs k n g => W p l e R s m args below meth c H locs k n Q g) tg0 h0 x nL pc ls st h := by
  cases i
  case aconst_null => obtain ⟨rfl, E2⟩ := am_w_some E; cases E2; exact sn_p K (fun tg a b => ⟨a, sn_okv_cons.mpr ⟨sn_ok_null, b⟩⟩) (fun Ls H locs k n a g => lv_null hx hb hd (g Ls a))
  case iconst => obtain ⟨rfl, E2⟩ := am_w_some E; cases E2; exact sn_p K (fun tg a b => ⟨a, sn_okv_cons.mpr ⟨sn_ok_int, b⟩⟩) (fun Ls H locs k n a g => lv_iconst hx hb hd rfl (g Ls a))
  case bipush => obtain ⟨rfl, E2⟩ := am_w_some E; cases E2; exact sn_p K (fun tg a b => ⟨a, sn_okv_cons.mpr ⟨sn_ok_int, b⟩⟩) (fun Ls H locs k n a g => lv_bipush hx hb hd rfl (g Ls a))
  case sipush => obtain ⟨rfl, E2⟩ := am_w_some E; cases E2; exact sn_p K (fun tg a b => ⟨a, sn_okv_cons.mpr ⟨sn_ok_int, b⟩⟩) (fun Ls H locs k n a g => lv_sipush hx hb hd rfl (g Ls a))
  case lconst => obtain ⟨rfl, E2⟩ := am_w_some E; cases E2; exact sn_p K (fun tg a b => ⟨a, sn_okv_cons.mpr ⟨sn_ok_long, b⟩⟩) (fun Ls H locs k n a g => lv_lconst hx hb hd rfl (g Ls a))
  case iload_n => obtain ⟨rfl, E2⟩ := am_w_some E; exact sn_li (fun a g => lv_iload_n hx hb hd rfl a g) E2 K
  case iload => obtain ⟨rfl, E2⟩ := am_w_some E; exact sn_li (fun a g => lv_iload hx hb hd a g) E2 K
  case lload_n => obtain ⟨rfl, E2⟩ := am_w_some E; exact sn_ll (fun a g => lv_lload_n hx hb hd rfl a g) E2 K
  case lload => obtain ⟨rfl, E2⟩ := am_w_some E; exact sn_ll (fun a g => lv_lload hx hb hd a g) E2 K
  case aload_n => obtain ⟨rfl, E2⟩ := am_w_some E; exact sn_la hp (fun a g => lv_aload_n hx hb hd rfl a g) (fun a g => lv_aload_nN hx hb hd rfl a g) E2 K
  case aload => obtain ⟨rfl, E2⟩ := am_w_some E; exact sn_la hp (fun a g => lv_aload hx hb hd a g) (fun a g => lv_aloadN hx hb hd a g) E2 K
  case istore_n => obtain ⟨rfl, E2⟩ := am_w_some E; exact sn_si hp (fun a b g => lv_istore_n hx hb hd rfl a b rfl g) E2 K
  case istore => obtain ⟨rfl, E2⟩ := am_w_some E; exact sn_si hp (fun a b g => lv_istore hx hb hd a b rfl g) E2 K
  case lstore_n => obtain ⟨rfl, E2⟩ := am_w_some E; exact sn_sl hp (fun a b g => lv_lstore_n hx hb hd rfl a b rfl g) E2 K
  case lstore => obtain ⟨rfl, E2⟩ := am_w_some E; exact sn_sl hp (fun a b g => lv_lstore hx hb hd a b rfl g) E2 K
  case astore_n => obtain ⟨rfl, E2⟩ := am_w_some E; exact sn_sa hp (fun a b g => lv_astore_n hx hb hd rfl a b rfl g) (fun a b g => lv_astore_nN hx hb hd rfl a b rfl g) E2 K
  case astore => obtain ⟨rfl, E2⟩ := am_w_some E; exact sn_sa hp (fun a b g => lv_astore hx hb hd a b rfl g) (fun a b g => lv_astoreN hx hb hd a b rfl g) E2 K
  case iinc k cst =>
    obtain ⟨rfl, E2⟩ := am_w_some E
    unfold am_inc at E2
    split at E2
    · rename_i z hk
      cases E2
      refine sn_p K (fun tg a b => ⟨sn_oks_set a sn_ok_int, b⟩) (fun Ls H locs i n a g => ?_)
      have hm := sn_mem_as (D := D) (w := .int z) ⟨hk, (fun _ h => by cases h), (fun h => by cases h)⟩
      obtain ⟨j, hj⟩ := List.getElem?_of_mem hm
      exact lv_iinc hx hb hd (sn_L_has a) hj rfl (by rw [← a.1]; exact (List.getElem?_eq_some_iff.mp hk).1) rfl (fun Ls' h => g Ls' (sn_L_set (v := .int (z + Int32.ofInt cst)) hp a.1 rfl (fun _ h => by cases h) h))
    · cases E2
  case dup =>
    obtain ⟨rfl, E2⟩ := am_w_some E
    split at E2
    · split at E2
      · rename_i hv
        cases E2
        exact sn_p K (fun tg a b => ⟨a, sn_okv_cons.mpr ⟨(sn_okv_cons.mp b).1, b⟩⟩) (fun Ls H locs k n a g => lv_dup hx hb hd (by rw [sn_cat D hp]; exact hv) (g Ls a))
      · cases E2
    · cases E2
  case pop =>
    obtain ⟨rfl, E2⟩ := am_w_some E
    split at E2
    · split at E2
      · rename_i hv
        cases E2
        exact sn_p K (fun tg a b => ⟨a, (sn_okv_cons.mp b).2⟩) (fun Ls H locs k n a g => lv_pop hx hb hd (by rw [sn_cat D hp]; exact hv) (g Ls a))
      · cases E2
    · cases E2
  all_goals (cases E)
end SN2
section SN3
variable {p : Program} {l : Launch} {e : Env} {R : Room} {s : State} {m : MethodId} {args : Array Value} {below : List Frame} {meth : Method} {c : Code} {Q : State → Prop}
variable {D : sn_D} {tg0 : Nat → Nat} {h0 : am_H} {x : am_R} {nL mid pc pc' : Nat} {ls ls' : am_L} {st st' : List Value} {h h' : am_H}
theorem am_go_some {off : Int} {y} (E : am_go pc off ls st h = some y) : ∃ t : Nat, (pc : Int) + off = (t : Int) ∧ y = .inl (t, ls, st, h) := by
  unfold am_go at E
  split at E
  · rename_i q
    cases E
    exact ⟨_, (Int.toNat_of_nonneg q).symm, rfl⟩
  · cases E
theorem sn_br {b : Prop} {db : Decidable b} {off : Int} {r : List Value} (hs : ∀ v ∈ r, v ∈ st) (row : ∀ {tgt : Nat} {Ls : Array Slot} {H : Heap} {locs : List Loc} {i n : Nat}, (pc : Int) + off = (tgt : Int) → (b → W p l e R s m args below meth c H locs i n Q (F0 m tgt Ls (r.map (sn_v D)))) → (¬ b → W p l e R s m args below meth c H locs i n Q (F0 m (pc + 3) Ls (r.map (sn_v D)))) → W p l e R s m args below meth c H locs i n Q (F0 m pc Ls (st.map (sn_v D))))
    (E : am_br b pc off ls r h = some (.inl (pc', ls', st', h'))) (K : sn_W D s m (fun H locs k n g => W p l e R s m args below meth c H locs k n Q g) tg0 h0 x nL pc' ls' st' h') : sn_W D s m (fun H locs k n g => W p l e R s m args below meth c H locs k n Q g) tg0 h0 x nL pc ls st h := by
  unfold am_br at E
  split at E
  · rename_i q
    have ht := (Int.toNat_of_nonneg q).symm
    split at E
    · rename_i hc
      cases E
      exact sn_p K (fun tg a b => ⟨a, sn_okv_sub b hs⟩) (fun Ls H locs k n a g => row ht (fun _ => g Ls a) (fun q => absurd hc q))
    · rename_i hc
      cases E
      exact sn_p K (fun tg a b => ⟨a, sn_okv_sub b hs⟩) (fun Ls H locs k n a g => row ht (fun q => absurd q hc) (fun _ => g Ls a))
  · cases E
theorem sn_if1 {cd : Int32 → Prop} {dc : ∀ x, Decidable (cd x)} {off : Int} (row : ∀ {z : Int32} {tgt : Nat} {Ls : Array Slot} {H : Heap} {locs : List Loc} {i n : Nat} {rest : List Value}, (pc : Int) + off = (tgt : Int) → (cd z → W p l e R s m args below meth c H locs i n Q (F0 m tgt Ls rest)) → (¬ cd z → W p l e R s m args below meth c H locs i n Q (F0 m (pc + 3) Ls rest)) → W p l e R s m args below meth c H locs i n Q (F0 m pc Ls (.int z :: rest)))
    (E : am_if1 cd pc off ls st h = some (.inl (pc', ls', st', h'))) (K : sn_W D s m (fun H locs k n g => W p l e R s m args below meth c H locs k n Q g) tg0 h0 x nL pc' ls' st' h') : sn_W D s m (fun H locs k n g => W p l e R s m args below meth c H locs k n Q g) tg0 h0 x nL pc ls st h := by
  unfold am_if1 at E
  split at E
  · exact sn_br (fun v hv => List.mem_cons_of_mem _ hv) (fun ht a b => row ht a b) E K
  · cases E
theorem sn_if2 {cd : Int32 → Int32 → Prop} {dc : ∀ x y, Decidable (cd x y)} {off : Int} (row : ∀ {z y : Int32} {tgt : Nat} {Ls : Array Slot} {H : Heap} {locs : List Loc} {i n : Nat} {rest : List Value}, (pc : Int) + off = (tgt : Int) → (cd z y → W p l e R s m args below meth c H locs i n Q (F0 m tgt Ls rest)) → (¬ cd z y → W p l e R s m args below meth c H locs i n Q (F0 m (pc + 3) Ls rest)) → W p l e R s m args below meth c H locs i n Q (F0 m pc Ls (.int y :: .int z :: rest)))
    (E : am_if2 cd pc off ls st h = some (.inl (pc', ls', st', h'))) (K : sn_W D s m (fun H locs k n g => W p l e R s m args below meth c H locs k n Q g) tg0 h0 x nL pc' ls' st' h') : sn_W D s m (fun H locs k n g => W p l e R s m args below meth c H locs k n Q g) tg0 h0 x nL pc ls st h := by
  unfold am_if2 at E
  split at E
  · exact sn_br (fun v hv => List.mem_cons_of_mem _ (List.mem_cons_of_mem _ hv)) (fun ht a b => row ht a b) E K
  · cases E
end SN3
