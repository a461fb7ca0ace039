/-! SOUNDNESS: constants, locals, the stack, reckoning, branches -/
theorem am_w_some {n k : Nat} {o : am_O} {y} (h : am_w n k o = some y) : n = k ∧ o = some y := by
  unfold am_w at h
  split at h
  · exact ⟨by assumption, h⟩
  · cases h
section SN1
variable {p : Program} {l : Launch} {e : Env} {R : Room} {s : State} {m : MethodId} {args : Array Value} {below : List Frame} {meth : Method} {c : Code} {Q : State → Prop}
variable {D : sn_D} {tg0 : Nat → Nat} {h0 : am_H} {x : am_R} {nL mid pc pc' : Nat} {ls ls' : am_L} {st st' : List Value} {h h' : am_H}
theorem sn_ii {f : Int32 → Int32 → Int32} (row : ∀ {a b : Int32} {Ls : Array Slot} {H : Heap} {locs : List Loc} {k n : Nat} {rest : List Value}, W p l e R s m args below meth c H locs k n Q (F0 m (pc + 1) Ls (.int (f a b) :: rest)) → W p l e R s m args below meth c H locs k n Q (F0 m pc Ls (.int b :: .int a :: rest)))
    (E : am_ii f pc ls st h = some (.inl (pc', ls', st', h'))) (K : sn_W D s m (fun H locs k n g => W p l e R s m args below meth c H locs k n Q g) tg0 h0 x nL pc' ls' st' h') : sn_W D s m (fun H locs k n g => W p l e R s m args below meth c H locs k n Q g) tg0 h0 x nL pc ls st h := by
  unfold am_ii at E
  split at E
  · cases E
    exact sn_p K (fun tg a b => ⟨a, by simp only [sn_okv_cons] at b ⊢; exact ⟨sn_ok_int, b.2.2⟩⟩) (fun Ls H locs k n a g => row (g Ls a))
  · cases E
theorem sn_i1 {f : Int32 → Value} (hf : ∀ z, (∃ y, f z = .int y) ∨ ∃ y, f z = .long y) (row : ∀ {a : Int32} {Ls : Array Slot} {H : Heap} {locs : List Loc} {k n : Nat} {rest : List Value}, W p l e R s m args below meth c H locs k n Q (F0 m (pc + 1) Ls (f a :: rest)) → W p l e R s m args below meth c H locs k n Q (F0 m pc Ls (.int a :: rest)))
    (E : am_i1 f pc ls st h = some (.inl (pc', ls', st', h'))) (K : sn_W D s m (fun H locs k n g => W p l e R s m args below meth c H locs k n Q g) tg0 h0 x nL pc' ls' st' h') : sn_W D s m (fun H locs k n g => W p l e R s m args below meth c H locs k n Q g) tg0 h0 x nL pc ls st h := by
  unfold am_i1 at E
  split at E
  · rename_i z r
    cases E
    refine sn_p K (fun tg a b => ⟨a, ?_⟩) (fun Ls H locs k n a g => row ?_)
    · simp only [sn_okv_cons] at b ⊢
      refine ⟨?_, b.2⟩
      rcases hf z with ⟨y, q⟩ | ⟨y, q⟩
      · rw [q]; exact sn_ok_int
      · rw [q]; exact sn_ok_long
    · have g1 := g Ls a
      rw [List.map_cons] at g1
      rcases hf z with ⟨y, q⟩ | ⟨y, q⟩
      · rw [q] at g1 ⊢; exact g1
      · rw [q] at g1 ⊢; exact g1
  · cases E
theorem sn_jj {f : Int64 → Int64 → Int64} (row : ∀ {a b : Int64} {Ls : Array Slot} {H : Heap} {locs : List Loc} {k n : Nat} {rest : List Value}, W p l e R s m args below meth c H locs k n Q (F0 m (pc + 1) Ls (.long (f a b) :: rest)) → W p l e R s m args below meth c H locs k n Q (F0 m pc Ls (.long b :: .long a :: rest)))
    (E : am_jj f pc ls st h = some (.inl (pc', ls', st', h'))) (K : sn_W D s m (fun H locs k n g => W p l e R s m args below meth c H locs k n Q g) tg0 h0 x nL pc' ls' st' h') : sn_W D s m (fun H locs k n g => W p l e R s m args below meth c H locs k n Q g) tg0 h0 x nL pc ls st h := by
  unfold am_jj at E
  split at E
  · cases E
    exact sn_p K (fun tg a b => ⟨a, by simp only [sn_okv_cons] at b ⊢; exact ⟨sn_ok_long, b.2.2⟩⟩) (fun Ls H locs k n a g => row (g Ls a))
  · cases E
theorem sn_ji {f : Int64 → Int32 → Int64} (row : ∀ {a : Int64} {b : Int32} {Ls : Array Slot} {H : Heap} {locs : List Loc} {k n : Nat} {rest : List Value}, W p l e R s m args below meth c H locs k n Q (F0 m (pc + 1) Ls (.long (f a b) :: rest)) → W p l e R s m args below meth c H locs k n Q (F0 m pc Ls (.int b :: .long a :: rest)))
    (E : am_ji f pc ls st h = some (.inl (pc', ls', st', h'))) (K : sn_W D s m (fun H locs k n g => W p l e R s m args below meth c H locs k n Q g) tg0 h0 x nL pc' ls' st' h') : sn_W D s m (fun H locs k n g => W p l e R s m args below meth c H locs k n Q g) tg0 h0 x nL pc ls st h := by
  unfold am_ji at E
  split at E
  · cases E
    exact sn_p K (fun tg a b => ⟨a, by simp only [sn_okv_cons] at b ⊢; exact ⟨sn_ok_long, b.2.2⟩⟩) (fun Ls H locs k n a g => row (g Ls a))
  · cases E
theorem sn_s2 (hx : p.tables.exec = Jvm.exec) (hb : c.code = am_code mid) {i : Instr} {n : Nat} (hd : decode (am_code mid) pc = .ok (i, n)) (E : am_s2 i n pc ls st h = some (.inl (pc', ls', st', h')))
    (K : sn_W D s m (fun H locs k n g => W p l e R s m args below meth c H locs k n Q g) tg0 h0 x nL pc' ls' st' h') : sn_W D s m (fun H locs k n g => W p l e R s m args below meth c H locs k n Q g) tg0 h0 x nL pc ls st h := by
  cases i
  case iadd => obtain ⟨rfl, E⟩ := am_w_some E; exact sn_ii (fun g => lv_iadd hx hb hd g) E K
  case isub => obtain ⟨rfl, E⟩ := am_w_some E; exact sn_ii (fun g => lv_isub hx hb hd g) E K
  case imul => obtain ⟨rfl, E⟩ := am_w_some E; exact sn_ii (fun g => lv_imul hx hb hd g) E K
  case iand => obtain ⟨rfl, E⟩ := am_w_some E; exact sn_ii (fun g => lv_iand hx hb hd g) E K
  case ior => obtain ⟨rfl, E⟩ := am_w_some E; exact sn_ii (fun g => lv_ior hx hb hd g) E K
  case ixor => obtain ⟨rfl, E⟩ := am_w_some E; exact sn_ii (fun g => lv_ixor hx hb hd g) E K
  case ishl => obtain ⟨rfl, E⟩ := am_w_some E; exact sn_ii (fun g => lv_ishl hx hb hd g) E K
  case ishr => obtain ⟨rfl, E⟩ := am_w_some E; exact sn_ii (fun g => lv_ishr hx hb hd g) E K
  case iushr => obtain ⟨rfl, E⟩ := am_w_some E; exact sn_ii (fun g => lv_iushr hx hb hd rfl g) E K
  case ineg => obtain ⟨rfl, E⟩ := am_w_some E; exact sn_i1 (fun z => Or.inl ⟨_, rfl⟩) (fun g => lv_ineg hx hb hd g) E K
  case i2l => obtain ⟨rfl, E⟩ := am_w_some E; exact sn_i1 (fun z => Or.inr ⟨_, rfl⟩) (fun g => lv_i2l hx hb hd rfl g) E K
  case i2b => obtain ⟨rfl, E⟩ := am_w_some E; exact sn_i1 (fun z => Or.inl ⟨_, rfl⟩) (fun g => lv_i2b hx hb hd rfl g) E K
  case i2s => obtain ⟨rfl, E⟩ := am_w_some E; exact sn_i1 (fun z => Or.inl ⟨_, rfl⟩) (fun g => lv_i2s hx hb hd rfl g) E K
  case i2c => obtain ⟨rfl, E⟩ := am_w_some E; exact sn_i1 (fun z => Or.inl ⟨_, rfl⟩) (fun g => lv_i2c hx hb hd rfl g) E K
  case idiv =>
    obtain ⟨rfl, E2⟩ := am_w_some E
    split at E2
    · split at E2
      · cases E2
      · rename_i hne
        cases E2
        exact sn_p K (fun tg a b => ⟨a, by simp only [sn_okv_cons] at b ⊢; exact ⟨sn_ok_int, b.2.2⟩⟩) (fun Ls H locs k n a g => lv_idiv hx hb hd hne (g Ls a))
    · cases E2
  case irem =>
    obtain ⟨rfl, E2⟩ := am_w_some E
    split at E2
    · split at E2
      · cases E2
      · rename_i hne
        cases E2
        exact sn_p K (fun tg a b => ⟨a, by simp only [sn_okv_cons] at b ⊢; exact ⟨sn_ok_int, b.2.2⟩⟩) (fun Ls H locs k n a g => lv_irem hx hb hd hne (g Ls a))
    · cases E2
  all_goals (cases E)
theorem sn_s3 (hx : p.tables.exec = Jvm.exec) (hb : c.code = am_code mid) {i : Instr} {n : Nat} (hd : decode (am_code mid) pc = .ok (i, n)) (E : am_s3 i n pc ls st h = some (.inl (pc', ls', st', h')))
    (K : sn_W D s m (fun H locs k n g => W p l e R s m args below meth c H locs k n Q g) tg0 h0 x nL pc' ls' st' h') : sn_W D s m (fun H locs k n g => W p l e R s m args below meth c H locs k n Q g) tg0 h0 x nL pc ls st h := by
  cases i
  case ladd => obtain ⟨rfl, E⟩ := am_w_some E; exact sn_jj (fun g => lv_ladd hx hb hd g) E K
  case lsub => obtain ⟨rfl, E⟩ := am_w_some E; exact sn_jj (fun g => lv_lsub hx hb hd g) E K
  case lmul => obtain ⟨rfl, E⟩ := am_w_some E; exact sn_jj (fun g => lv_lmul hx hb hd g) E K
  case land => obtain ⟨rfl, E⟩ := am_w_some E; exact sn_jj (fun g => lv_land hx hb hd g) E K
  case lor => obtain ⟨rfl, E⟩ := am_w_some E; exact sn_jj (fun g => lv_lor hx hb hd g) E K
  case lshl => obtain ⟨rfl, E⟩ := am_w_some E; exact sn_ji (fun g => lv_lshl hx hb hd rfl g) E K
  case lshr => obtain ⟨rfl, E⟩ := am_w_some E; exact sn_ji (fun g => lv_lshr hx hb hd rfl g) E K
  case ldiv =>
    obtain ⟨rfl, E2⟩ := am_w_some E
    split at E2
    · split at E2
      · cases E2
      · rename_i hne
        cases E2
        exact sn_p K (fun tg a b => ⟨a, by simp only [sn_okv_cons] at b ⊢; exact ⟨sn_ok_long, b.2.2⟩⟩) (fun Ls H locs k n a g => lv_ldiv hx hb hd hne (g Ls a))
    · cases E2
  case lrem =>
    obtain ⟨rfl, E2⟩ := am_w_some E
    split at E2
    · split at E2
      · cases E2
      · rename_i hne
        cases E2
        exact sn_p K (fun tg a b => ⟨a, by simp only [sn_okv_cons] at b ⊢; exact ⟨sn_ok_long, b.2.2⟩⟩) (fun Ls H locs k n a g => lv_lrem hx hb hd hne (g Ls a))
    · cases E2
  case lneg =>
    obtain ⟨rfl, E2⟩ := am_w_some E
    split at E2
    · cases E2
      exact sn_p K (fun tg a b => ⟨a, by simp only [sn_okv_cons] at b ⊢; exact ⟨sn_ok_long, b.2⟩⟩) (fun Ls H locs k n a g => lv_lneg hx hb hd (g Ls a))
    · cases E2
  case l2i =>
    obtain ⟨rfl, E2⟩ := am_w_some E
    split at E2
    · cases E2
      exact sn_p K (fun tg a b => ⟨a, by simp only [sn_okv_cons] at b ⊢; exact ⟨sn_ok_int, b.2⟩⟩) (fun Ls H locs k n a g => lv_l2i hx hb hd rfl (g Ls a))
    · cases E2
  case lcmp =>
    obtain ⟨rfl, E2⟩ := am_w_some E
    split at E2
    · cases E2
      exact sn_p K (fun tg a b => ⟨a, by simp only [sn_okv_cons] at b ⊢; exact ⟨sn_ok_int, b.2.2⟩⟩) (fun Ls H locs k n a g => W.lcmp hx hb hd (g Ls a))
    · cases E2
  all_goals (cases E)
end SN1
