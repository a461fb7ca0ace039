/-! SOUNDNESS: how the picture of a heap moves -/
theorem am_k_a {i n k : Nat} (hn : n ≤ 65536) (hk : k < 64) : am_i (am_a i n k) = i ∧ am_n (am_a i n k) = n ∧ am_k (am_a i n k) = k := by
  unfold am_i am_n am_k am_a
  refine ⟨?_, ?_, ?_⟩ <;> omega
theorem am_g_p_ne {h : am_H} {a b k : Nat} {v : Value} (hb : b ≠ a) : am_g (am_p h a k v) b = am_g h b := by
  funext j
  simp [am_g, am_p, hb]
theorem am_g_p_s {h : am_H} {a k : Nat} {v : Value} : am_g (am_p h a k v) a k = v := by
  simp [am_g, am_p]
theorem am_g_p_n {h : am_H} {a k j : Nat} {v : Value} (hj : j ≠ k) : am_g (am_p h a k v) a j = am_g h a j := by
  simp [am_g, am_p, hj]
theorem sn_ok_mono {tg tg' : Nat → Nat} {n n' : Nat} {v : Value} (h : sn_ok tg n v) (hn : n ≤ n') (ht : ∀ i, i < n → tg' i = tg i) : sn_ok tg' n' v := fun b e => by
  obtain ⟨h1, h2⟩ := h b e
  exact ⟨Nat.lt_of_lt_of_le h1 hn, by rw [ht _ h1]; exact h2⟩
theorem sn_cell_mono {D : sn_D} {U : State} {tg tg' : Nat → Nat} {n n' a : Nat} {f : Nat → Value} {H : Heap} (h : sn_cell D U tg n f a H) (hn : n ≤ n') (ht : ∀ i, i < n → tg' i = tg i) : sn_cell D U tg' n' f a H := by
  rcases h with h | ⟨q, cell, h1, h2, h3, h4, h5, h6, h7⟩
  · exact Or.inl h
  · refine Or.inr ⟨q, cell, h1, h2, h3, h4, h5, h6, ?_⟩
    rcases h7 with ⟨g1, g2, g3⟩ | ⟨g1, g2, g3, g4, g5⟩
    · exact Or.inl ⟨g1, g2, fun k hk => ⟨(g3 k hk).1, sn_ok_mono (g3 k hk).2 hn ht⟩⟩
    · exact Or.inr ⟨g1, g2, g3, g4, fun j hj => ⟨(g5 j hj).1, sn_ok_mono (g5 j hj).2.1 hn ht, (g5 j hj).2.2⟩⟩
theorem sn_cell_kept {D : sn_D} {U : State} {tg : Nat → Nat} {n a : Nat} {f : Nat → Value} {H H' : Heap} (h : sn_cell D U tg n f a H) (hq : ∀ q, sn_v D (.ref a) = .ref q → H'[q]? = H[q]?) : sn_cell D U tg n f a H' := by
  rcases h with h | ⟨q, cell, h1, h2, h3, h4⟩
  · exact Or.inl h
  · exact Or.inr ⟨q, cell, h1, h2, by rw [hq q h1]; exact h3, h4⟩
theorem sn_arr_moved {u U : State} (hvm : u.vm.Alike U.vm) {cell : Cell} {k : Nat} (h : sn_arr u cell k) : sn_arr U cell k := by
  obtain ⟨kA, comp, h1, h2, h3⟩ := h
  obtain ⟨k', hk', he⟩ := hvm.2.2 _ _ h1
  exact ⟨k', comp, hk', by rw [he]; exact h2, fun C hC => by rw [hvm.findClass]; exact h3 C hC⟩
theorem sn_cell_moved {D : sn_D} {u U : State} (hvm : u.vm.Alike U.vm) {tg : Nat → Nat} {n a : Nat} {f : Nat → Value} {H : Heap} (h : sn_cell D u tg n f a H) : sn_cell D U tg n f a H := by
  rcases h with h | ⟨q, cell, h1, h2, h3, h4, h5, h6, h7⟩
  · exact Or.inl h
  · refine Or.inr ⟨q, cell, h1, h2, h3, h4, h5, h6, ?_⟩
    rcases h7 with g | ⟨g1, g2, g3, g4⟩
    · exact Or.inl g
    · exact Or.inr ⟨g1, g2, sn_arr_moved hvm g3, g4⟩
theorem sn_R_moved {D : sn_D} {u U : State} (hvm : u.vm.Alike U.vm) {tg : Nat → Nat} {h : am_H} {H : Heap} (hR : sn_R D tg u h H) : sn_R D tg U h H :=
  ⟨hR.1, hR.2.1, fun i hi => ⟨(hR.2.2.1 i hi).1, sn_cell_moved hvm (hR.2.2.1 i hi).2⟩, hR.2.2.2⟩
/-- two cells of the picture that are apart are apart -/
theorem sn_apart {D : sn_D} {tg : Nat → Nat} {U : State} {h : am_H} {H : Heap} {a i q : Nat} (hR : sn_R D tg U h H) (hi : i < h.1) (ho : sn_ok tg h.1 (.ref a)) (hP : am_P ≤ am_i a) (hq : sn_v D (.ref a) = .ref q) (hne : tg i ≠ a) (hr : am_k (tg i) ≠ 63) : ∀ q', sn_v D (.ref (tg i)) = .ref q' → q' ≠ q := by
  intro q' h' he
  subst he
  obtain ⟨e1, e2⟩ := hR.2.2.1 i hi
  obtain ⟨o1, o2⟩ := ho a rfl
  have ea : sn_b D + (am_i a - am_P) = q' := Value.ref.inj ((sn_new hP).symm.trans hq)
  by_cases hp : am_P ≤ am_i (tg i)
  · have eb : sn_b D + (am_i (tg i) - am_P) = q' := Value.ref.inj ((sn_new hp).symm.trans h')
    have : i = am_i a := by rw [e1] at hp eb; omega
    rw [this] at hne
    exact hne o2
  · rcases e2 with g | ⟨q2, cell, g1, g2, -⟩
    · exact hr g
    · have e3 : (q2 : Nat) = q' := Value.ref.inj (g1.symm.trans h')
      have := g2 (by omega)
      omega
/-- one cell is written -/
theorem sn_R_upd {D : sn_D} {tg : Nat → Nat} {U : State} {h : am_H} {H H' : Heap} {a k q : Nat} {v : Value} (hR : sn_R D tg U h H) (ho : sn_ok tg h.1 (.ref a)) (hP : am_P ≤ am_i a) (hq : sn_v D (.ref a) = .ref q) (z : H'.size = H.size) (oq : ∀ q' : Nat, q' ≠ q → H'[q']? = H[q']?)
    (hnew : sn_cell D U tg h.1 (am_g (am_p h a k v) a) a H') : sn_R D tg U (am_p h a k v) H' := by
  refine ⟨hR.1, by rw [z]; exact hR.2.1, fun i hi => ⟨(hR.2.2.1 i hi).1, ?_⟩, fun q' hq' => ?_, hR.2.2.2.2⟩
  · by_cases hia : tg i = a
    · rw [hia]
      exact hnew
    · rw [am_g_p_ne hia]
      by_cases hr : am_k (tg i) = 63
      · exact Or.inl hr
      · exact sn_cell_kept (hR.2.2.1 i hi).2 (fun q' h' => oq q' (sn_apart hR hi ho hP hq hia hr q' h'))
  · have ea : sn_b D + (am_i a - am_P) = q := Value.ref.inj ((sn_new hP).symm.trans hq)
    rw [oq q' (by omega)]
    exact hR.2.2.2.1 q' hq'
/-- a cell is made -/
theorem sn_R_new {D : sn_D} {tg : Nat → Nat} {U : State} {h : am_H} {H H' : Heap} {len kind n : Nat} {f : Nat → Value} (hR : sn_R D tg U h H) (hl : len ≤ 65536) (hk : kind < 64) (z : H'.size = H.size + 1) (oq : ∀ q' : Nat, q' < H.size → H'[q']? = H[q']?)
    (hnew : sn_cell D U (fun i => if i = h.1 then am_a h.1 len kind else tg i) (h.1 + 1) f (am_a h.1 len kind) H') : sn_R D (fun i => if i = h.1 then am_a h.1 len kind else tg i) U (am_new h (am_a h.1 len kind) n f) H' := by
  have ht : ∀ i, i < h.1 → (fun i => if i = h.1 then am_a h.1 len kind else tg i) i = tg i := fun i hi => by
    show (if i = h.1 then _ else _) = _
    rw [if_neg (Nat.ne_of_lt hi)]
  obtain ⟨k1, k2, k3⟩ := am_k_a (i := h.1) hl hk
  refine ⟨Nat.le_succ_of_le hR.1, ?_, fun i hi => ?_, fun q' hq' => ?_, fun i h0 hi => ?_⟩
  · rw [z, hR.2.1]
    show _ = sn_b D + (h.1 + 1 - am_P)
    have := hR.1
    omega
  · by_cases hi1 : i = h.1
    · subst hi1
      simp only [if_true]
      refine ⟨k1, ?_⟩
      have e : am_g (am_new h (am_a h.1 len kind) n f) (am_a h.1 len kind) = f := by
        funext j
        simp [am_g, am_new]
      rw [e]
      exact hnew
    · have hi2 : i < h.1 := Nat.lt_of_le_of_ne (Nat.le_of_lt_succ hi) hi1
      simp only [if_neg hi1]
      obtain ⟨e1, e2⟩ := hR.2.2.1 i hi2
      refine ⟨e1, ?_⟩
      have hne : tg i ≠ am_a h.1 len kind := fun q => hi1 (by rw [← e1, q, k1])
      have e : am_g (am_new h (am_a h.1 len kind) n f) (tg i) = am_g h (tg i) := by
        funext j
        simp [am_g, am_new, hne]
      rw [e]
      by_cases hr : am_k (tg i) = 63
      · exact Or.inl hr
      · refine sn_cell_mono (sn_cell_kept e2 (fun q' h' => ?_)) (Nat.le_succ _) ht
        rcases e2 with g | ⟨q2, cell, g1, g2, g3, -⟩
        · exact absurd g hr
        · have e3 : (q2 : Nat) = q' := Value.ref.inj (g1.symm.trans h')
          rw [← e3]
          exact oq q2 (Array.getElem?_eq_some_iff.mp g3).1
  · rw [oq q' (by have := hR.2.1; omega)]
    exact hR.2.2.2.1 q' hq'
  · rw [ht i (Nat.lt_of_lt_of_le hi hR.1)]
    exact hR.2.2.2.2 i h0 hi
