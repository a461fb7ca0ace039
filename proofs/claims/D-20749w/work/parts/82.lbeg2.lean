/-! the law up to its loop over the script (printed by gen/lbeg2.py) -/
set_option maxRecDepth 100000
set_option maxHeartbeats 4000000
/-- what the constructor has left -/
def CF (W C : Nat → Nat → Value) : Prop := (∀ x k, am_i x < 434 → x ≠ 7264534539 → C x k = hp (LA (L0 W)) W x k) ∧ C 7264534539 3 = .ref 7331774505 ∧ (∀ k, C 7331774505 k = .int (KBF k))
theorem hl_of {C W : Nat → Nat → Value} {s : Nat} (c : CF W C) : (7443, s, hp (LC C) C) = HL (hp (LC C) C) 7443 s [] (fun _ => 0) (fun _ => 0) (fun _ => 0) := by
  have e : gL (hp (LC C) C) (fun _ => 0) (fun _ => 0) = hp (LC C) C := by
    funext a k
    show (if a = 124805713963 then _ else if a = 124822491179 then _ else _) = _
    split
    · rename_i h; subst h; rfl
    · split
      · rename_i h; subst h; rfl
      · rfl
  unfold HL
  rw [e]
  have qz : ∀ j, qF [] j = 0 := fun j => by
    show (if j = 0 then Int64.ofNat 0 else if j < 6 then Int64.ofNat (pk [] (4 * (j - 1))) else 0) = 0
    split
    · rfl
    · split
      · unfold pk
        simp
      · rfl
  unfold HWt
  apply HW_of
  · exact (c.1 4798283777 0 (by decide) (by decide)).trans rfl
  · exact (c.1 4798283777 1 (by decide) (by decide)).trans rfl
  · intro j
    refine (c.1 4815189033 j (by decide) (by decide)).trans ?_
    have : bF (TF ((cl []).take (bk []))) j = 0 := by
      unfold bF TF
      simp [cl]
    rw [this]
    rfl
  · intro j
    rw [qz]
    rfl
  · intro j; rfl
theorem law_beg {W : Nat → Nat → Value} {s d sa : Nat} (G : GS W) : ∃ C s', CF W C ∧ s' = s + 405130 + rSS KTF true + rSS KTF false ∧ am_G (d + 13) 0 0 [some (.ref sa), none, none, none, none, none, none, none, none, none, none, none, none, none] [] (286, s, W) = am_G (d + 13) 0 144 [some (.ref sa), some (.ref 4798283777), some (.ref 124772155947), some (.ref 124788933419), some (.ref 124805713963), some (.ref 124822491179), some (.ref 124839264427), some (.ref 124856169512), some (.int 0), some (.int 0), none, none, none, none] [] (HL (hp (LC C) C) 7443 s' hdT (fun _ => 0) (fun _ => 0) (fun _ => 0)) := by
  have lo : LOW (L0 W) W := LOW_w (fun _ _ => rfl) (by decide)
  obtain ⟨C, s', e1, e2, e3, e4, e5, e6, e7⟩ := c_mw (A := L0 W) (B := W) (s := s + 23) (d := d) G lo
  have c : CF W C := ⟨e2, e3, e4⟩
  refine ⟨C, s' + 2150, c, by rw [e7]; omega, ?_⟩
  rw [law_new, z0_4 (by decide) (by simp only [am_cat_nil, am_cat_ref, Nat.reduceAdd, Nat.reduceLeDiff]), e1]
  show am_G (d + 13) 0 7 [some (.ref sa), none, none, none, none, none, none, none, none, none, none, none, none, none] [.ref 4798283777] (7437, s', hp (LB C) C) = _
  rw [law_arr, hl_of c]
  exact law_words
