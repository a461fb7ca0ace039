/-! SOUNDNESS: ends; the whole -/
def am_bd (h : am_H) (o : am_O) : Prop := match o with
  | some (.inl (_, _, _, h')) => h.1 ≤ h'.1 ∧ h.2.1 ≤ h'.2.1
  | some (.inr (.inl r)) => h.1 ≤ r.2.1 ∧ h.2.1 ≤ r.2.2.1
  | some (.inr (.inr (_, _, _, _, _, h'))) => h.1 ≤ h'.1 ∧ h.2.1 ≤ h'.2.1
  | none => True
def am_o1 (o : am_O) : Prop := match o with
  | some (.inr _) => False
  | _ => True
def am_o7 (o : am_O) : Prop := match o with
  | some (.inr (.inl _)) => False
  | _ => True
def am_o8 (o : am_O) : Prop := match o with
  | some (.inl _) => False
  | some (.inr (.inr _)) => False
  | _ => True
theorem bd_s1 (i : Instr) (n pc : Nat) (ls : am_L) (st : List Value) (h : am_H) : am_bd h (am_s1 i n pc ls st h) ∧ am_o1 (am_s1 i n pc ls st h) := by
  unfold am_s1 am_w am_li am_la am_ll am_si am_sa am_sl am_inc am_nx
  repeat' split
  all_goals first | exact ⟨trivial, trivial⟩ | exact ⟨⟨Nat.le_refl _, Nat.le_refl _⟩, trivial⟩
theorem bd_s2 (i : Instr) (n pc : Nat) (ls : am_L) (st : List Value) (h : am_H) : am_bd h (am_s2 i n pc ls st h) ∧ am_o1 (am_s2 i n pc ls st h) := by
  unfold am_s2 am_w am_ii am_i1 am_nx
  repeat' split
  all_goals first | exact ⟨trivial, trivial⟩ | exact ⟨⟨Nat.le_refl _, Nat.le_refl _⟩, trivial⟩
theorem bd_s3 (i : Instr) (n pc : Nat) (ls : am_L) (st : List Value) (h : am_H) : am_bd h (am_s3 i n pc ls st h) ∧ am_o1 (am_s3 i n pc ls st h) := by
  unfold am_s3 am_w am_jj am_ji am_nx
  repeat' split
  all_goals first | exact ⟨trivial, trivial⟩ | exact ⟨⟨Nat.le_refl _, Nat.le_refl _⟩, trivial⟩
theorem bd_s4 (i : Instr) (n pc : Nat) (ls : am_L) (st : List Value) (h : am_H) : am_bd h (am_s4 i n pc ls st h) ∧ am_o1 (am_s4 i n pc ls st h) := by
  unfold am_s4 am_w am_if1 am_if2 am_acmp am_ifn am_tsw am_lsw am_br am_go am_nx
  repeat' split
  all_goals first | exact ⟨trivial, trivial⟩ | exact ⟨⟨Nat.le_refl _, Nat.le_refl _⟩, trivial⟩
theorem bd_s5 (m : Nat) (i : Instr) (n pc : Nat) (ls : am_L) (st : List Value) (h : am_H) : am_bd h (am_s5 m i n pc ls st h) ∧ am_o1 (am_s5 m i n pc ls st h) := by
  unfold am_s5 am_w am_nx
  repeat' split
  all_goals first | exact ⟨trivial, trivial⟩ | exact ⟨⟨Nat.le_refl _, Nat.le_refl _⟩, trivial⟩
theorem bd_s6 (m : Nat) (i : Instr) (n pc : Nat) (ls : am_L) (st : List Value) (h : am_H) : am_bd h (am_s6 m i n pc ls st h) ∧ am_o1 (am_s6 m i n pc ls st h) := by
  unfold am_s6 am_w am_ald am_ast am_mk am_nx
  repeat' split
  all_goals first | exact ⟨trivial, trivial⟩ | exact ⟨⟨Nat.le_refl _, Nat.le_refl _⟩, trivial⟩ | exact ⟨⟨Nat.le_succ _, Nat.le_add_right _ _⟩, trivial⟩
theorem bd_s7 (m : Nat) (i : Instr) (n pc : Nat) (ls : am_L) (st : List Value) (h : am_H) : am_bd h (am_s7 m i n pc ls st h) ∧ am_o7 (am_s7 m i n pc ls st h) := by
  unfold am_s7 am_w am_vir am_call am_nx
  repeat' split
  all_goals first | exact ⟨trivial, trivial⟩ | exact ⟨⟨Nat.le_refl _, Nat.le_refl _⟩, trivial⟩
theorem bd_s8 (m : Nat) (i : Instr) (n : Nat) (st : List Value) (h : am_H) : am_bd h (am_s8 m i n st h) ∧ am_o8 (am_s8 m i n st h) := by
  unfold am_s8 am_w am_ret
  repeat' split
  all_goals first | exact ⟨trivial, trivial⟩ | exact ⟨⟨Nat.le_refl _, Nat.le_refl _⟩, trivial⟩
