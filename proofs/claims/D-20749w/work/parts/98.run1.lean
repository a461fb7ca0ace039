/-! the commands' row: pure facts (printed by gen/run1.py) -/
set_option maxRecDepth 100000
set_option maxHeartbeats 4000000
def QI (P : PT) : Prop := ((P.st = 0 ∧ P.pl = -1) ∨ (P.st ≠ 0 ∧ P.mo = 0)) ∧ ∀ x, x ∈ P.ou → x < 128
theorem QI_ask {P : PT} {pl : Nat} (h : QI P) : QI (P.ask pl) := ⟨Or.inr ⟨Nat.succ_ne_zero _, rfl⟩, h.2⟩
def VE (r : Nat × (Nat → Int) × PT) : Prop := VRG r.2.1 ∧ QI r.2.2 ∧ (r.1 = 0 ∨ r.1 = 2 ∨ r.1 = 3 ∨ r.1 = 100)
theorem VE_100 {v : Nat → Int} {P : PT} (h : VRG v) (q : QI P) : VE (100, v, P) := ⟨h, q, Or.inr (Or.inr (Or.inr rfl))⟩
theorem VE_0 {v : Nat → Int} {P : PT} (h : VRG v) (q : QI P) : VE (0, v, P) := ⟨h, q, Or.inl rfl⟩
theorem chk_e {v : Nat → Int} {a : Nat} {r : Int} : (chk v a r).1 = 0 ∨ (chk v a r).1 = 3 := by
  unfold chk
  split
  · exact Or.inl rfl
  · exact Or.inr rfl
theorem act_e {s : St} {v : Nat → Int} : (actF s v).1 = 0 ∨ (actF s v).1 = 2 ∨ (actF s v).1 = 3 := by
  have k : ∀ {a : Nat} {r : Int}, (chk v a r).1 = 0 ∨ (chk v a r).1 = 2 ∨ (chk v a r).1 = 3 := fun {a r} => by
    rcases chk_e (v := v) (a := a) (r := r) with h | h
    · exact Or.inl h
    · exact Or.inr (Or.inr h)
  unfold actF
  split
  · exact k
  · exact k
  · exact k
  · exact k
  · exact k
  · exact Or.inl rfl
  · split
    · exact Or.inl rfl
    · exact Or.inr (Or.inl rfl)
  · exact Or.inl rfl
theorem do1_VE {L pi : Nat} {s : St} {v : Nat → Int} {P : PT} (hs : s.ok) (h : VRG v) (q : QI P) : VE (do1 L s pi v P) := by
  unfold do1
  split
  · exact VE_100 h q
  · refine ⟨act_VR hs h, QI_ask q, ?_⟩
    rcases act_e (s := s) (v := v) with e | e | e
    · exact Or.inl e
    · exact Or.inr (Or.inl e)
    · exact Or.inr (Or.inr (Or.inl e))
theorem loopR_VE {L w u pl pi : Nat} {s : St} (hs : s.ok) (n : Nat) : ∀ {v : Nat → Int} {P : PT}, VRG v → QI P → VE (loopR L s w u pl pi n v P) := by
  induction n with
  | zero => intro v P h q; exact VE_100 h q
  | succ n ih =>
    intro v P h q
    have D := do1_VE (L := L) (pi := pi) (P := P) hs h q
    unfold loopR
    split
    · exact D
    · split
      · exact D
      · split
        · exact VE_100 D.1 D.2.1
        · exact ih D.1 (QI_ask D.2.1)
theorem loopW_VE {L w u pl pi : Nat} {s : St} (hs : s.ok) (n : Nat) : ∀ {v : Nat → Int} {P : PT}, VRG v → QI P → VE (loopW L s w u pl pi n v P) := by
  induction n with
  | zero => intro v P h q; exact VE_100 h q
  | succ n ih =>
    intro v P h q
    have D := do1_VE (L := L) (pi := pi) (P := P) hs h q
    unfold loopW
    split
    · split
      · exact D
      · split
        · exact VE_100 D.1 D.2.1
        · exact ih D.1 (QI_ask D.2.1)
    · exact VE_0 h q
theorem loopF_VE {L a c pl pi : Nat} {s : St} (hs : s.ok) (ha : a < 8) (hc : c < 32768) (n : Nat) : ∀ {v : Nat → Int} {P : PT}, VRG v → QI P → VE (loopF L s a c pl pi n v P) := by
  induction n with
  | zero => intro v P h q; exact VE_100 h q
  | succ n ih =>
    intro v P h q
    have D := do1_VE (L := L) (pi := pi) (P := P) hs h q
    unfold loopF
    split
    · exact D
    · split
      · exact D
      · rename_i z
        have b := D.1 a ha
        have V : VRG (up (do1 L s pi v P).2.1 a ((do1 L s pi v P).2.1 a + 3)) := VR_up D.1 (by omega) (by omega)
        split
        · exact VE_100 V D.2.1
        · exact ih V (QI_ask D.2.1)
theorem wr_128 {y : Int} {w : Nat} : ∀ x, x ∈ wr y w → x < 128 := by
  intro x hx
  unfold wr at hx
  rcases List.mem_append.mp hx with h | h
  · rw [(List.mem_replicate.mp h).2]; decide
  · rcases List.mem_append.mp h with h | h
    · split at h
      · rw [List.mem_singleton.mp h]; decide
      · exact absurd h List.not_mem_nil
    · obtain ⟨j, -, rfl⟩ := List.mem_map.mp h
      omega
theorem doC_VE {L pl pi : Nat} {c : Cmd} {v : Nat → Int} {P : PT} (hc : c.ok) (h : VRG v) (q0 : QI P) : VE (doC L c pl pi v P) := by
  have q : QI (P.ask pl) := QI_ask q0
  unfold doC
  split
  · exact VE_100 h q0
  · refine Cmd.all (p := fun c => VE (match c with
  | (1, _, _, _, s) => ((actF s v).1, (actF s v).2, P.ask pl)
  | (2, w, u, _, s) => if v w < v u then do1 L s pi v (P.ask pl) else (0, v, P.ask pl)
  | (3, a, w, c, s) => if (c : Int) < v w then (0, up v a (v w), P.ask pl) else loopF L s a c pl pi (L + 1) (up v a (v w)) (P.ask pl)
  | (4, a, c, _, _) => (0, v, (P.ask pl).wou ((P.ask pl).ou ++ wr (v a) c))
  | (5, w, u, _, s) => loopR L s w u pl pi (L + 1) v (P.ask pl)
  | (6, w, u, _, s) => loopW L s w u pl pi (L + 1) v (P.ask pl)
  | _ => ((0, v, P) : Nat × (Nat → Int) × PT))) ?_ ?_ ?_ ?_ ?_ ?_ hc
    · intro s ok
      have k := ok.2.2.2
      refine ⟨act_VR k h, q, ?_⟩
      show (actF s v).1 = 0 ∨ (actF s v).1 = 2 ∨ (actF s v).1 = 3 ∨ (actF s v).1 = 100
      rcases act_e (s := s) (v := v) with e | e | e
      · exact Or.inl e
      · exact Or.inr (Or.inl e)
      · exact Or.inr (Or.inr (Or.inl e))
    · intro w u s ok
      show VE (if v w < v u then do1 L s pi v (P.ask pl) else (0, v, P.ask pl))
      split
      · exact do1_VE ok.2.2.2 h q
      · exact VE_0 h q
    · intro a w k s ok
      show VE (if (k : Int) < v w then (0, up v a (v w), P.ask pl) else loopF L s a k pl pi (L + 1) (up v a (v w)) (P.ask pl))
      have b := h w (by have := ok.2.1; omega)
      have V := VR_up (a := a) h b.1 b.2
      split
      · exact VE_0 V q
      · exact loopF_VE ok.2.2.2 (by have := ok.1; omega) ok.2.2.1 _ V q
    · intro a c ok
      refine VE_0 h ⟨q.1, fun x hx => ?_⟩
      have hx : x ∈ P.ou ++ wr (v a) c := hx
      rcases List.mem_append.mp hx with z | z
      · exact q0.2 x z
      · exact wr_128 x z
    · intro w u s ok
      exact loopR_VE ok.2.2.2 _ h q
    · intro w u s ok
      exact loopW_VE ok.2.2.2 _ h q
theorem doC_st {L pl pi : Nat} {c : Cmd} {v : Nat → Int} {P : PT} (h : P.st ≤ L) (z : (doC L c pl pi v P).1 ≠ 100) : (doC L c pl pi v P).2.2.st ≤ L := (doC_mono h (Nat.le_refl L) z).2
theorem VR_100 {v : Nat → Int} (h : VRG v) : ∀ j, j < 4 → (v j).natAbs < 100000 := fun j hj => by
  have := h j (by omega)
  omega
theorem doR_VE (L : Nat) : ∀ (l : List (Cmd × Nat × Nat)) (v : Nat → Int) (P : PT), okR l → VRG v → QI P → VE (doR L l v P) ∧ (doR L l v P).2.2.ou.length ≤ P.ou.length + 20 * l.length
  | [], v, P, _, h, q => ⟨VE_0 h q, Nat.le_refl _⟩
  | (c, pl, pi) :: r, v, P, ok, h, q => by
    have k := ok.1.1
    have D := doC_VE (L := L) (pl := pl) (pi := pi) k h q
    have O := doC_ou (L := L) (pl := pl) (pi := pi) (P := P) k (VR_100 h)
    unfold doR
    split
    · refine ⟨D, ?_⟩
      rw [List.length_cons]
      omega
    · obtain ⟨i1, i2⟩ := doR_VE L r (doC L c pl pi v P).2.1 (doC L c pl pi v P).2.2 ok.2 D.1 D.2.1
      refine ⟨i1, ?_⟩
      rw [List.length_cons]
      omega
theorem doR_st (L : Nat) : ∀ (l : List (Cmd × Nat × Nat)) (v : Nat → Int) (P : PT), P.st ≤ L → (doR L l v P).1 ≠ 100 → (doR L l v P).2.2.st ≤ L
  | [], v, P, h, _ => h
  | (c, pl, pi) :: r, v, P, h, z => by
    unfold doR at z ⊢
    by_cases e : (doC L c pl pi v P).1 ≠ 0
    · rw [if_pos e] at z ⊢
      exact doC_st h z
    · rw [if_neg e] at z ⊢
      exact doR_st L r _ _ (doC_st h (fun q => e (by omega))) z
/-- the commands from the k-th on -/
def cmR (sx : Nat → Int32) : Nat → Nat → List Cmd
  | _, 0 => []
  | k, m + 1 => cmOf (sx (2 * k)) (sx (2 * k + 1)) :: cmR sx (k + 1) m
theorem cmR_L {sx : Nat → Int32} : ∀ (m k : Nat), cmL sx k ++ cmR sx k m = cmL sx (k + m) := by
  intro m
  induction m with
  | zero => intro k; exact List.append_nil _
  | succ m ih =>
    intro k
    have e := ih (k + 1)
    rw [show k + (m + 1) = k + 1 + m by omega, ← e]
    show cmL sx k ++ ([cmOf (sx (2 * k)) (sx (2 * k + 1))] ++ cmR sx (k + 1) m) = cmL sx k ++ [cmOf (sx (2 * k)) (sx (2 * k + 1))] ++ cmR sx (k + 1) m
    rw [List.append_assoc]
theorem cmR_0 {sx : Nat → Int32} {n : Nat} : cmR sx 0 n = cmL sx n := by
  have := cmR_L (sx := sx) n 0
  rw [Nat.zero_add] at this
  exact this
theorem plN_s {sx : Nat → Int32} {k : Nat} : plN sx (k + 1) = plN sx k + (txL (cmOf (sx (2 * k)) (sx (2 * k + 1))).lx).length + 1 := by
  unfold plN
  show 90 + (txL (rowL (cmL sx k ++ [cmOf (sx (2 * k)) (sx (2 * k + 1))]))).length = _
  rw [rowL_one, List.length_append, List.length_append, List.length_singleton]
  omega
theorem plN_0 {sx : Nat → Int32} : plN sx 0 = 90 := rfl
theorem plN_le {sx : Nat → Int32} {k : Nat} (h : k ≤ 26) : plN sx k ≤ 1700 := by
  have tl := row_tl (cmL_ok (sx := sx) (n := k))
  rw [cmL_len] at tl
  unfold plN
  omega
