/-! The texts of the law: their tokens (printed by gen/words.py) -/
set_option maxRecDepth 100000
set_option maxHeartbeats 4000000
/-- the signs of a number -/
def dg (c : Nat) : List Nat := (if 9999 < c then [48 + c / 10000] else []) ++ ((if 999 < c then [48 + c / 1000 % 10] else []) ++ ((if 99 < c then [48 + c / 100 % 10] else []) ++ ((if 9 < c then [48 + c / 10 % 10] else []) ++ [48 + c % 10])))
abbrev LI : Type := Nat × List Nat × Int32 × Int64
def iV (b j : Nat) : LI := (b, [97 + j], 100, cw j)
def iE (b : Nat) : LI := (b, [101], 100, 15)
def iN (b c : Nat) : LI := (b, dg c, 101, Int64.ofNat c)
def iS (b c : Nat) (kd : Int32) : LI := (b, [c], kd, 0)
def iB : LI := (0, [58, 61], 130, 0)
def iW (b : Nat) (w : List Nat) (kd : Int32) : LI := (b, w, kd, wF 0 w)
def nxA (l : List LI) (e : Nat) : Nat := match l with
  | [] => e
  | (b, w, _, _) :: _ => if b = 0 then w.getD 0 0 else 32
def okA : List LI → Nat → Prop
  | [], _ => True
  | (b, w, kd, a) :: r, e => LXK w (nxA r e) kd a ∧ okA r e
theorem nxL_app {l m : List LI} : nxL (l ++ m) = nxA l (nxL m) := by
  cases l with
  | nil => rfl
  | cons c l => rfl
theorem okL_app {l m : List LI} : okL (l ++ m) ↔ okA l (nxL m) ∧ okL m := by
  induction l with
  | nil => exact ⟨fun h => ⟨trivial, h⟩, fun h => h.2⟩
  | cons c l ih =>
    obtain ⟨b, w, kd, a⟩ := c
    show (LXK w (nxL (l ++ m)) kd a ∧ okL (l ++ m)) ↔ ((LXK w (nxA l (nxL m)) kd a ∧ okA l (nxL m)) ∧ okL m)
    rw [ih, nxL_app, and_assoc]
theorem okA_app {l m : List LI} {e : Nat} : okA (l ++ m) e ↔ okA l (nxA m e) ∧ okA m e := by
  induction l with
  | nil => exact ⟨fun h => ⟨trivial, h⟩, fun h => h.2⟩
  | cons c l ih =>
    obtain ⟨b, w, kd, a⟩ := c
    have n : nxA (l ++ m) e = nxA l (nxA m e) := by cases l <;> rfl
    show (LXK w (nxA (l ++ m) e) kd a ∧ okA (l ++ m) e) ↔ ((LXK w (nxA l (nxA m e)) kd a ∧ okA l (nxA m e)) ∧ okA m e)
    rw [ih, n, and_assoc]
theorem txL_app {l m : List LI} : txL (l ++ m) = txL l ++ txL m := by
  induction l with
  | nil => rfl
  | cons c l ih =>
    obtain ⟨b, w, kd, a⟩ := c
    show List.replicate b 32 ++ (w ++ txL (l ++ m)) = List.replicate b 32 ++ (w ++ txL l) ++ txL m
    rw [ih, List.append_assoc, List.append_assoc]
theorem dg_dig {c : Nat} (h : c < 100000) {x : Nat} (hx : x ∈ dg c) : cDig x := by
  unfold dg at hx
  simp only [List.mem_append] at hx
  have A : ∀ {p : Prop} [Decidable p] {y : Nat}, x ∈ (if p then [y] else []) → x = y := by
    intro p _ y h
    split at h
    · exact List.mem_singleton.mp h
    · cases h
  rcases hx with hx | hx | hx | hx | hx
  · have := A hx; constructor <;> omega
  · have := A hx; constructor <;> omega
  · have := A hx; constructor <;> omega
  · have := A hx; constructor <;> omega
  · have := List.mem_singleton.mp hx; constructor <;> omega
theorem dg_pos {c : Nat} : 0 < (dg c).length := by
  unfold dg
  simp only [List.length_append, List.length_singleton]
  omega
theorem dg_len {c : Nat} : (dg c).length ≤ 5 := by
  unfold dg
  simp only [List.length_append, List.length_singleton]
  have A : ∀ {p : Prop} [Decidable p] {y : Nat}, (if p then [y] else []).length ≤ 1 := by intro p _ y; split <;> simp
  have a1 := A (p := 9999 < c) (y := 48 + c / 10000)
  have a2 := A (p := 999 < c) (y := 48 + c / 1000 % 10)
  have a3 := A (p := 99 < c) (y := 48 + c / 100 % 10)
  have a4 := A (p := 9 < c) (y := 48 + c / 10 % 10)
  omega
theorem vF_app {v : Nat} {a b : List Nat} : vF v (a ++ b) = vF (vF v a) b := List.foldl_append
theorem dg_val {c : Nat} (h : c < 100000) : vF 0 (dg c) = c := by
  unfold dg
  rw [vF_app, vF_app, vF_app, vF_app]
  by_cases h1 : 9999 < c
  · rw [if_pos h1, if_pos (by omega), if_pos (by omega), if_pos (by omega)]
    show 10 * (10 * (10 * (10 * (10 * 0 + (48 + c / 10000 - 48)) + (48 + c / 1000 % 10 - 48)) + (48 + c / 100 % 10 - 48)) + (48 + c / 10 % 10 - 48)) + (48 + c % 10 - 48) = c
    omega
  · by_cases h2 : 999 < c
    · rw [if_neg h1, if_pos h2, if_pos (by omega), if_pos (by omega)]
      show 10 * (10 * (10 * (10 * 0 + (48 + c / 1000 % 10 - 48)) + (48 + c / 100 % 10 - 48)) + (48 + c / 10 % 10 - 48)) + (48 + c % 10 - 48) = c
      omega
    · by_cases h3 : 99 < c
      · rw [if_neg h1, if_neg h2, if_pos h3, if_pos (by omega)]
        show 10 * (10 * (10 * 0 + (48 + c / 100 % 10 - 48)) + (48 + c / 10 % 10 - 48)) + (48 + c % 10 - 48) = c
        omega
      · by_cases h4 : 9 < c
        · rw [if_neg h1, if_neg h2, if_neg h3, if_pos h4]
          show 10 * (10 * 0 + (48 + c / 10 % 10 - 48)) + (48 + c % 10 - 48) = c
          omega
        · rw [if_neg h1, if_neg h2, if_neg h3, if_neg h4]
          show 10 * 0 + (48 + c % 10 - 48) = c
          omega
theorem getD_mem {w : List Nat} {j : Nat} (h : j < w.length) : w.getD j 0 ∈ w := by
  rw [List.getD_eq_getElem?_getD, List.getElem?_eq_getElem h]
  exact List.getElem_mem h
theorem dg_ne {c k : Nat} (h : c < 65536) (hk : ¬ cDig k) : (dg c).getD 0 0 ≠ k := fun e => hk (e ▸ dg_dig (by omega) (getD_mem dg_pos))
theorem lx_N {c e : Nat} (h : c < 65536) (h1 : ¬ cHigh e) (h2 : e ≠ 72) : LXK (dg c) e 101 (Int64.ofNat c) :=
  Or.inr (Or.inl ⟨dg_pos, fun j hj => dg_dig (by omega) (getD_mem hj), h1, h2, by rw [dg_val (by omega)]; exact h, rfl, by rw [dg_val (by omega)]⟩)
theorem lx_V {j e : Nat} (h : j < 4) (h1 : ¬ cLet e) (h2 : ¬ cDig e) : LXK [97 + j] e 100 (cw j) := by
  obtain rfl | rfl | rfl | rfl : j = 0 ∨ j = 1 ∨ j = 2 ∨ j = 3 := by omega
  all_goals exact Or.inl ⟨by decide, by decide, by decide, by decide, h1, h2, by decide, by decide⟩
theorem lx_W {w : List Nat} {e : Nat} {kd : Int32} (h1 : ¬ cLet e) (h2 : ¬ cDig e) (hw : 0 < w.length ∧ w.length ≤ 10 ∧ cLet (w.getD 0 0) ∧ (∀ j, j < w.length → cLet (w.getD j 0) ∨ cDig (w.getD j 0)) ∧ kd = Int32.ofNat (resG 41 0 w)) : LXK w e kd (wF 0 w) :=
  Or.inl ⟨hw.1, hw.2.1, hw.2.2.1, hw.2.2.2.1, h1, h2, hw.2.2.2.2, rfl⟩
theorem lx_E {e : Nat} (h1 : ¬ cLet e) (h2 : ¬ cDig e) : LXK [101] e 100 15 := Or.inl ⟨by decide, by decide, by decide, by decide, h1, h2, by decide, by decide⟩
theorem lx_B {e : Nat} : LXK [58, 61] e 130 0 := Or.inr (Or.inr (Or.inr (Or.inl ⟨rfl, rfl, rfl⟩)))
theorem lx_S {c e : Nat} {kd : Int32} (h1 : e ≠ 61) (h2 : e ≠ 62) (h3 : e ≠ 46) (h4 : e ≠ 42) (hc : c ≠ 38 ∧ c ≠ 126 ∧ c ≠ 34 ∧ c ≠ 39 ∧ c ≠ 32 ∧ c ≠ 10 ∧ ¬ cLet c ∧ ¬ cDig c ∧ sgF 20 0 c = kd ∧ kd ≠ -1 ∧ kd.toInt16.toInt32 = kd) : LXK [c] e kd 0 :=
  Or.inr (Or.inr (Or.inl ⟨c, rfl, fun z => h1 z.2, fun z => h1 z.2, fun z => h1 z.2, fun z => h2 z.2, fun z => h3 z.2, fun z => h4 z.2, hc.1, hc.2.1, hc.2.2.1, hc.2.2.2.1, hc.2.2.2.2.1, hc.2.2.2.2.2.1, hc.2.2.2.2.2.2.1, hc.2.2.2.2.2.2.2.1, hc.2.2.2.2.2.2.2.2.1, hc.2.2.2.2.2.2.2.2.2.1, hc.2.2.2.2.2.2.2.2.2.2, rfl⟩))
/-- the text of a simple statement, b blanks ahead of it -/
def St.lx (b : Nat) (s : St) : List LI := match s with
  | (5, _, w, u) => [iE b, iS 0 91 119, iV 0 w, iW 1 [77, 79, 68] 23, iN 1 4, iS 0 93 120, iB, iV 0 u]
  | (6, a, w, _) => [iV b a, iB, iE 0, iS 0 91 119, iV 0 w, iS 0 93 120]
  | (7, a, c, _) => [iV b a, iB, iN 0 c]
  | (0, a, w, u) => [iV b a, iB, iV 0 w, iS 0 43 110, iV 0 u]
  | (1, a, w, c) => [iV b a, iB, iV 0 w, iS 0 45 111, iN 0 c]
  | (2, a, w, u) => [iV b a, iB, iV 0 w, iS 0 42 112, iV 0 u]
  | (3, a, w, c) => [iV b a, iB, iV 0 w, iW 1 [68, 73, 86] 8, iN 1 c]
  | (4, a, w, c) => [iV b a, iB, iV 0 w, iW 1 [77, 79, 68] 23, iN 1 c]
  | _ => []
/-- the text of a command -/
def Cmd.lx (c : Cmd) : List LI := match c with
  | (1, _, _, _, s) => s.lx 0
  | (4, a, c, _, _) => [iW 0 [87, 114, 105, 116, 101, 73, 110, 116] 100, iS 0 40 117, iV 0 a, iS 0 44 115, iN 0 c, iS 0 41 118]
  | (2, w, u, _, s) => [iW 0 [73, 70] 18, iV 1 w, iS 0 60 127, iV 0 u, iW 1 [84, 72, 69, 78] 35] ++ (s.lx 1 ++ [iW 1 [69, 78, 68] 12])
  | (3, a, w, c, s) => [iW 0 [70, 79, 82] 15, iV 1 a, iB, iV 0 w, iW 1 [84, 79] 36, iN 1 c, iW 1 [66, 89] 4, iN 1 3, iW 1 [68, 79] 9] ++ (s.lx 1 ++ [iW 1 [69, 78, 68] 12])
  | (5, w, u, _, s) => [iW 0 [82, 69, 80, 69, 65, 84] 32] ++ (s.lx 1 ++ [iW 1 [85, 78, 84, 73, 76] 38, iV 1 w, iS 0 60 127, iV 0 u])
  | (6, w, u, _, s) => [iW 0 [87, 72, 73, 76, 69] 40, iV 1 w, iS 0 62 128, iV 0 u, iW 1 [68, 79] 9] ++ (s.lx 1 ++ [iW 1 [69, 78, 68] 12])
  | _ => []
theorem lx_st {s : St} {e : Nat} (hs : s.ok) (b : Nat) (hl : ¬ cLet e) (hd : ¬ cDig e) (hh : ¬ cHigh e) (h72 : e ≠ 72) (g1 : e ≠ 61) (g2 : e ≠ 62) (g3 : e ≠ 46) (g4 : e ≠ 42) : okA (s.lx b) e := by
  refine St.all (p := fun s => okA (s.lx b) e) ?_ ?_ ?_ ?_ ?_ ?_ ?_ ?_ hs
  · intro a w u ok
    obtain ⟨ha, hw, hu⟩ := ok
    exact ⟨lx_V ha (show ¬ cLet 58 by decide) (show ¬ cDig 58 by decide), lx_B, lx_V hw (show ¬ cLet 43 by decide) (show ¬ cDig 43 by decide), lx_S (show (97 + u) ≠ 61 by omega) (show (97 + u) ≠ 62 by omega) (show (97 + u) ≠ 46 by omega) (show (97 + u) ≠ 42 by omega) (by decide), lx_V hu hl hd, trivial⟩
  · intro a w c ok
    obtain ⟨ha, hw, hc0⟩ := ok
    have hc : c < 65536 := by omega
    exact ⟨lx_V ha (show ¬ cLet 58 by decide) (show ¬ cDig 58 by decide), lx_B, lx_V hw (show ¬ cLet 45 by decide) (show ¬ cDig 45 by decide), lx_S (dg_ne hc (by decide)) (dg_ne hc (by decide)) (dg_ne hc (by decide)) (dg_ne hc (by decide)) (by decide), lx_N hc hh h72, trivial⟩
  · intro a w u ok
    obtain ⟨ha, hw, hu⟩ := ok
    exact ⟨lx_V ha (show ¬ cLet 58 by decide) (show ¬ cDig 58 by decide), lx_B, lx_V hw (show ¬ cLet 42 by decide) (show ¬ cDig 42 by decide), lx_S (show (97 + u) ≠ 61 by omega) (show (97 + u) ≠ 62 by omega) (show (97 + u) ≠ 46 by omega) (show (97 + u) ≠ 42 by omega) (by decide), lx_V hu hl hd, trivial⟩
  · intro a w c ok
    obtain ⟨ha, hw, _, hc0⟩ := ok
    have hc : c < 65536 := by omega
    exact ⟨lx_V ha (show ¬ cLet 58 by decide) (show ¬ cDig 58 by decide), lx_B, lx_V hw (show ¬ cLet 32 by decide) (show ¬ cDig 32 by decide), lx_W (show ¬ cLet 32 by decide) (show ¬ cDig 32 by decide) (by decide), lx_N hc hh h72, trivial⟩
  · intro a w c ok
    obtain ⟨ha, hw, _, hc0⟩ := ok
    have hc : c < 65536 := by omega
    exact ⟨lx_V ha (show ¬ cLet 58 by decide) (show ¬ cDig 58 by decide), lx_B, lx_V hw (show ¬ cLet 32 by decide) (show ¬ cDig 32 by decide), lx_W (show ¬ cLet 32 by decide) (show ¬ cDig 32 by decide) (by decide), lx_N hc hh h72, trivial⟩
  · intro w u ok
    obtain ⟨_, hw, hu⟩ := ok
    exact ⟨lx_E (show ¬ cLet 91 by decide) (show ¬ cDig 91 by decide), lx_S (show (97 + w) ≠ 61 by omega) (show (97 + w) ≠ 62 by omega) (show (97 + w) ≠ 46 by omega) (show (97 + w) ≠ 42 by omega) (by decide), lx_V hw (show ¬ cLet 32 by decide) (show ¬ cDig 32 by decide), lx_W (show ¬ cLet 32 by decide) (show ¬ cDig 32 by decide) (by decide), lx_N (by decide) (show ¬ cHigh 93 by decide) (show 93 ≠ 72 by decide), lx_S (show 58 ≠ 61 by decide) (show 58 ≠ 62 by decide) (show 58 ≠ 46 by decide) (show 58 ≠ 42 by decide) (by decide), lx_B, lx_V hu hl hd, trivial⟩
  · intro a w ok
    obtain ⟨_, ha, hw⟩ := ok
    exact ⟨lx_V ha (show ¬ cLet 58 by decide) (show ¬ cDig 58 by decide), lx_B, lx_E (show ¬ cLet 91 by decide) (show ¬ cDig 91 by decide), lx_S (show (97 + w) ≠ 61 by omega) (show (97 + w) ≠ 62 by omega) (show (97 + w) ≠ 46 by omega) (show (97 + w) ≠ 42 by omega) (by decide), lx_V hw (show ¬ cLet 93 by decide) (show ¬ cDig 93 by decide), lx_S g1 g2 g3 g4 (by decide), trivial⟩
  · intro a c ok
    obtain ⟨_, ha, hc0⟩ := ok
    have hc : c < 65536 := by omega
    exact ⟨lx_V ha (show ¬ cLet 58 by decide) (show ¬ cDig 58 by decide), lx_B, lx_N hc hh h72, trivial⟩
theorem st_nx {s : St} (hs : s.ok) (m : List LI) (e : Nat) : nxA (s.lx 1 ++ m) e = 32 := by
  refine St.all (p := fun s => nxA (s.lx 1 ++ m) e = 32) ?_ ?_ ?_ ?_ ?_ ?_ ?_ ?_ hs
  all_goals intros; rfl
theorem lx_st1 {s : St} (hs : s.ok) : okA (s.lx 1) 32 := lx_st hs 1 (by decide) (by decide) (by decide) (by decide) (by decide) (by decide) (by decide) (by decide)
theorem lx_cm {c : Cmd} (hc : c.ok) : okA c.lx 59 := by
  refine Cmd.all (p := fun c => okA c.lx 59) ?_ ?_ ?_ ?_ ?_ ?_ hc
  · intro s ok
    exact lx_st ok.2.2.2 0 (by decide) (by decide) (by decide) (by decide) (by decide) (by decide) (by decide) (by decide)
  · intro w u s ok
    obtain ⟨_, hw, hu, hs⟩ := ok
    refine okA_app.mpr ⟨?_, okA_app.mpr ⟨lx_st1 hs, ?_⟩⟩
    · rw [st_nx hs]
      exact ⟨lx_W (show ¬ cLet 32 by decide) (show ¬ cDig 32 by decide) (by decide), lx_V hw (show ¬ cLet 60 by decide) (show ¬ cDig 60 by decide), lx_S (show (97 + u) ≠ 61 by omega) (show (97 + u) ≠ 62 by omega) (show (97 + u) ≠ 46 by omega) (show (97 + u) ≠ 42 by omega) (by decide), lx_V hu (show ¬ cLet 32 by decide) (show ¬ cDig 32 by decide), lx_W (show ¬ cLet 32 by decide) (show ¬ cDig 32 by decide) (by decide), trivial⟩
    · exact ⟨lx_W (show ¬ cLet 59 by decide) (show ¬ cDig 59 by decide) (by decide), trivial⟩
  · intro a w c s ok
    obtain ⟨ha, hw, hc0, hs⟩ := ok
    have hc : c < 65536 := by omega
    refine okA_app.mpr ⟨?_, okA_app.mpr ⟨lx_st1 hs, ?_⟩⟩
    · rw [st_nx hs]
      exact ⟨lx_W (show ¬ cLet 32 by decide) (show ¬ cDig 32 by decide) (by decide), lx_V ha (show ¬ cLet 58 by decide) (show ¬ cDig 58 by decide), lx_B, lx_V hw (show ¬ cLet 32 by decide) (show ¬ cDig 32 by decide), lx_W (show ¬ cLet 32 by decide) (show ¬ cDig 32 by decide) (by decide), lx_N hc (show ¬ cHigh 32 by decide) (show 32 ≠ 72 by decide), lx_W (show ¬ cLet 32 by decide) (show ¬ cDig 32 by decide) (by decide), lx_N (by decide) (show ¬ cHigh 32 by decide) (show 32 ≠ 72 by decide), lx_W (show ¬ cLet 32 by decide) (show ¬ cDig 32 by decide) (by decide), trivial⟩
    · exact ⟨lx_W (show ¬ cLet 59 by decide) (show ¬ cDig 59 by decide) (by decide), trivial⟩
  · intro a c ok
    obtain ⟨_, _, ha, hc0⟩ := ok
    have hc : c < 65536 := by omega
    exact ⟨lx_W (show ¬ cLet 40 by decide) (show ¬ cDig 40 by decide) (by decide), lx_S (show (97 + a) ≠ 61 by omega) (show (97 + a) ≠ 62 by omega) (show (97 + a) ≠ 46 by omega) (show (97 + a) ≠ 42 by omega) (by decide), lx_V ha (show ¬ cLet 44 by decide) (show ¬ cDig 44 by decide), lx_S (dg_ne hc (by decide)) (dg_ne hc (by decide)) (dg_ne hc (by decide)) (dg_ne hc (by decide)) (by decide), lx_N hc (show ¬ cHigh 41 by decide) (show 41 ≠ 72 by decide), lx_S (show 59 ≠ 61 by decide) (show 59 ≠ 62 by decide) (show 59 ≠ 46 by decide) (show 59 ≠ 42 by decide) (by decide), trivial⟩
  · intro w u s ok
    obtain ⟨_, hw, hu, hs⟩ := ok
    refine okA_app.mpr ⟨?_, okA_app.mpr ⟨lx_st1 hs, ?_⟩⟩
    · rw [st_nx hs]
      exact ⟨lx_W (show ¬ cLet 32 by decide) (show ¬ cDig 32 by decide) (by decide), trivial⟩
    · exact ⟨lx_W (show ¬ cLet 32 by decide) (show ¬ cDig 32 by decide) (by decide), lx_V hw (show ¬ cLet 60 by decide) (show ¬ cDig 60 by decide), lx_S (show (97 + u) ≠ 61 by omega) (show (97 + u) ≠ 62 by omega) (show (97 + u) ≠ 46 by omega) (show (97 + u) ≠ 42 by omega) (by decide), lx_V hu (show ¬ cLet 59 by decide) (show ¬ cDig 59 by decide), trivial⟩
  · intro w u s ok
    obtain ⟨_, hw, hu, hs⟩ := ok
    refine okA_app.mpr ⟨?_, okA_app.mpr ⟨lx_st1 hs, ?_⟩⟩
    · rw [st_nx hs]
      exact ⟨lx_W (show ¬ cLet 32 by decide) (show ¬ cDig 32 by decide) (by decide), lx_V hw (show ¬ cLet 62 by decide) (show ¬ cDig 62 by decide), lx_S (show (97 + u) ≠ 61 by omega) (show (97 + u) ≠ 62 by omega) (show (97 + u) ≠ 46 by omega) (show (97 + u) ≠ 42 by omega) (by decide), lx_V hu (show ¬ cLet 32 by decide) (show ¬ cDig 32 by decide), lx_W (show ¬ cLet 32 by decide) (show ¬ cDig 32 by decide) (by decide), trivial⟩
    · exact ⟨lx_W (show ¬ cLet 59 by decide) (show ¬ cDig 59 by decide) (by decide), trivial⟩
def hdL : List LI := [iW 0 [77, 79, 68, 85, 76, 69] 24, iW 1 [65] 100, iS 0 59 116, iW 1 [70, 82, 79, 77] 17, iW 1 [73, 110, 79, 117, 116] 100, iW 1 [73, 77, 80, 79, 82, 84] 20, iW 1 [87, 114, 105, 116, 101, 73, 110, 116] 100, iS 0 59 116, iW 1 [86, 65, 82] 39, iW 1 [97] 100, iS 0 44 115, iW 0 [98] 100, iS 0 44 115, iW 0 [99] 100, iS 0 44 115, iW 0 [100] 100, iS 0 58 129, iW 0 [73, 78, 84, 69, 71, 69, 82] 100, iS 0 59 116, iW 1 [101] 100, iS 0 58 129, iW 0 [65, 82, 82, 65, 89] 2, iS 0 91 119, iN 0 0, (0, [46, 46], 133, 0), iN 0 3, iS 0 93 120, iW 0 [79, 70] 26, iW 1 [73, 78, 84, 69, 71, 69, 82] 100, iS 0 59 116, iW 1 [66, 69, 71, 73, 78] 3]
def tlL : List LI := [iW 1 [69, 78, 68] 12, iW 1 [65] 100, iS 0 46 114]
theorem hd_ok : okA hdL 32 := ⟨lx_W (show ¬ cLet 32 by decide) (show ¬ cDig 32 by decide) (by decide), lx_W (show ¬ cLet 59 by decide) (show ¬ cDig 59 by decide) (by decide), lx_S (show 32 ≠ 61 by decide) (show 32 ≠ 62 by decide) (show 32 ≠ 46 by decide) (show 32 ≠ 42 by decide) (by decide), lx_W (show ¬ cLet 32 by decide) (show ¬ cDig 32 by decide) (by decide), lx_W (show ¬ cLet 32 by decide) (show ¬ cDig 32 by decide) (by decide), lx_W (show ¬ cLet 32 by decide) (show ¬ cDig 32 by decide) (by decide), lx_W (show ¬ cLet 59 by decide) (show ¬ cDig 59 by decide) (by decide), lx_S (show 32 ≠ 61 by decide) (show 32 ≠ 62 by decide) (show 32 ≠ 46 by decide) (show 32 ≠ 42 by decide) (by decide), lx_W (show ¬ cLet 32 by decide) (show ¬ cDig 32 by decide) (by decide), lx_W (show ¬ cLet 44 by decide) (show ¬ cDig 44 by decide) (by decide), lx_S (show 98 ≠ 61 by decide) (show 98 ≠ 62 by decide) (show 98 ≠ 46 by decide) (show 98 ≠ 42 by decide) (by decide), lx_W (show ¬ cLet 44 by decide) (show ¬ cDig 44 by decide) (by decide), lx_S (show 99 ≠ 61 by decide) (show 99 ≠ 62 by decide) (show 99 ≠ 46 by decide) (show 99 ≠ 42 by decide) (by decide), lx_W (show ¬ cLet 44 by decide) (show ¬ cDig 44 by decide) (by decide), lx_S (show 100 ≠ 61 by decide) (show 100 ≠ 62 by decide) (show 100 ≠ 46 by decide) (show 100 ≠ 42 by decide) (by decide), lx_W (show ¬ cLet 58 by decide) (show ¬ cDig 58 by decide) (by decide), lx_S (show 73 ≠ 61 by decide) (show 73 ≠ 62 by decide) (show 73 ≠ 46 by decide) (show 73 ≠ 42 by decide) (by decide), lx_W (show ¬ cLet 59 by decide) (show ¬ cDig 59 by decide) (by decide), lx_S (show 32 ≠ 61 by decide) (show 32 ≠ 62 by decide) (show 32 ≠ 46 by decide) (show 32 ≠ 42 by decide) (by decide), lx_W (show ¬ cLet 58 by decide) (show ¬ cDig 58 by decide) (by decide), lx_S (show 65 ≠ 61 by decide) (show 65 ≠ 62 by decide) (show 65 ≠ 46 by decide) (show 65 ≠ 42 by decide) (by decide), lx_W (show ¬ cLet 91 by decide) (show ¬ cDig 91 by decide) (by decide), lx_S (show 48 ≠ 61 by decide) (show 48 ≠ 62 by decide) (show 48 ≠ 46 by decide) (show 48 ≠ 42 by decide) (by decide), lx_N (by decide) (show ¬ cHigh 46 by decide) (show 46 ≠ 72 by decide), Or.inr (Or.inr (Or.inr (Or.inr ⟨rfl, rfl, rfl⟩))), lx_N (by decide) (show ¬ cHigh 93 by decide) (show 93 ≠ 72 by decide), lx_S (show 79 ≠ 61 by decide) (show 79 ≠ 62 by decide) (show 79 ≠ 46 by decide) (show 79 ≠ 42 by decide) (by decide), lx_W (show ¬ cLet 32 by decide) (show ¬ cDig 32 by decide) (by decide), lx_W (show ¬ cLet 59 by decide) (show ¬ cDig 59 by decide) (by decide), lx_S (show 32 ≠ 61 by decide) (show 32 ≠ 62 by decide) (show 32 ≠ 46 by decide) (show 32 ≠ 42 by decide) (by decide), lx_W (show ¬ cLet 32 by decide) (show ¬ cDig 32 by decide) (by decide), trivial⟩
theorem tl_ok : okL tlL := by
  have h : okA tlL 0 := ⟨lx_W (show ¬ cLet 32 by decide) (show ¬ cDig 32 by decide) (by decide), lx_W (show ¬ cLet 46 by decide) (show ¬ cDig 46 by decide) (by decide), lx_S (show 0 ≠ 61 by decide) (show 0 ≠ 62 by decide) (show 0 ≠ 46 by decide) (show 0 ≠ 42 by decide) (by decide), trivial⟩
  exact h
def rowL : List Cmd → List LI
  | [] => []
  | c :: r => c.lx ++ (iS 0 59 116 :: rowL r)
def bumpL : List LI → List LI
  | [] => []
  | (b, w, kd, a) :: r => (b + 1, w, kd, a) :: r
theorem bump_tx {l : List LI} (h : l ≠ []) : txL (bumpL l) = 32 :: txL l := by
  cases l with
  | nil => exact absurd rfl h
  | cons c l => rfl
theorem bump_ok {l : List LI} (h : okL l) : okL (bumpL l) := by
  cases l with
  | nil => trivial
  | cons c l => exact h
theorem bump_nx {l : List LI} (h : l ≠ []) : nxL (bumpL l) = 32 := by
  cases l with
  | nil => exact absurd rfl h
  | cons c l => rfl
theorem bump_RD {tk tp : Nat → Int32} {tf ts : Nat → Int64} {i k : Nat} {l : List LI} (h : l ≠ []) (r : RD tk tp tf ts i k (bumpL l)) : RD tk tp tf ts i (k + 1) l := by
  cases l with
  | nil => exact absurd rfl h
  | cons c l =>
    obtain ⟨b, w, kd, a⟩ := c
    obtain ⟨⟨r1, r2, r3, r4⟩, r5⟩ := r
    have e : k + (b + 1) = k + 1 + b := by omega
    rw [e] at r2 r5
    exact ⟨⟨r1, r2, r3, r4⟩, r5⟩
/-- what may come behind a statement's semicolon -/
theorem st_fst {s : St} (hs : s.ok) (m : List LI) : nxL (s.lx 0 ++ m) ≠ 61 ∧ nxL (s.lx 0 ++ m) ≠ 62 ∧ nxL (s.lx 0 ++ m) ≠ 46 ∧ nxL (s.lx 0 ++ m) ≠ 42 := by
  refine St.all (p := fun s => nxL (s.lx 0 ++ m) ≠ 61 ∧ nxL (s.lx 0 ++ m) ≠ 62 ∧ nxL (s.lx 0 ++ m) ≠ 46 ∧ nxL (s.lx 0 ++ m) ≠ 42) ?_ ?_ ?_ ?_ ?_ ?_ ?_ ?_ hs
  · intro a w u ok; show 97 + a ≠ 61 ∧ 97 + a ≠ 62 ∧ 97 + a ≠ 46 ∧ 97 + a ≠ 42; omega
  · intro a w u ok; show 97 + a ≠ 61 ∧ 97 + a ≠ 62 ∧ 97 + a ≠ 46 ∧ 97 + a ≠ 42; omega
  · intro a w u ok; show 97 + a ≠ 61 ∧ 97 + a ≠ 62 ∧ 97 + a ≠ 46 ∧ 97 + a ≠ 42; omega
  · intro a w u ok; show 97 + a ≠ 61 ∧ 97 + a ≠ 62 ∧ 97 + a ≠ 46 ∧ 97 + a ≠ 42; omega
  · intro a w u ok; show 97 + a ≠ 61 ∧ 97 + a ≠ 62 ∧ 97 + a ≠ 46 ∧ 97 + a ≠ 42; omega
  · intro w u ok; show (101 : Nat) ≠ 61 ∧ (101 : Nat) ≠ 62 ∧ (101 : Nat) ≠ 46 ∧ (101 : Nat) ≠ 42; decide
  · intro a w ok; show 97 + a ≠ 61 ∧ 97 + a ≠ 62 ∧ 97 + a ≠ 46 ∧ 97 + a ≠ 42; omega
  · intro a w ok; show 97 + a ≠ 61 ∧ 97 + a ≠ 62 ∧ 97 + a ≠ 46 ∧ 97 + a ≠ 42; omega
theorem cm_fst {c : Cmd} (hc : c.ok) (m : List LI) : nxL (c.lx ++ m) ≠ 61 ∧ nxL (c.lx ++ m) ≠ 62 ∧ nxL (c.lx ++ m) ≠ 46 ∧ nxL (c.lx ++ m) ≠ 42 := by
  refine Cmd.all (p := fun c => nxL (c.lx ++ m) ≠ 61 ∧ nxL (c.lx ++ m) ≠ 62 ∧ nxL (c.lx ++ m) ≠ 46 ∧ nxL (c.lx ++ m) ≠ 42) ?_ ?_ ?_ ?_ ?_ ?_ hc
  · intro s ok; exact st_fst ok.2.2.2 m
  · intro w u s ok; exact (show (73 : Nat) ≠ 61 ∧ (73 : Nat) ≠ 62 ∧ (73 : Nat) ≠ 46 ∧ (73 : Nat) ≠ 42 by decide)
  · intro a w c s ok; exact (show (70 : Nat) ≠ 61 ∧ (70 : Nat) ≠ 62 ∧ (70 : Nat) ≠ 46 ∧ (70 : Nat) ≠ 42 by decide)
  · intro a c ok; exact (show (87 : Nat) ≠ 61 ∧ (87 : Nat) ≠ 62 ∧ (87 : Nat) ≠ 46 ∧ (87 : Nat) ≠ 42 by decide)
  · intro w u s ok; exact (show (82 : Nat) ≠ 61 ∧ (82 : Nat) ≠ 62 ∧ (82 : Nat) ≠ 46 ∧ (82 : Nat) ≠ 42 by decide)
  · intro w u s ok; exact (show (87 : Nat) ≠ 61 ∧ (87 : Nat) ≠ 62 ∧ (87 : Nat) ≠ 46 ∧ (87 : Nat) ≠ 42 by decide)
def okC : List Cmd → Prop
  | [] => True
  | c :: r => c.ok ∧ okC r
theorem row_ok {cs : List Cmd} (h : okC cs) : okL (rowL cs ++ tlL) := by
  induction cs with
  | nil => exact tl_ok
  | cons c r ih =>
    obtain ⟨h1, h2⟩ := h
    have f : nxL (rowL r ++ tlL) ≠ 61 ∧ nxL (rowL r ++ tlL) ≠ 62 ∧ nxL (rowL r ++ tlL) ≠ 46 ∧ nxL (rowL r ++ tlL) ≠ 42 := by
      cases r with
      | nil => exact (show (32 : Nat) ≠ 61 ∧ (32 : Nat) ≠ 62 ∧ (32 : Nat) ≠ 46 ∧ (32 : Nat) ≠ 42 by decide)
      | cons c2 r => 
        show nxL ((c2.lx ++ (iS 0 59 116 :: rowL r)) ++ tlL) ≠ 61 ∧ nxL ((c2.lx ++ (iS 0 59 116 :: rowL r)) ++ tlL) ≠ 62 ∧ nxL ((c2.lx ++ (iS 0 59 116 :: rowL r)) ++ tlL) ≠ 46 ∧ nxL ((c2.lx ++ (iS 0 59 116 :: rowL r)) ++ tlL) ≠ 42
        rw [List.append_assoc]
        exact cm_fst h2.1 _
    show okL ((c.lx ++ (iS 0 59 116 :: rowL r)) ++ tlL)
    rw [List.append_assoc, okL_app]
    exact ⟨lx_cm h1, lx_S f.1 f.2.1 f.2.2.1 f.2.2.2 (by decide), ih h2⟩
/-- all tokens of the law's text -/
def allL (cs : List Cmd) : List LI := hdL ++ bumpL (rowL cs ++ tlL)
theorem row_ne {cs : List Cmd} : rowL cs ++ tlL ≠ [] := by
  intro h
  have := congrArg List.length h
  rw [List.length_append] at this
  have t : tlL.length = 3 := rfl
  rw [t] at this
  simp at this
theorem all_ok {cs : List Cmd} (h : okC cs) : okL (allL cs) := by
  unfold allL
  rw [okL_app, bump_nx row_ne]
  exact ⟨hd_ok, bump_ok (row_ok h)⟩

