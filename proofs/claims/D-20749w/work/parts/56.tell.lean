/-! What the tokens read tell: kinds, Tok's, places; Form takes the law's texts -/
set_option maxRecDepth 100000
set_option maxHeartbeats 4000000
def kdL (l : List LI) : List Int32 := l.map (fun x => x.2.2.1)
def RDp (tk tp : Nat → Int32) (tf ts : Nat → Int64) : Nat → Nat → List LI → Prop
  | _, _, [] => True
  | i, k, (b, w, kd, a) :: r => (tk i = kd ∧ tp i = Int32.ofNat (k + b) ∧ tf i = a ∧ ts i = 0) ∧ RDp tk tp tf ts (i + 1) (k + b + w.length) r
section
variable {tk tp : Nat → Int32} {tf ts : Nat → Int64}
theorem tx_c {b : Nat} {w : List Nat} {kd : Int32} {a : Int64} {l : List LI} {k : Nat} : k + b + w.length + (txL l).length = k + (txL ((b, w, kd, a) :: l)).length := by
  show _ = k + (List.replicate b 32 ++ (w ++ txL l)).length
  rw [List.length_append, List.length_append, List.length_replicate]
  omega
theorem RD_app {m : List LI} : ∀ (l : List LI) (i k : Nat), RD tk tp tf ts i k (l ++ m) ↔ RDp tk tp tf ts i k l ∧ RD tk tp tf ts (i + l.length) (k + (txL l).length) m := by
  intro l
  induction l with
  | nil => intro i k; exact ⟨fun h => ⟨trivial, h⟩, fun h => h.2⟩
  | cons c l ih =>
    obtain ⟨b, w, kd, a⟩ := c
    intro i k
    show (_ ∧ RD tk tp tf ts (i + 1) (k + b + w.length) (l ++ m)) ↔ (_ ∧ RDp tk tp tf ts (i + 1) (k + b + w.length) l) ∧ _
    rw [ih, tx_c (kd := kd) (a := a), List.length_cons, show i + 1 + l.length = i + (l.length + 1) by omega]
    exact ⟨fun h => ⟨⟨h.1, h.2.1⟩, h.2.2⟩, fun h => ⟨h.1.1, h.1.2, h.2⟩⟩
theorem RDp_app {m : List LI} : ∀ (l : List LI) (i k : Nat), RDp tk tp tf ts i k (l ++ m) ↔ RDp tk tp tf ts i k l ∧ RDp tk tp tf ts (i + l.length) (k + (txL l).length) m := by
  intro l
  induction l with
  | nil => intro i k; exact ⟨fun h => ⟨trivial, h⟩, fun h => h.2⟩
  | cons c l ih =>
    obtain ⟨b, w, kd, a⟩ := c
    intro i k
    show (_ ∧ RDp tk tp tf ts (i + 1) (k + b + w.length) (l ++ m)) ↔ (_ ∧ RDp tk tp tf ts (i + 1) (k + b + w.length) l) ∧ _
    rw [ih, tx_c (kd := kd) (a := a), List.length_cons, show i + 1 + l.length = i + (l.length + 1) by omega]
    exact ⟨fun h => ⟨⟨h.1, h.2.1⟩, h.2.2⟩, fun h => ⟨h.1.1, h.1.2, h.2⟩⟩
theorem RDp_TK : ∀ (l : List LI) (i k : Nat), RDp tk tp tf ts i k l → TK tk i (kdL l) := by
  intro l
  induction l with
  | nil => intro i k _; trivial
  | cons c l ih =>
    obtain ⟨b, w, kd, a⟩ := c
    intro i k h
    exact ⟨h.1.1, ih _ _ h.2⟩
def MT1 (kd : Int32) (a : Int64) (t : Tok) : Prop := match t with
  | (0, w, _, _) => kd = 100 ∧ a = w
  | (1, _, c, _) => kd = 101 ∧ a.toInt32 = Int32.ofNat c
  | (_, _, _, k) => kd = k
def MT : List LI → List Tok → Prop
  | [], [] => True
  | [], _ :: _ => False
  | _ :: _, [] => False
  | (_, _, kd, a) :: l, t :: r => MT1 kd a t ∧ MT l r
theorem RDp_TA : ∀ (l : List LI) (r : List Tok) (i k : Nat), RDp tk tp tf ts i k l → MT l r → TA tk tf ts i r := by
  intro l
  induction l with
  | nil =>
    intro r i k _ m
    cases r with
    | nil => trivial
    | cons t r => exact m.elim
  | cons c l ih =>
    obtain ⟨b, w, kd, a⟩ := c
    intro r i k h m
    cases r with
    | nil => exact m.elim
    | cons t r =>
      refine ⟨?_, ih _ _ _ h.2 m.2⟩
      have m1 := m.1
      obtain ⟨h1, h2, h3, h4⟩ := h.1
      obtain ⟨q, w', c', k'⟩ := t
      cases q with
      | zero => exact ⟨h1.trans m1.1, h3.trans m1.2, h4⟩
      | succ q =>
        cases q with
        | zero => exact ⟨h1.trans m1.1, by rw [h3]; exact m1.2⟩
        | succ q => exact h1.trans m1
theorem MT_app : ∀ (l l2 : List LI) (r r2 : List Tok), MT l r → MT l2 r2 → MT (l ++ l2) (r ++ r2) := by
  intro l
  induction l with
  | nil =>
    intro l2 r r2 h h2
    cases r with
    | nil => exact h2
    | cons t r => exact h.elim
  | cons c l ih =>
    obtain ⟨b, w, kd, a⟩ := c
    intro l2 r r2 h h2
    cases r with
    | nil => exact h.elim
    | cons t r => exact ⟨h.1, ih _ _ _ h.2 h2⟩
theorem MT_len : ∀ (l : List LI) (r : List Tok), MT l r → l.length = r.length := by
  intro l
  induction l with
  | nil =>
    intro r h
    cases r with
    | nil => rfl
    | cons t r => exact h.elim
  | cons c l ih =>
    obtain ⟨b, w, kd, a⟩ := c
    intro r h
    cases r with
    | nil => exact h.elim
    | cons t r => rw [List.length_cons, List.length_cons, ih _ h.2]
theorem n_6432 {c : Nat} (h : c < 2147483648) : (Int64.ofNat c).toInt32 = Int32.ofNat c := by
  apply Int32.toInt_inj.mp
  rw [Int64.toInt_toInt32, Int64.toInt_ofNat_of_lt (by omega), ti_of h]
  apply Int.bmod_eq_of_le <;> simp <;> omega
theorem st_MT {s : St} (hs : s.ok) (b : Nat) : MT (s.lx b) s.toks := by
  refine St.all (p := fun s => MT (s.lx b) s.toks) ?_ ?_ ?_ ?_ ?_ ?_ ?_ ?_ hs
  · intro a w u ok; exact ⟨⟨rfl, rfl⟩, rfl, ⟨rfl, rfl⟩, rfl, ⟨rfl, rfl⟩, trivial⟩
  · intro a w c ok; exact ⟨⟨rfl, rfl⟩, rfl, ⟨rfl, rfl⟩, rfl, ⟨rfl, n_6432 (by have := ok.2.2; omega)⟩, trivial⟩
  · intro a w u ok; exact ⟨⟨rfl, rfl⟩, rfl, ⟨rfl, rfl⟩, rfl, ⟨rfl, rfl⟩, trivial⟩
  · intro a w c ok; exact ⟨⟨rfl, rfl⟩, rfl, ⟨rfl, rfl⟩, rfl, ⟨rfl, n_6432 (by have := ok.2.2.2; omega)⟩, trivial⟩
  · intro a w c ok; exact ⟨⟨rfl, rfl⟩, rfl, ⟨rfl, rfl⟩, rfl, ⟨rfl, n_6432 (by have := ok.2.2.2; omega)⟩, trivial⟩
  · intro w u ok; exact ⟨⟨rfl, rfl⟩, rfl, ⟨rfl, rfl⟩, rfl, ⟨rfl, n_6432 (by omega)⟩, rfl, rfl, ⟨rfl, rfl⟩, trivial⟩
  · intro a w ok; exact ⟨⟨rfl, rfl⟩, rfl, ⟨rfl, rfl⟩, rfl, ⟨rfl, rfl⟩, rfl, trivial⟩
  · intro a c ok; exact ⟨⟨rfl, rfl⟩, rfl, ⟨rfl, n_6432 (by have := ok.2.2; omega)⟩, trivial⟩
/-- what stands ahead of the statement within, and behind it, in the text -/
def Cmd.lxa (c : Cmd) : List LI := match c with
  | (2, w, u, _, _) => [iW 0 [73, 70] 18, iV 1 w, iS 0 60 127, iV 0 u, iW 1 [84, 72, 69, 78] 35]
  | (3, a, w, c, _) => [iW 0 [70, 79, 82] 15, iV 1 a, iB, iV 0 w, iW 1 [84, 79] 36, iN 1 c, iW 1 [66, 89] 4, iN 1 3, iW 1 [68, 79] 9]
  | (5, _, _, _, _) => [iW 0 [82, 69, 80, 69, 65, 84] 32]
  | (6, w, u, _, _) => [iW 0 [87, 72, 73, 76, 69] 40, iV 1 w, iS 0 62 128, iV 0 u, iW 1 [68, 79] 9]
  | _ => []
def Cmd.lxb (c : Cmd) : List LI := match c with
  | (2, _, _, _, _) => [iW 1 [69, 78, 68] 12] | (3, _, _, _, _) => [iW 1 [69, 78, 68] 12] | (6, _, _, _, _) => [iW 1 [69, 78, 68] 12]
  | (5, w, u, _, _) => [iW 1 [85, 78, 84, 73, 76] 38, iV 1 w, iS 0 60 127, iV 0 u]
  | _ => []
theorem cm_MT {c : Cmd} (hc : c.ok) : MT c.lx c.toks := by
  refine Cmd.all (p := fun c => MT c.lx c.toks) ?_ ?_ ?_ ?_ ?_ ?_ hc
  · intro s ok
    have e : (Cmd.one s).toks = s.toks := List.append_nil _
    rw [e]
    exact st_MT ok.2.2.2 0
  · intro w u s ok
    exact MT_app _ _ _ _ (show MT [iW 0 [73, 70] 18, iV 1 w, iS 0 60 127, iV 0 u, iW 1 [84, 72, 69, 78] 35] [.sym 18, tv w, .sym 127, tv u, .sym 35] from ⟨rfl, ⟨rfl, rfl⟩, rfl, ⟨rfl, rfl⟩, rfl, trivial⟩) (MT_app _ _ _ _ (st_MT ok.2.2.2 1) ⟨rfl, trivial⟩)
  · intro a w c s ok
    exact MT_app _ _ _ _ (show MT [iW 0 [70, 79, 82] 15, iV 1 a, iB, iV 0 w, iW 1 [84, 79] 36, iN 1 c, iW 1 [66, 89] 4, iN 1 3, iW 1 [68, 79] 9] [.sym 15, tv a, .sym 130, tv w, .sym 36, .num c, .sym 4, .num 3, .sym 9] from ⟨rfl, ⟨rfl, rfl⟩, rfl, ⟨rfl, rfl⟩, rfl, ⟨rfl, n_6432 (by have := ok.2.2.1; omega)⟩, rfl, ⟨rfl, n_6432 (by omega)⟩, rfl, trivial⟩) (MT_app _ _ _ _ (st_MT ok.2.2.2 1) ⟨rfl, trivial⟩)
  · intro a c ok
    exact show MT [iW 0 [87, 114, 105, 116, 101, 73, 110, 116] 100, iS 0 40 117, iV 0 a, iS 0 44 115, iN 0 c, iS 0 41 118] [.nam 261429798032926, .sym 117, tv a, .sym 115, .num c, .sym 118] from ⟨⟨rfl, by decide⟩, rfl, ⟨rfl, rfl⟩, rfl, ⟨rfl, n_6432 (by have := ok.2.2.2; omega)⟩, rfl, trivial⟩
  · intro w u s ok
    exact MT_app _ _ _ _ (show MT [iW 0 [82, 69, 80, 69, 65, 84] 32] [.sym 32] from ⟨rfl, trivial⟩) (MT_app _ _ _ _ (st_MT ok.2.2.2 1) (show MT [iW 1 [85, 78, 84, 73, 76] 38, iV 1 w, iS 0 60 127, iV 0 u] [.sym 38, tv w, .sym 127, tv u] from ⟨rfl, ⟨rfl, rfl⟩, rfl, ⟨rfl, rfl⟩, trivial⟩))
  · intro w u s ok
    exact MT_app _ _ _ _ (show MT [iW 0 [87, 72, 73, 76, 69] 40, iV 1 w, iS 0 62 128, iV 0 u, iW 1 [68, 79] 9] [.sym 40, tv w, .sym 128, tv u, .sym 9] from ⟨rfl, ⟨rfl, rfl⟩, rfl, ⟨rfl, rfl⟩, rfl, trivial⟩) (MT_app _ _ _ _ (st_MT ok.2.2.2 1) ⟨rfl, trivial⟩)
/-- commands with their places, the first at k -/
def Cmd.ofs (c : Cmd) : Nat := match c with
  | (1, _, _, _, _) => 0 | (4, _, _, _, _) => 0
  | c => (txL c.lxa).length + 1
def csP : Nat → List Cmd → List (Cmd × Nat × Nat)
  | _, [] => []
  | k, c :: r => (c, k, k + c.ofs) :: csP (k + (txL c.lx).length + 1) r
theorem csP_MT {cs : List Cmd} : ∀ (k : Nat), okC cs → MT (rowL cs) (rowT (csP k cs)) := by
  induction cs with
  | nil => intro k _; trivial
  | cons c r ih =>
    intro k h
    exact MT_app _ _ _ _ (cm_MT h.1) ⟨rfl, ih _ h.2⟩
/-- places of the first item, and of the statement within -/
theorem st_pl {s : St} (hs : s.ok) (b i k : Nat) (m : List LI) (h : RDp tk tp tf ts i k (s.lx b ++ m)) : tp i = Int32.ofNat (k + b) := by
  have H : ∀ m, RDp tk tp tf ts i k (s.lx b ++ m) → tp i = Int32.ofNat (k + b) := by
    refine St.all (p := fun s => ∀ m, RDp tk tp tf ts i k (s.lx b ++ m) → tp i = Int32.ofNat (k + b)) ?_ ?_ ?_ ?_ ?_ ?_ ?_ ?_ hs
    all_goals intros; rename_i h; exact h.1.2.1
  exact H m h
theorem cm_pl {c : Cmd} (hc : c.ok) (i k : Nat) (h : RDp tk tp tf ts i k c.lx) : tp i = Int32.ofNat k ∧ tp (i + c.pre.length) = Int32.ofNat (k + c.ofs) := by
  have sp : ∀ (s : St) (A B : List LI) (n o : Nat), s.ok → A.length = n → (txL A).length + 1 = o → RDp tk tp tf ts i k (A ++ (s.lx 1 ++ B)) → tp (i + n) = Int32.ofNat (k + o) := by
    intro s A B n o hs hn ho hh
    have := ((RDp_app A i k).mp hh).2
    have q := st_pl hs 1 _ _ B this
    rw [hn] at q
    rw [q]
    congr 1
    omega
  have H : RDp tk tp tf ts i k c.lx → tp i = Int32.ofNat k ∧ tp (i + c.pre.length) = Int32.ofNat (k + c.ofs) := by
    refine Cmd.all (p := fun c => RDp tk tp tf ts i k c.lx → tp i = Int32.ofNat k ∧ tp (i + c.pre.length) = Int32.ofNat (k + c.ofs)) ?_ ?_ ?_ ?_ ?_ ?_ hc
    · intro s ok h
      have h' : RDp tk tp tf ts i k (s.lx 0 ++ []) := by rw [List.append_nil]; exact h
      have q := st_pl ok.2.2.2 0 i k [] h'
      exact ⟨q, q⟩
    · intro w u s ok h; exact ⟨h.1.2.1, sp s _ _ _ _ ok.2.2.2 rfl rfl h⟩
    · intro a w c s ok h; exact ⟨h.1.2.1, sp s _ _ _ _ ok.2.2.2 rfl rfl h⟩
    · intro a c ok h; exact ⟨h.1.2.1, h.1.2.1⟩
    · intro w u s ok h; exact ⟨h.1.2.1, sp s _ _ _ _ ok.2.2.2 rfl rfl h⟩
    · intro w u s ok h; exact ⟨h.1.2.1, sp s _ _ _ _ ok.2.2.2 rfl rfl h⟩
  exact H h
theorem txN {c : Nat} {b : Nat} {l : List LI} : (txL (iN b c :: l)).length ≤ b + 5 + (txL l).length := by
  show (List.replicate b 32 ++ (dg c ++ txL l)).length ≤ _
  rw [List.length_append, List.length_append, List.length_replicate]
  have := dg_len (c := c)
  omega
theorem st_tl {s : St} (hs : s.ok) (b : Nat) : (txL (s.lx b)).length ≤ b + 20 ∧ (s.lx b).length ≤ 8 := by
  refine St.all (p := fun s => (txL (s.lx b)).length ≤ b + 20 ∧ (s.lx b).length ≤ 8) ?_ ?_ ?_ ?_ ?_ ?_ ?_ ?_ hs
  all_goals intros; constructor
  all_goals first | (show (_ : Nat) ≤ 8; exact Nat.le_of_ble_eq_true rfl) | skip
  all_goals simp [St.lx, St.add, St.sub, St.mul, St.div, St.mod, St.set, St.get, St.con, txL, iV, iB, iS, iE, iW, iN]
  all_goals first | omega | exact Nat.le_trans dg_len (by omega) | (have := dg_len (c := 4); omega)
end
