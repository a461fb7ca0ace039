/-! The loop that runs: states modulo what the chip leaves behind (printed by gen/chip4.py) -/
set_option maxRecDepth 100000
set_option maxHeartbeats 4000000
/-- what the chip leaves behind in two of its words, put to other values -/
def chS (h : am_H) (x y : Int32) : am_H := am_p (am_p h 124302393357 9 (.int x)) 124302393357 10 (.int y)
theorem chS_S {h : am_H} {x y x' y' : Int32} : chS (chS h x y) x' y' = chS h x' y' := by
  refine Prod.ext rfl (Prod.ext rfl ?_)
  funext a k
  show (if a = 124302393357 ∧ k = 10 then Value.int y' else if a = 124302393357 ∧ k = 9 then Value.int x' else if a = 124302393357 ∧ k = 10 then Value.int y else if a = 124302393357 ∧ k = 9 then Value.int x else h.2.2 a k) = (if a = 124302393357 ∧ k = 10 then Value.int y' else if a = 124302393357 ∧ k = 9 then Value.int x' else h.2.2 a k)
  split
  · rfl
  · split <;> rfl
def chStep (h h2 : am_H) : Prop := am_g h 124302393357 7 = .int 0 ∧ (chS h2 0 0 = h2 ∧ am_g h 124285616140 0 = .ref 124302393357) ∧ ∀ (d : Nat) (x y : Int32), ∃ x' y' : Int32, am_M (d + 12) 216 [.ref 124302393357] (chS h x y) = some (none, chS h2 x' y')
theorem chDet {h a b : am_H} (h1 : chStep h a) (h2 : chStep h b) : a = b := by
  obtain ⟨-, ⟨i1, -⟩, s1⟩ := h1
  obtain ⟨-, ⟨i2, -⟩, s2⟩ := h2
  obtain ⟨x1, y1, e1⟩ := s1 0 0 0
  obtain ⟨x2, y2, e2⟩ := s2 0 0 0
  rw [e1] at e2
  have e : chS a x1 y1 = chS b x2 y2 := (Prod.mk.inj (Option.some.inj e2)).2
  have := congrArg (fun h => chS h 0 0) e
  simp only [chS_S] at this
  rw [i1, i2] at this
  exact this
def chRuns : Nat → am_H → am_H → Prop
  | 0, a, b => a = b
  | n + 1, a, b => ∃ c, chStep a c ∧ chRuns n c b
def chStar (a b : am_H) : Prop := ∃ n, chRuns n a b
theorem chStar_r {a : am_H} : chStar a a := ⟨0, rfl⟩
theorem chStar_c {a b c : am_H} (h : chStep a b) (h2 : chStar b c) : chStar a c := by
  obtain ⟨n, hn⟩ := h2
  exact ⟨n + 1, b, h, hn⟩
/-- two runs from one state: one goes on with the other -/
theorem chFork : ∀ (n m : Nat) {a b c : am_H}, chRuns n a b → chRuns m a c → chStar b c ∨ chStar c b := by
  intro n
  induction n with
  | zero => intro m a b c h1 h2; cases h1; exact Or.inl ⟨m, h2⟩
  | succ n ih =>
    intro m a b c h1 h2
    cases m with
    | zero => cases h2; exact Or.inr ⟨n + 1, h1⟩
    | succ m =>
      obtain ⟨x, hx, h1⟩ := h1
      obtain ⟨y, hy, h2⟩ := h2
      cases chDet hx hy
      exact ih m h1 h2
theorem chStar_t {a b c : am_H} (h : chStar a b) (h2 : chStar b c) : chStar a c := by
  obtain ⟨n, hn⟩ := h
  induction n generalizing a with
  | zero => cases hn; exact h2
  | succ n ih => obtain ⟨x, hx, h1⟩ := hn; exact chStar_c hx (ih h1)
def chJ (a b : am_H) : Prop := ∃ c, chStar a c ∧ chStar b c
theorem chJ_step {a b b' : am_H} (h : chStep b b') : chJ a b ↔ chJ a b' := by
  constructor
  · rintro ⟨c, h1, n, hn⟩
    cases n with
    | zero =>
      cases hn
      exact ⟨b', chStar_t h1 (chStar_c h chStar_r), chStar_r⟩
    | succ n =>
      obtain ⟨x, hx, h2⟩ := hn
      cases chDet h hx
      exact ⟨c, h1, n, h2⟩
  · rintro ⟨c, h1, h2⟩
    exact ⟨c, h1, chStar_c h h2⟩
theorem chExact {a b : am_H} (h : Quot.mk chStep a = Quot.mk chStep b) : chJ a b := by
  have q : Quot.lift (fun b => chJ a b) (fun b b' s => propext (chJ_step s)) (Quot.mk chStep a) := ⟨a, chStar_r, chStar_r⟩
  rw [h] at q
  exact q
/-- a state that has stopped is reached -/
theorem chReach {a b : am_H} (h : Quot.mk chStep a = Quot.mk chStep b) (hb : am_g b 124302393357 7 = .int 1) : chStar a b := by
  obtain ⟨c, h1, n, hn⟩ := chExact h
  cases n with
  | zero => cases hn; exact h1
  | succ n =>
    obtain ⟨x, ⟨hx, -⟩, -⟩ := hn
    rw [hb] at hx
    cases hx
/-- the states' surroundings: the heap's other places, cells, slots; the least limit of steps that is looked at -/
def GE : Type := (Nat → Nat → Value) × Nat × Nat × Nat
def RT : Type := Nat → Quot chStep
def RQ (G : GE) (a : Nat) (f : Int32) (bc de hl ix sp pc : Nat) (m : Nat → Nat) (P : PT) : Quot chStep := Quot.mk chStep (HC G.1 G.2.1 G.2.2.1 a f bc de hl ix sp pc m P 0 0)
def RX (G : GE) (a : Nat) (f : Int32) (bc de hl ix sp pc : Nat) (m : Nat → Nat) (P : PT) (sta trp : Int32) : Quot chStep := Quot.mk chStep (HX G.1 G.2.1 G.2.2.1 a f bc de hl ix sp pc m P sta trp 0 0)
/-- a running state, for every limit from the least on -/
def RL (G : GE) (a : Nat) (f : Int32) (bc de hl ix sp pc : Nat) (m : Nat → Nat) (P : PT) : RT := fun L => if G.2.2.2 ≤ L ∧ L < 2147483648 then RQ G a f bc de hl ix sp pc m (P.wlim L) else Quot.mk chStep (0, 0, fun _ _ => .null)
theorem RL_at {G : GE} {a : Nat} {f : Int32} {bc de hl ix sp pc : Nat} {m : Nat → Nat} {P : PT} {L : Nat} (h : G.2.2.2 ≤ L) (h2 : L < 2147483648) : RL G a f bc de hl ix sp pc m P L = RQ G a f bc de hl ix sp pc m (P.wlim L) := if_pos ⟨h, h2⟩
theorem chS_HC {g : Nat → Nat → Value} {c0 s0 : Nat} {a bc de hl ix sp pc : Nat} {f : Int32} {m : Nat → Nat} {P : PT} {pr pc2 : Int32} {x y : Int32} : chS (HC g c0 s0 a f bc de hl ix sp pc m P pr pc2) x y = HC g c0 s0 a f bc de hl ix sp pc m P x y := by
  unfold chS HC
  rw [HR_w20, HR_w21]
theorem chS_HX {g : Nat → Nat → Value} {c0 s0 : Nat} {a bc de hl ix sp pc : Nat} {f : Int32} {m : Nat → Nat} {P : PT} {pr pc2 : Int32} {sta trp x y : Int32} : chS (HX g c0 s0 a f bc de hl ix sp pc m P sta trp pr pc2) x y = HX g c0 s0 a f bc de hl ix sp pc m P sta trp x y := by
  unfold chS HX
  rw [HR_w20, HR_w21]
theorem RQ_of {G : GE} {a a' bc bc' de de' hl hl' ix ix' sp sp' pc pc' : Nat} {f f' : Int32} {m m' : Nat → Nat} {P P' : PT} (h : ∀ (d : Nat) (x y : Int32), ∃ x' y' : Int32, am_M (d + 12) 216 [.ref 124302393357] (HC G.1 G.2.1 G.2.2.1 a f bc de hl ix sp pc m P x y) = some (none, HC G.1 G.2.1 G.2.2.1 a' f' bc' de' hl' ix' sp' pc' m' P' x' y')) :
    RQ G a f bc de hl ix sp pc m P = RQ G a' f' bc' de' hl' ix' sp' pc' m' P' := by
  refine Quot.sound ⟨rfl, ⟨chS_HC, rfl⟩, fun d x y => ?_⟩
  obtain ⟨x', y', e⟩ := h d x y
  exact ⟨x', y', by rw [chS_HC, chS_HC]; exact e⟩
theorem RX_of {G : GE} {a a' bc bc' de de' hl hl' ix ix' sp sp' pc pc' : Nat} {f f' sta trp : Int32} {m m' : Nat → Nat} {P P' : PT} (h : ∀ (d : Nat) (x y : Int32), ∃ x' y' : Int32, am_M (d + 12) 216 [.ref 124302393357] (HC G.1 G.2.1 G.2.2.1 a f bc de hl ix sp pc m P x y) = some (none, HX G.1 G.2.1 G.2.2.1 a' f' bc' de' hl' ix' sp' pc' m' P' sta trp x' y')) :
    RQ G a f bc de hl ix sp pc m P = RX G a' f' bc' de' hl' ix' sp' pc' m' P' sta trp := by
  refine Quot.sound ⟨rfl, ⟨chS_HX, rfl⟩, fun d x y => ?_⟩
  obtain ⟨x', y', e⟩ := h d x y
  exact ⟨x', y', by rw [chS_HC, chS_HX]; exact e⟩
theorem RL_of {G : GE} {a a' bc bc' de de' hl hl' ix ix' sp sp' pc pc' : Nat} {f f' : Int32} {m m' : Nat → Nat} {P P' : PT} (h : ∀ (L : Nat) (_ : G.2.2.2 ≤ L) (_ : L < 2147483648) (d : Nat) (x y : Int32), ∃ x' y' : Int32, am_M (d + 12) 216 [.ref 124302393357] (HC G.1 G.2.1 G.2.2.1 a f bc de hl ix sp pc m (P.wlim L) x y) = some (none, HC G.1 G.2.1 G.2.2.1 a' f' bc' de' hl' ix' sp' pc' m' (P'.wlim L) x' y')) :
    RL G a f bc de hl ix sp pc m P = RL G a' f' bc' de' hl' ix' sp' pc' m' P' := by
  funext L
  unfold RL
  by_cases c : G.2.2.2 ≤ L ∧ L < 2147483648
  · rw [if_pos c, if_pos c]
    exact RQ_of (h L c.1 c.2)
  · rw [if_neg c, if_neg c]
theorem rl_44 {G : GE} {a bc de hl ix sp pc : Nat} {f : Int32} {m : Nat → Nat} {P : PT} (o0 : rd m (pc) = 68) (hpc : pc + 1 < 65536) (h0 : hl < 65536) (h1 : bc < 65536) : RL G a f bc de hl ix sp pc m P = RL G a f ((hl / 256) * 256 + bc % 256) de hl ix sp (pc + 1) m P := RL_of fun L _ _ d x y => st_44 o0 hpc h0 h1
theorem rl_4D {G : GE} {a bc de hl ix sp pc : Nat} {f : Int32} {m : Nat → Nat} {P : PT} (o0 : rd m (pc) = 77) (hpc : pc + 1 < 65536) (h0 : hl < 65536) (h1 : bc < 65536) : RL G a f bc de hl ix sp pc m P = RL G a f (bc / 256 * 256 + (hl % 256)) de hl ix sp (pc + 1) m P := RL_of fun L _ _ d x y => st_4D o0 hpc h0 h1
theorem rl_4F {G : GE} {a bc de hl ix sp pc : Nat} {f : Int32} {m : Nat → Nat} {P : PT} (o0 : rd m (pc) = 79) (hpc : pc + 1 < 65536) (h0 : a < 256) (h1 : bc < 65536) : RL G a f bc de hl ix sp pc m P = RL G a f (bc / 256 * 256 + a) de hl ix sp (pc + 1) m P := RL_of fun L _ _ d x y => st_4F o0 hpc h0 h1
theorem rl_50 {G : GE} {a bc de hl ix sp pc : Nat} {f : Int32} {m : Nat → Nat} {P : PT} (o0 : rd m (pc) = 80) (hpc : pc + 1 < 65536) (h0 : bc < 65536) (h1 : de < 65536) : RL G a f bc de hl ix sp pc m P = RL G a f bc ((bc / 256) * 256 + de % 256) hl ix sp (pc + 1) m P := RL_of fun L _ _ d x y => st_50 o0 hpc h0 h1
theorem rl_54 {G : GE} {a bc de hl ix sp pc : Nat} {f : Int32} {m : Nat → Nat} {P : PT} (o0 : rd m (pc) = 84) (hpc : pc + 1 < 65536) (h0 : hl < 65536) (h1 : de < 65536) : RL G a f bc de hl ix sp pc m P = RL G a f bc ((hl / 256) * 256 + de % 256) hl ix sp (pc + 1) m P := RL_of fun L _ _ d x y => st_54 o0 hpc h0 h1
theorem rl_57 {G : GE} {a bc de hl ix sp pc : Nat} {f : Int32} {m : Nat → Nat} {P : PT} (o0 : rd m (pc) = 87) (hpc : pc + 1 < 65536) (h0 : a < 256) (h1 : de < 65536) : RL G a f bc de hl ix sp pc m P = RL G a f bc (a * 256 + de % 256) hl ix sp (pc + 1) m P := RL_of fun L _ _ d x y => st_57 o0 hpc h0 h1
theorem rl_59 {G : GE} {a bc de hl ix sp pc : Nat} {f : Int32} {m : Nat → Nat} {P : PT} (o0 : rd m (pc) = 89) (hpc : pc + 1 < 65536) (h0 : bc < 65536) (h1 : de < 65536) : RL G a f bc de hl ix sp pc m P = RL G a f bc (de / 256 * 256 + (bc % 256)) hl ix sp (pc + 1) m P := RL_of fun L _ _ d x y => st_59 o0 hpc h0 h1
theorem rl_5D {G : GE} {a bc de hl ix sp pc : Nat} {f : Int32} {m : Nat → Nat} {P : PT} (o0 : rd m (pc) = 93) (hpc : pc + 1 < 65536) (h0 : hl < 65536) (h1 : de < 65536) : RL G a f bc de hl ix sp pc m P = RL G a f bc (de / 256 * 256 + (hl % 256)) hl ix sp (pc + 1) m P := RL_of fun L _ _ d x y => st_5D o0 hpc h0 h1
theorem rl_60 {G : GE} {a bc de hl ix sp pc : Nat} {f : Int32} {m : Nat → Nat} {P : PT} (o0 : rd m (pc) = 96) (hpc : pc + 1 < 65536) (h0 : bc < 65536) (h1 : hl < 65536) : RL G a f bc de hl ix sp pc m P = RL G a f bc de ((bc / 256) * 256 + hl % 256) ix sp (pc + 1) m P := RL_of fun L _ _ d x y => st_60 o0 hpc h0 h1
theorem rl_67 {G : GE} {a bc de hl ix sp pc : Nat} {f : Int32} {m : Nat → Nat} {P : PT} (o0 : rd m (pc) = 103) (hpc : pc + 1 < 65536) (h0 : a < 256) (h1 : hl < 65536) : RL G a f bc de hl ix sp pc m P = RL G a f bc de (a * 256 + hl % 256) ix sp (pc + 1) m P := RL_of fun L _ _ d x y => st_67 o0 hpc h0 h1
theorem rl_69 {G : GE} {a bc de hl ix sp pc : Nat} {f : Int32} {m : Nat → Nat} {P : PT} (o0 : rd m (pc) = 105) (hpc : pc + 1 < 65536) (h0 : bc < 65536) (h1 : hl < 65536) : RL G a f bc de hl ix sp pc m P = RL G a f bc de (hl / 256 * 256 + (bc % 256)) ix sp (pc + 1) m P := RL_of fun L _ _ d x y => st_69 o0 hpc h0 h1
theorem rl_6F {G : GE} {a bc de hl ix sp pc : Nat} {f : Int32} {m : Nat → Nat} {P : PT} (o0 : rd m (pc) = 111) (hpc : pc + 1 < 65536) (h0 : a < 256) (h1 : hl < 65536) : RL G a f bc de hl ix sp pc m P = RL G a f bc de (hl / 256 * 256 + a) ix sp (pc + 1) m P := RL_of fun L _ _ d x y => st_6F o0 hpc h0 h1
theorem rl_7A {G : GE} {a bc de hl ix sp pc : Nat} {f : Int32} {m : Nat → Nat} {P : PT} (o0 : rd m (pc) = 122) (hpc : pc + 1 < 65536) (h0 : de < 65536) : RL G a f bc de hl ix sp pc m P = RL G (de / 256) f bc de hl ix sp (pc + 1) m P := RL_of fun L _ _ d x y => st_7A o0 hpc h0
theorem rl_7B {G : GE} {a bc de hl ix sp pc : Nat} {f : Int32} {m : Nat → Nat} {P : PT} (o0 : rd m (pc) = 123) (hpc : pc + 1 < 65536) (h0 : de < 65536) : RL G a f bc de hl ix sp pc m P = RL G (de % 256) f bc de hl ix sp (pc + 1) m P := RL_of fun L _ _ d x y => st_7B o0 hpc h0
theorem rl_7C {G : GE} {a bc de hl ix sp pc : Nat} {f : Int32} {m : Nat → Nat} {P : PT} (o0 : rd m (pc) = 124) (hpc : pc + 1 < 65536) (h0 : hl < 65536) : RL G a f bc de hl ix sp pc m P = RL G (hl / 256) f bc de hl ix sp (pc + 1) m P := RL_of fun L _ _ d x y => st_7C o0 hpc h0
theorem rl_7D {G : GE} {a bc de hl ix sp pc : Nat} {f : Int32} {m : Nat → Nat} {P : PT} (o0 : rd m (pc) = 125) (hpc : pc + 1 < 65536) (h0 : hl < 65536) : RL G a f bc de hl ix sp pc m P = RL G (hl % 256) f bc de hl ix sp (pc + 1) m P := RL_of fun L _ _ d x y => st_7D o0 hpc h0
theorem rl_46 {G : GE} {a bc de hl ix sp pc : Nat} {f : Int32} {m : Nat → Nat} {P : PT} (o0 : rd m (pc) = 70) (hpc : pc + 1 < 65536) (h0 : hl < 65536) (h1 : bc < 65536) : RL G a f bc de hl ix sp pc m P = RL G a f ((rd m hl) * 256 + bc % 256) de hl ix sp (pc + 1) m P := RL_of fun L _ _ d x y => st_46 o0 hpc h0 h1
theorem rl_4E {G : GE} {a bc de hl ix sp pc : Nat} {f : Int32} {m : Nat → Nat} {P : PT} (o0 : rd m (pc) = 78) (hpc : pc + 1 < 65536) (h0 : hl < 65536) (h1 : bc < 65536) : RL G a f bc de hl ix sp pc m P = RL G a f (bc / 256 * 256 + (rd m hl)) de hl ix sp (pc + 1) m P := RL_of fun L _ _ d x y => st_4E o0 hpc h0 h1
theorem rl_56 {G : GE} {a bc de hl ix sp pc : Nat} {f : Int32} {m : Nat → Nat} {P : PT} (o0 : rd m (pc) = 86) (hpc : pc + 1 < 65536) (h0 : hl < 65536) (h1 : de < 65536) : RL G a f bc de hl ix sp pc m P = RL G a f bc ((rd m hl) * 256 + de % 256) hl ix sp (pc + 1) m P := RL_of fun L _ _ d x y => st_56 o0 hpc h0 h1
theorem rl_5E {G : GE} {a bc de hl ix sp pc : Nat} {f : Int32} {m : Nat → Nat} {P : PT} (o0 : rd m (pc) = 94) (hpc : pc + 1 < 65536) (h0 : hl < 65536) (h1 : de < 65536) : RL G a f bc de hl ix sp pc m P = RL G a f bc (de / 256 * 256 + (rd m hl)) hl ix sp (pc + 1) m P := RL_of fun L _ _ d x y => st_5E o0 hpc h0 h1
theorem rl_7E {G : GE} {a bc de hl ix sp pc : Nat} {f : Int32} {m : Nat → Nat} {P : PT} (o0 : rd m (pc) = 126) (hpc : pc + 1 < 65536) (h0 : hl < 65536) : RL G a f bc de hl ix sp pc m P = RL G (rd m hl) f bc de hl ix sp (pc + 1) m P := RL_of fun L _ _ d x y => st_7E o0 hpc h0
theorem rl_72 {G : GE} {a bc de hl ix sp pc : Nat} {f : Int32} {m : Nat → Nat} {P : PT} (o0 : rd m (pc) = 114) (hpc : pc + 1 < 65536) (h0 : hl < 65536) (h1 : de < 65536) : RL G a f bc de hl ix sp pc m P = RL G a f bc de hl ix sp (pc + 1) (up m hl (de / 256)) P := RL_of fun L _ _ d x y => st_72 o0 hpc h0 h1
theorem rl_73 {G : GE} {a bc de hl ix sp pc : Nat} {f : Int32} {m : Nat → Nat} {P : PT} (o0 : rd m (pc) = 115) (hpc : pc + 1 < 65536) (h0 : hl < 65536) (h1 : de < 65536) : RL G a f bc de hl ix sp pc m P = RL G a f bc de hl ix sp (pc + 1) (up m hl (de % 256)) P := RL_of fun L _ _ d x y => st_73 o0 hpc h0 h1
theorem rl_36 {G : GE} {a bc de hl ix sp pc : Nat} {f : Int32} {m : Nat → Nat} {P : PT} (o0 : rd m (pc) = 54) (hpc : pc + 2 < 65536) (h0 : hl < 65536) : RL G a f bc de hl ix sp pc m P = RL G a f bc de hl ix sp (pc + 2) (up m hl (rd m (pc + 1))) P := RL_of fun L _ _ d x y => st_36 o0 hpc h0
theorem rl_06 {G : GE} {a bc de hl ix sp pc : Nat} {f : Int32} {m : Nat → Nat} {P : PT} (o0 : rd m (pc) = 6) (hpc : pc + 2 < 65536) (h0 : bc < 65536) : RL G a f bc de hl ix sp pc m P = RL G a f ((rd m (pc + 1)) * 256 + bc % 256) de hl ix sp (pc + 2) m P := RL_of fun L _ _ d x y => st_06 o0 hpc h0
theorem rl_3E {G : GE} {a bc de hl ix sp pc : Nat} {f : Int32} {m : Nat → Nat} {P : PT} (o0 : rd m (pc) = 62) (hpc : pc + 2 < 65536)  : RL G a f bc de hl ix sp pc m P = RL G (rd m (pc + 1)) f bc de hl ix sp (pc + 2) m P := RL_of fun L _ _ d x y => st_3E o0 hpc
theorem rl_01 {G : GE} {a bc de hl ix sp pc : Nat} {f : Int32} {m : Nat → Nat} {P : PT} (o0 : rd m (pc) = 1) (hpc : pc + 3 < 65536)  : RL G a f bc de hl ix sp pc m P = RL G a f (wd m (pc + 1)) de hl ix sp (pc + 3) m P := RL_of fun L _ _ d x y => st_01 o0 hpc
theorem rl_11 {G : GE} {a bc de hl ix sp pc : Nat} {f : Int32} {m : Nat → Nat} {P : PT} (o0 : rd m (pc) = 17) (hpc : pc + 3 < 65536)  : RL G a f bc de hl ix sp pc m P = RL G a f bc (wd m (pc + 1)) hl ix sp (pc + 3) m P := RL_of fun L _ _ d x y => st_11 o0 hpc
theorem rl_21 {G : GE} {a bc de hl ix sp pc : Nat} {f : Int32} {m : Nat → Nat} {P : PT} (o0 : rd m (pc) = 33) (hpc : pc + 3 < 65536)  : RL G a f bc de hl ix sp pc m P = RL G a f bc de (wd m (pc + 1)) ix sp (pc + 3) m P := RL_of fun L _ _ d x y => st_21 o0 hpc
theorem rl_23 {G : GE} {a bc de hl ix sp pc : Nat} {f : Int32} {m : Nat → Nat} {P : PT} (o0 : rd m (pc) = 35) (hpc : pc + 1 < 65536) (h0 : hl < 65536) : RL G a f bc de hl ix sp pc m P = RL G a f bc de ((hl + 1) % 65536) ix sp (pc + 1) m P := RL_of fun L _ _ d x y => st_23 o0 hpc h0
theorem rl_13 {G : GE} {a bc de hl ix sp pc : Nat} {f : Int32} {m : Nat → Nat} {P : PT} (o0 : rd m (pc) = 19) (hpc : pc + 1 < 65536) (h0 : de < 65536) : RL G a f bc de hl ix sp pc m P = RL G a f bc ((de + 1) % 65536) hl ix sp (pc + 1) m P := RL_of fun L _ _ d x y => st_13 o0 hpc h0
theorem rl_2B {G : GE} {a bc de hl ix sp pc : Nat} {f : Int32} {m : Nat → Nat} {P : PT} (o0 : rd m (pc) = 43) (hpc : pc + 1 < 65536) (h0 : hl < 65536) : RL G a f bc de hl ix sp pc m P = RL G a f bc de ((hl + 65535) % 65536) ix sp (pc + 1) m P := RL_of fun L _ _ d x y => st_2B o0 hpc h0
theorem rl_0B {G : GE} {a bc de hl ix sp pc : Nat} {f : Int32} {m : Nat → Nat} {P : PT} (o0 : rd m (pc) = 11) (hpc : pc + 1 < 65536) (h0 : bc < 65536) : RL G a f bc de hl ix sp pc m P = RL G a f ((bc + 65535) % 65536) de hl ix sp (pc + 1) m P := RL_of fun L _ _ d x y => st_0B o0 hpc h0
theorem rl_09 {G : GE} {a bc de hl ix sp pc : Nat} {f : Int32} {m : Nat → Nat} {P : PT} (o0 : rd m (pc) = 9) (hpc : pc + 1 < 65536) (h0 : hl < 65536) (h1 : bc < 65536) : RL G a f bc de hl ix sp pc m P = RL G a (fAdd f hl bc) bc de ((hl + bc) % 65536) ix sp (pc + 1) m P := RL_of fun L _ _ d x y => st_09 o0 hpc h0 h1
theorem rl_19 {G : GE} {a bc de hl ix sp pc : Nat} {f : Int32} {m : Nat → Nat} {P : PT} (o0 : rd m (pc) = 25) (hpc : pc + 1 < 65536) (h0 : hl < 65536) (h1 : de < 65536) : RL G a f bc de hl ix sp pc m P = RL G a (fAdd f hl de) bc de ((hl + de) % 65536) ix sp (pc + 1) m P := RL_of fun L _ _ d x y => st_19 o0 hpc h0 h1
theorem rl_29 {G : GE} {a bc de hl ix sp pc : Nat} {f : Int32} {m : Nat → Nat} {P : PT} (o0 : rd m (pc) = 41) (hpc : pc + 1 < 65536) (h0 : hl < 65536) (h1 : hl < 65536) : RL G a f bc de hl ix sp pc m P = RL G a (fAdd f hl hl) bc de ((hl + hl) % 65536) ix sp (pc + 1) m P := RL_of fun L _ _ d x y => st_29 o0 hpc h0 h1
theorem rl_39 {G : GE} {a bc de hl ix sp pc : Nat} {f : Int32} {m : Nat → Nat} {P : PT} (o0 : rd m (pc) = 57) (hpc : pc + 1 < 65536) (h0 : hl < 65536) (h1 : sp < 65536) : RL G a f bc de hl ix sp pc m P = RL G a (fAdd f hl sp) bc de ((hl + sp) % 65536) ix sp (pc + 1) m P := RL_of fun L _ _ d x y => st_39 o0 hpc h0 h1
theorem rl_22 {G : GE} {a bc de hl ix sp pc : Nat} {f : Int32} {m : Nat → Nat} {P : PT} (o0 : rd m (pc) = 34) (hpc : pc + 3 < 65536) (h0 : hl < 65536) (h1 : (wd m (pc + 1)) + 1 < 65536) : RL G a f bc de hl ix sp pc m P = RL G a f bc de hl ix sp (pc + 3) (up (up m (wd m (pc + 1)) hl) ((wd m (pc + 1)) + 1) (hl / 256)) P := RL_of fun L _ _ d x y => st_22 o0 hpc h0 h1
theorem rl_2A {G : GE} {a bc de hl ix sp pc : Nat} {f : Int32} {m : Nat → Nat} {P : PT} (o0 : rd m (pc) = 42) (hpc : pc + 3 < 65536) (h0 : (wd m (pc + 1)) + 1 < 65536) : RL G a f bc de hl ix sp pc m P = RL G a f bc de (wd m (wd m (pc + 1))) ix sp (pc + 3) m P := RL_of fun L _ _ d x y => st_2A o0 hpc h0
theorem rl_32 {G : GE} {a bc de hl ix sp pc : Nat} {f : Int32} {m : Nat → Nat} {P : PT} (o0 : rd m (pc) = 50) (hpc : pc + 3 < 65536) (h0 : a < 256) : RL G a f bc de hl ix sp pc m P = RL G a f bc de hl ix sp (pc + 3) (up m (wd m (pc + 1)) a) P := RL_of fun L _ _ d x y => st_32 o0 hpc h0
theorem rl_3A {G : GE} {a bc de hl ix sp pc : Nat} {f : Int32} {m : Nat → Nat} {P : PT} (o0 : rd m (pc) = 58) (hpc : pc + 3 < 65536)  : RL G a f bc de hl ix sp pc m P = RL G (rd m (wd m (pc + 1))) f bc de hl ix sp (pc + 3) m P := RL_of fun L _ _ d x y => st_3A o0 hpc
theorem rl_ED5B {G : GE} {a bc de hl ix sp pc : Nat} {f : Int32} {m : Nat → Nat} {P : PT} (o0 : rd m (pc) = 237) (o1 : rd m (pc + 1) = 91) (hpc : pc + 4 < 65536) (h0 : (wd m (pc + 2)) + 1 < 65536) : RL G a f bc de hl ix sp pc m P = RL G a f bc (wd m (wd m (pc + 2))) hl ix sp (pc + 4) m P := RL_of fun L _ _ d x y => st_ED5B o0 o1 hpc h0
theorem rl_ED53 {G : GE} {a bc de hl ix sp pc : Nat} {f : Int32} {m : Nat → Nat} {P : PT} (o0 : rd m (pc) = 237) (o1 : rd m (pc + 1) = 83) (hpc : pc + 4 < 65536) (h0 : de < 65536) (h1 : (wd m (pc + 2)) + 1 < 65536) : RL G a f bc de hl ix sp pc m P = RL G a f bc de hl ix sp (pc + 4) (up (up m (wd m (pc + 2)) de) ((wd m (pc + 2)) + 1) (de / 256)) P := RL_of fun L _ _ d x y => st_ED53 o0 o1 hpc h0 h1
theorem rl_EB {G : GE} {a bc de hl ix sp pc : Nat} {f : Int32} {m : Nat → Nat} {P : PT} (o0 : rd m (pc) = 235) (hpc : pc + 1 < 65536) (h0 : hl < 65536) (h1 : de < 65536) : RL G a f bc de hl ix sp pc m P = RL G a f bc hl de ix sp (pc + 1) m P := RL_of fun L _ _ d x y => st_EB o0 hpc h0 h1
theorem rl_E9 {G : GE} {a bc de hl ix sp pc : Nat} {f : Int32} {m : Nat → Nat} {P : PT} (o0 : rd m (pc) = 233) (hpc : pc + 1 < 65536) (h0 : hl < 65536) : RL G a f bc de hl ix sp pc m P = RL G a f bc de hl ix sp hl m P := RL_of fun L _ _ d x y => st_E9 o0 hpc h0
theorem rl_F9 {G : GE} {a bc de hl ix sp pc : Nat} {f : Int32} {m : Nat → Nat} {P : PT} (o0 : rd m (pc) = 249) (hpc : pc + 1 < 65536) (h0 : hl < 65536) : RL G a f bc de hl ix sp pc m P = RL G a f bc de hl ix hl (pc + 1) m P := RL_of fun L _ _ d x y => st_F9 o0 hpc h0
theorem rl_04 {G : GE} {a bc de hl ix sp pc : Nat} {f : Int32} {m : Nat → Nat} {P : PT} (o0 : rd m (pc) = 4) (hpc : pc + 1 < 65536) (h0 : bc < 65536) : RL G a f bc de hl ix sp pc m P = RL G a (fInc f (bc / 256)) ((((bc / 256) + 1) % 256) * 256 + bc % 256) de hl ix sp (pc + 1) m P := RL_of fun L _ _ d x y => st_04 o0 hpc h0
theorem rl_0C {G : GE} {a bc de hl ix sp pc : Nat} {f : Int32} {m : Nat → Nat} {P : PT} (o0 : rd m (pc) = 12) (hpc : pc + 1 < 65536) (h0 : bc < 65536) : RL G a f bc de hl ix sp pc m P = RL G a (fInc f (bc % 256)) (bc / 256 * 256 + (((bc % 256) + 1) % 256)) de hl ix sp (pc + 1) m P := RL_of fun L _ _ d x y => st_0C o0 hpc h0
theorem rl_3D {G : GE} {a bc de hl ix sp pc : Nat} {f : Int32} {m : Nat → Nat} {P : PT} (o0 : rd m (pc) = 61) (hpc : pc + 1 < 65536) (h0 : a < 256) : RL G a f bc de hl ix sp pc m P = RL G ((a + 255) % 256) (fDec f a) bc de hl ix sp (pc + 1) m P := RL_of fun L _ _ d x y => st_3D o0 hpc h0
theorem rl_0D {G : GE} {a bc de hl ix sp pc : Nat} {f : Int32} {m : Nat → Nat} {P : PT} (o0 : rd m (pc) = 13) (hpc : pc + 1 < 65536) (h0 : bc < 65536) : RL G a f bc de hl ix sp pc m P = RL G a (fDec f (bc % 256)) (bc / 256 * 256 + (((bc % 256) + 255) % 256)) de hl ix sp (pc + 1) m P := RL_of fun L _ _ d x y => st_0D o0 hpc h0
theorem rl_80 {G : GE} {a bc de hl ix sp pc : Nat} {f : Int32} {m : Nat → Nat} {P : PT} (o0 : rd m (pc) = 128) (hpc : pc + 1 < 65536) (h0 : a < 256) (h1 : bc < 65536) : RL G a f bc de hl ix sp pc m P = RL G ((a + (bc / 256)) % 256) (fPl a (bc / 256) 0) bc de hl ix sp (pc + 1) m P := RL_of fun L _ _ d x y => st_80 o0 hpc h0 h1
theorem rl_91 {G : GE} {a bc de hl ix sp pc : Nat} {f : Int32} {m : Nat → Nat} {P : PT} (o0 : rd m (pc) = 145) (hpc : pc + 1 < 65536) (h0 : a < 256) (h1 : bc < 65536) : RL G a f bc de hl ix sp pc m P = RL G ((a + 256 - (bc % 256)) % 256) (fMi a (bc % 256) 0) bc de hl ix sp (pc + 1) m P := RL_of fun L _ _ d x y => st_91 o0 hpc h0 h1
theorem rl_94 {G : GE} {a bc de hl ix sp pc : Nat} {f : Int32} {m : Nat → Nat} {P : PT} (o0 : rd m (pc) = 148) (hpc : pc + 1 < 65536) (h0 : a < 256) (h1 : hl < 65536) : RL G a f bc de hl ix sp pc m P = RL G ((a + 256 - (hl / 256)) % 256) (fMi a (hl / 256) 0) bc de hl ix sp (pc + 1) m P := RL_of fun L _ _ d x y => st_94 o0 hpc h0 h1
theorem rl_95 {G : GE} {a bc de hl ix sp pc : Nat} {f : Int32} {m : Nat → Nat} {P : PT} (o0 : rd m (pc) = 149) (hpc : pc + 1 < 65536) (h0 : a < 256) (h1 : hl < 65536) : RL G a f bc de hl ix sp pc m P = RL G ((a + 256 - (hl % 256)) % 256) (fMi a (hl % 256) 0) bc de hl ix sp (pc + 1) m P := RL_of fun L _ _ d x y => st_95 o0 hpc h0 h1
theorem rl_9F {G : GE} {a bc de hl ix sp pc : Nat} {f : Int32} {m : Nat → Nat} {P : PT} (o0 : rd m (pc) = 159) (hpc : pc + 1 < 65536) (h0 : a < 256) : RL G a f bc de hl ix sp pc m P = RL G ((a + 512 - a - cyn f) % 256) (fMi a a (cyn f)) bc de hl ix sp (pc + 1) m P := RL_of fun L _ _ d x y => st_9F o0 hpc h0
theorem rl_AA {G : GE} {a bc de hl ix sp pc : Nat} {f : Int32} {m : Nat → Nat} {P : PT} (o0 : rd m (pc) = 170) (hpc : pc + 1 < 65536) (h0 : a < 256) (h1 : de < 65536) : RL G a f bc de hl ix sp pc m P = RL G (a ^^^ (de / 256)) (fLo (a ^^^ (de / 256)) false) bc de hl ix sp (pc + 1) m P := RL_of fun L _ _ d x y => st_AA o0 hpc h0 h1
theorem rl_B3 {G : GE} {a bc de hl ix sp pc : Nat} {f : Int32} {m : Nat → Nat} {P : PT} (o0 : rd m (pc) = 179) (hpc : pc + 1 < 65536) (h0 : a < 256) (h1 : de < 65536) : RL G a f bc de hl ix sp pc m P = RL G (a ||| (de % 256)) (fLo (a ||| (de % 256)) false) bc de hl ix sp (pc + 1) m P := RL_of fun L _ _ d x y => st_B3 o0 hpc h0 h1
theorem rl_B5 {G : GE} {a bc de hl ix sp pc : Nat} {f : Int32} {m : Nat → Nat} {P : PT} (o0 : rd m (pc) = 181) (hpc : pc + 1 < 65536) (h0 : a < 256) (h1 : hl < 65536) : RL G a f bc de hl ix sp pc m P = RL G (a ||| (hl % 256)) (fLo (a ||| (hl % 256)) false) bc de hl ix sp (pc + 1) m P := RL_of fun L _ _ d x y => st_B5 o0 hpc h0 h1
theorem rl_AF {G : GE} {a bc de hl ix sp pc : Nat} {f : Int32} {m : Nat → Nat} {P : PT} (o0 : rd m (pc) = 175) (hpc : pc + 1 < 65536) (h0 : a < 256) : RL G a f bc de hl ix sp pc m P = RL G (a ^^^ a) (fLo (a ^^^ a) false) bc de hl ix sp (pc + 1) m P := RL_of fun L _ _ d x y => st_AF o0 hpc h0
theorem rl_B7 {G : GE} {a bc de hl ix sp pc : Nat} {f : Int32} {m : Nat → Nat} {P : PT} (o0 : rd m (pc) = 183) (hpc : pc + 1 < 65536) (h0 : a < 256) : RL G a f bc de hl ix sp pc m P = RL G (a ||| a) (fLo (a ||| a) false) bc de hl ix sp (pc + 1) m P := RL_of fun L _ _ d x y => st_B7 o0 hpc h0
theorem rl_C6 {G : GE} {a bc de hl ix sp pc : Nat} {f : Int32} {m : Nat → Nat} {P : PT} (o0 : rd m (pc) = 198) (hpc : pc + 2 < 65536) (h0 : a < 256) : RL G a f bc de hl ix sp pc m P = RL G ((a + (rd m (pc + 1))) % 256) (fPl a (rd m (pc + 1)) 0) bc de hl ix sp (pc + 2) m P := RL_of fun L _ _ d x y => st_C6 o0 hpc h0
theorem rl_EE {G : GE} {a bc de hl ix sp pc : Nat} {f : Int32} {m : Nat → Nat} {P : PT} (o0 : rd m (pc) = 238) (hpc : pc + 2 < 65536) (h0 : a < 256) : RL G a f bc de hl ix sp pc m P = RL G (a ^^^ (rd m (pc + 1))) (fLo (a ^^^ (rd m (pc + 1))) false) bc de hl ix sp (pc + 2) m P := RL_of fun L _ _ d x y => st_EE o0 hpc h0
theorem rl_FE {G : GE} {a bc de hl ix sp pc : Nat} {f : Int32} {m : Nat → Nat} {P : PT} (o0 : rd m (pc) = 254) (hpc : pc + 2 < 65536) (h0 : a < 256) : RL G a f bc de hl ix sp pc m P = RL G a (fMi a (rd m (pc + 1)) 0) bc de hl ix sp (pc + 2) m P := RL_of fun L _ _ d x y => st_FE o0 hpc h0
theorem rl_ED6A {G : GE} {a bc de hl ix sp pc : Nat} {f : Int32} {m : Nat → Nat} {P : PT} (o0 : rd m (pc) = 237) (o1 : rd m (pc + 1) = 106) (hpc : pc + 2 < 65536) (h0 : hl < 65536) : RL G a f bc de hl ix sp pc m P = RL G a (fWa f hl hl) bc de ((hl + hl + cyn f) % 65536) ix sp (pc + 2) m P := RL_of fun L _ _ d x y => st_ED6A o0 o1 hpc h0
theorem rl_ED5A {G : GE} {a bc de hl ix sp pc : Nat} {f : Int32} {m : Nat → Nat} {P : PT} (o0 : rd m (pc) = 237) (o1 : rd m (pc + 1) = 90) (hpc : pc + 2 < 65536) (h0 : hl < 65536) (h1 : de < 65536) : RL G a f bc de hl ix sp pc m P = RL G a (fWa f hl de) bc de ((hl + de + cyn f) % 65536) ix sp (pc + 2) m P := RL_of fun L _ _ d x y => st_ED5A o0 o1 hpc h0 h1
theorem rl_ED52 {G : GE} {a bc de hl ix sp pc : Nat} {f : Int32} {m : Nat → Nat} {P : PT} (o0 : rd m (pc) = 237) (o1 : rd m (pc + 1) = 82) (hpc : pc + 2 < 65536) (h0 : hl < 65536) (h1 : de < 65536) : RL G a f bc de hl ix sp pc m P = RL G a (fWs f hl de) bc de ((hl + 131072 - de - cyn f) % 65536) ix sp (pc + 2) m P := RL_of fun L _ _ d x y => st_ED52 o0 o1 hpc h0 h1
theorem rl_ED42 {G : GE} {a bc de hl ix sp pc : Nat} {f : Int32} {m : Nat → Nat} {P : PT} (o0 : rd m (pc) = 237) (o1 : rd m (pc + 1) = 66) (hpc : pc + 2 < 65536) (h0 : hl < 65536) (h1 : bc < 65536) : RL G a f bc de hl ix sp pc m P = RL G a (fWs f hl bc) bc de ((hl + 131072 - bc - cyn f) % 65536) ix sp (pc + 2) m P := RL_of fun L _ _ d x y => st_ED42 o0 o1 hpc h0 h1
theorem rl_CB10 {G : GE} {a bc de hl ix sp pc : Nat} {f : Int32} {m : Nat → Nat} {P : PT} (o0 : rd m (pc) = 203) (o1 : rd m (pc + 1) = 16) (hpc : pc + 2 < 65536) (h0 : bc < 65536) : RL G a f bc de hl ix sp pc m P = RL G a (fRot ((bc / 256 * 2 + cyn f) % 256) (decide (128 ≤ bc / 256))) (((bc / 256 * 2 + cyn f) % 256) * 256 + bc % 256) de hl ix sp (pc + 2) m P := RL_of fun L _ _ d x y => st_CB10 o0 o1 hpc h0
theorem rl_CB12 {G : GE} {a bc de hl ix sp pc : Nat} {f : Int32} {m : Nat → Nat} {P : PT} (o0 : rd m (pc) = 203) (o1 : rd m (pc + 1) = 18) (hpc : pc + 2 < 65536) (h0 : de < 65536) : RL G a f bc de hl ix sp pc m P = RL G a (fRot ((de / 256 * 2 + cyn f) % 256) (decide (128 ≤ de / 256))) bc (((de / 256 * 2 + cyn f) % 256) * 256 + de % 256) hl ix sp (pc + 2) m P := RL_of fun L _ _ d x y => st_CB12 o0 o1 hpc h0
theorem rl_CB21 {G : GE} {a bc de hl ix sp pc : Nat} {f : Int32} {m : Nat → Nat} {P : PT} (o0 : rd m (pc) = 203) (o1 : rd m (pc + 1) = 33) (hpc : pc + 2 < 65536) (h0 : bc < 65536) : RL G a f bc de hl ix sp pc m P = RL G a (fRot (bc % 256 * 2 % 256) (decide (128 ≤ bc % 256))) (bc / 256 * 256 + (bc % 256 * 2 % 256)) de hl ix sp (pc + 2) m P := RL_of fun L _ _ d x y => st_CB21 o0 o1 hpc h0
theorem rl_CB23 {G : GE} {a bc de hl ix sp pc : Nat} {f : Int32} {m : Nat → Nat} {P : PT} (o0 : rd m (pc) = 203) (o1 : rd m (pc + 1) = 35) (hpc : pc + 2 < 65536) (h0 : de < 65536) : RL G a f bc de hl ix sp pc m P = RL G a (fRot (de % 256 * 2 % 256) (decide (128 ≤ de % 256))) bc (de / 256 * 256 + (de % 256 * 2 % 256)) hl ix sp (pc + 2) m P := RL_of fun L _ _ d x y => st_CB23 o0 o1 hpc h0
theorem rl_CB7C {G : GE} {a bc de hl ix sp pc : Nat} {f : Int32} {m : Nat → Nat} {P : PT} (o0 : rd m (pc) = 203) (o1 : rd m (pc + 1) = 124) (hpc : pc + 2 < 65536) (h0 : hl < 65536) : RL G a f bc de hl ix sp pc m P = RL G a (fBit f (hl / 256)) bc de hl ix sp (pc + 2) m P := RL_of fun L _ _ d x y => st_CB7C o0 o1 hpc h0
theorem rl_C3 {G : GE} {a bc de hl ix sp pc : Nat} {f : Int32} {m : Nat → Nat} {P : PT} (o0 : rd m (pc) = 195) (hpc : pc + 3 < 65536)  : RL G a f bc de hl ix sp pc m P = RL G a f bc de hl ix sp (wd m (pc + 1)) m P := RL_of fun L _ _ d x y => st_C3 o0 hpc
theorem rl_C2 {G : GE} {a bc de hl ix sp pc : Nat} {f : Int32} {m : Nat → Nat} {P : PT} (o0 : rd m (pc) = 194) (hpc : pc + 3 < 65536)  : RL G a f bc de hl ix sp pc m P = if ¬ cZ f then RL G a f bc de hl ix sp (wd m (pc + 1)) m P else RL G a f bc de hl ix sp (pc + 3) m P := by
  by_cases hz : ¬ cZ f
  · rw [if_pos hz]
    refine RL_of fun L _ _ d x y => ?_
    obtain ⟨x', y', e⟩ := st_C2 (d := d) (g := G.1) (c0 := G.2.1) (s0 := G.2.2.1) (pr := x) (pc2 := y) (P := P.wlim L) (a := a) (bc := bc) (de := de) (hl := hl) (ix := ix) (sp := sp) (f := f) o0 hpc
    rw [if_pos hz] at e
    exact ⟨x', y', e⟩
  · rw [if_neg hz]
    refine RL_of fun L _ _ d x y => ?_
    obtain ⟨x', y', e⟩ := st_C2 (d := d) (g := G.1) (c0 := G.2.1) (s0 := G.2.2.1) (pr := x) (pc2 := y) (P := P.wlim L) (a := a) (bc := bc) (de := de) (hl := hl) (ix := ix) (sp := sp) (f := f) o0 hpc
    rw [if_neg hz] at e
    exact ⟨x', y', e⟩
theorem rl_CA {G : GE} {a bc de hl ix sp pc : Nat} {f : Int32} {m : Nat → Nat} {P : PT} (o0 : rd m (pc) = 202) (hpc : pc + 3 < 65536)  : RL G a f bc de hl ix sp pc m P = if cZ f then RL G a f bc de hl ix sp (wd m (pc + 1)) m P else RL G a f bc de hl ix sp (pc + 3) m P := by
  by_cases hz : cZ f
  · rw [if_pos hz]
    refine RL_of fun L _ _ d x y => ?_
    obtain ⟨x', y', e⟩ := st_CA (d := d) (g := G.1) (c0 := G.2.1) (s0 := G.2.2.1) (pr := x) (pc2 := y) (P := P.wlim L) (a := a) (bc := bc) (de := de) (hl := hl) (ix := ix) (sp := sp) (f := f) o0 hpc
    rw [if_pos hz] at e
    exact ⟨x', y', e⟩
  · rw [if_neg hz]
    refine RL_of fun L _ _ d x y => ?_
    obtain ⟨x', y', e⟩ := st_CA (d := d) (g := G.1) (c0 := G.2.1) (s0 := G.2.2.1) (pr := x) (pc2 := y) (P := P.wlim L) (a := a) (bc := bc) (de := de) (hl := hl) (ix := ix) (sp := sp) (f := f) o0 hpc
    rw [if_neg hz] at e
    exact ⟨x', y', e⟩
theorem rl_D2 {G : GE} {a bc de hl ix sp pc : Nat} {f : Int32} {m : Nat → Nat} {P : PT} (o0 : rd m (pc) = 210) (hpc : pc + 3 < 65536)  : RL G a f bc de hl ix sp pc m P = if ¬ cC f then RL G a f bc de hl ix sp (wd m (pc + 1)) m P else RL G a f bc de hl ix sp (pc + 3) m P := by
  by_cases hz : ¬ cC f
  · rw [if_pos hz]
    refine RL_of fun L _ _ d x y => ?_
    obtain ⟨x', y', e⟩ := st_D2 (d := d) (g := G.1) (c0 := G.2.1) (s0 := G.2.2.1) (pr := x) (pc2 := y) (P := P.wlim L) (a := a) (bc := bc) (de := de) (hl := hl) (ix := ix) (sp := sp) (f := f) o0 hpc
    rw [if_pos hz] at e
    exact ⟨x', y', e⟩
  · rw [if_neg hz]
    refine RL_of fun L _ _ d x y => ?_
    obtain ⟨x', y', e⟩ := st_D2 (d := d) (g := G.1) (c0 := G.2.1) (s0 := G.2.2.1) (pr := x) (pc2 := y) (P := P.wlim L) (a := a) (bc := bc) (de := de) (hl := hl) (ix := ix) (sp := sp) (f := f) o0 hpc
    rw [if_neg hz] at e
    exact ⟨x', y', e⟩
theorem rl_DA {G : GE} {a bc de hl ix sp pc : Nat} {f : Int32} {m : Nat → Nat} {P : PT} (o0 : rd m (pc) = 218) (hpc : pc + 3 < 65536)  : RL G a f bc de hl ix sp pc m P = if cC f then RL G a f bc de hl ix sp (wd m (pc + 1)) m P else RL G a f bc de hl ix sp (pc + 3) m P := by
  by_cases hz : cC f
  · rw [if_pos hz]
    refine RL_of fun L _ _ d x y => ?_
    obtain ⟨x', y', e⟩ := st_DA (d := d) (g := G.1) (c0 := G.2.1) (s0 := G.2.2.1) (pr := x) (pc2 := y) (P := P.wlim L) (a := a) (bc := bc) (de := de) (hl := hl) (ix := ix) (sp := sp) (f := f) o0 hpc
    rw [if_pos hz] at e
    exact ⟨x', y', e⟩
  · rw [if_neg hz]
    refine RL_of fun L _ _ d x y => ?_
    obtain ⟨x', y', e⟩ := st_DA (d := d) (g := G.1) (c0 := G.2.1) (s0 := G.2.2.1) (pr := x) (pc2 := y) (P := P.wlim L) (a := a) (bc := bc) (de := de) (hl := hl) (ix := ix) (sp := sp) (f := f) o0 hpc
    rw [if_neg hz] at e
    exact ⟨x', y', e⟩
theorem rl_EA {G : GE} {a bc de hl ix sp pc : Nat} {f : Int32} {m : Nat → Nat} {P : PT} (o0 : rd m (pc) = 234) (hpc : pc + 3 < 65536)  : RL G a f bc de hl ix sp pc m P = if cP f then RL G a f bc de hl ix sp (wd m (pc + 1)) m P else RL G a f bc de hl ix sp (pc + 3) m P := by
  by_cases hz : cP f
  · rw [if_pos hz]
    refine RL_of fun L _ _ d x y => ?_
    obtain ⟨x', y', e⟩ := st_EA (d := d) (g := G.1) (c0 := G.2.1) (s0 := G.2.2.1) (pr := x) (pc2 := y) (P := P.wlim L) (a := a) (bc := bc) (de := de) (hl := hl) (ix := ix) (sp := sp) (f := f) o0 hpc
    rw [if_pos hz] at e
    exact ⟨x', y', e⟩
  · rw [if_neg hz]
    refine RL_of fun L _ _ d x y => ?_
    obtain ⟨x', y', e⟩ := st_EA (d := d) (g := G.1) (c0 := G.2.1) (s0 := G.2.2.1) (pr := x) (pc2 := y) (P := P.wlim L) (a := a) (bc := bc) (de := de) (hl := hl) (ix := ix) (sp := sp) (f := f) o0 hpc
    rw [if_neg hz] at e
    exact ⟨x', y', e⟩
theorem rl_FA {G : GE} {a bc de hl ix sp pc : Nat} {f : Int32} {m : Nat → Nat} {P : PT} (o0 : rd m (pc) = 250) (hpc : pc + 3 < 65536)  : RL G a f bc de hl ix sp pc m P = if cS f then RL G a f bc de hl ix sp (wd m (pc + 1)) m P else RL G a f bc de hl ix sp (pc + 3) m P := by
  by_cases hz : cS f
  · rw [if_pos hz]
    refine RL_of fun L _ _ d x y => ?_
    obtain ⟨x', y', e⟩ := st_FA (d := d) (g := G.1) (c0 := G.2.1) (s0 := G.2.2.1) (pr := x) (pc2 := y) (P := P.wlim L) (a := a) (bc := bc) (de := de) (hl := hl) (ix := ix) (sp := sp) (f := f) o0 hpc
    rw [if_pos hz] at e
    exact ⟨x', y', e⟩
  · rw [if_neg hz]
    refine RL_of fun L _ _ d x y => ?_
    obtain ⟨x', y', e⟩ := st_FA (d := d) (g := G.1) (c0 := G.2.1) (s0 := G.2.2.1) (pr := x) (pc2 := y) (P := P.wlim L) (a := a) (bc := bc) (de := de) (hl := hl) (ix := ix) (sp := sp) (f := f) o0 hpc
    rw [if_neg hz] at e
    exact ⟨x', y', e⟩
theorem rl_18 {G : GE} {a bc de hl ix sp pc : Nat} {f : Int32} {m : Nat → Nat} {P : PT} (o0 : rd m (pc) = 24) (hpc : pc + 2 < 65536)  : RL G a f bc de hl ix sp pc m P = RL G a f bc de hl ix sp (jr (pc + 2) (rd m (pc + 1))) m P := RL_of fun L _ _ d x y => st_18 o0 hpc
theorem rl_20 {G : GE} {a bc de hl ix sp pc : Nat} {f : Int32} {m : Nat → Nat} {P : PT} (o0 : rd m (pc) = 32) (hpc : pc + 2 < 65536)  : RL G a f bc de hl ix sp pc m P = if ¬ cZ f then RL G a f bc de hl ix sp (jr (pc + 2) (rd m (pc + 1))) m P else RL G a f bc de hl ix sp (pc + 2) m P := by
  by_cases hz : ¬ cZ f
  · rw [if_pos hz]
    refine RL_of fun L _ _ d x y => ?_
    obtain ⟨x', y', e⟩ := st_20 (d := d) (g := G.1) (c0 := G.2.1) (s0 := G.2.2.1) (pr := x) (pc2 := y) (P := P.wlim L) (a := a) (bc := bc) (de := de) (hl := hl) (ix := ix) (sp := sp) (f := f) o0 hpc
    rw [if_pos hz] at e
    exact ⟨x', y', e⟩
  · rw [if_neg hz]
    refine RL_of fun L _ _ d x y => ?_
    obtain ⟨x', y', e⟩ := st_20 (d := d) (g := G.1) (c0 := G.2.1) (s0 := G.2.2.1) (pr := x) (pc2 := y) (P := P.wlim L) (a := a) (bc := bc) (de := de) (hl := hl) (ix := ix) (sp := sp) (f := f) o0 hpc
    rw [if_neg hz] at e
    exact ⟨x', y', e⟩
theorem rl_28 {G : GE} {a bc de hl ix sp pc : Nat} {f : Int32} {m : Nat → Nat} {P : PT} (o0 : rd m (pc) = 40) (hpc : pc + 2 < 65536)  : RL G a f bc de hl ix sp pc m P = if cZ f then RL G a f bc de hl ix sp (jr (pc + 2) (rd m (pc + 1))) m P else RL G a f bc de hl ix sp (pc + 2) m P := by
  by_cases hz : cZ f
  · rw [if_pos hz]
    refine RL_of fun L _ _ d x y => ?_
    obtain ⟨x', y', e⟩ := st_28 (d := d) (g := G.1) (c0 := G.2.1) (s0 := G.2.2.1) (pr := x) (pc2 := y) (P := P.wlim L) (a := a) (bc := bc) (de := de) (hl := hl) (ix := ix) (sp := sp) (f := f) o0 hpc
    rw [if_pos hz] at e
    exact ⟨x', y', e⟩
  · rw [if_neg hz]
    refine RL_of fun L _ _ d x y => ?_
    obtain ⟨x', y', e⟩ := st_28 (d := d) (g := G.1) (c0 := G.2.1) (s0 := G.2.2.1) (pr := x) (pc2 := y) (P := P.wlim L) (a := a) (bc := bc) (de := de) (hl := hl) (ix := ix) (sp := sp) (f := f) o0 hpc
    rw [if_neg hz] at e
    exact ⟨x', y', e⟩
theorem rl_30 {G : GE} {a bc de hl ix sp pc : Nat} {f : Int32} {m : Nat → Nat} {P : PT} (o0 : rd m (pc) = 48) (hpc : pc + 2 < 65536)  : RL G a f bc de hl ix sp pc m P = if ¬ cC f then RL G a f bc de hl ix sp (jr (pc + 2) (rd m (pc + 1))) m P else RL G a f bc de hl ix sp (pc + 2) m P := by
  by_cases hz : ¬ cC f
  · rw [if_pos hz]
    refine RL_of fun L _ _ d x y => ?_
    obtain ⟨x', y', e⟩ := st_30 (d := d) (g := G.1) (c0 := G.2.1) (s0 := G.2.2.1) (pr := x) (pc2 := y) (P := P.wlim L) (a := a) (bc := bc) (de := de) (hl := hl) (ix := ix) (sp := sp) (f := f) o0 hpc
    rw [if_pos hz] at e
    exact ⟨x', y', e⟩
  · rw [if_neg hz]
    refine RL_of fun L _ _ d x y => ?_
    obtain ⟨x', y', e⟩ := st_30 (d := d) (g := G.1) (c0 := G.2.1) (s0 := G.2.2.1) (pr := x) (pc2 := y) (P := P.wlim L) (a := a) (bc := bc) (de := de) (hl := hl) (ix := ix) (sp := sp) (f := f) o0 hpc
    rw [if_neg hz] at e
    exact ⟨x', y', e⟩
theorem rl_38 {G : GE} {a bc de hl ix sp pc : Nat} {f : Int32} {m : Nat → Nat} {P : PT} (o0 : rd m (pc) = 56) (hpc : pc + 2 < 65536)  : RL G a f bc de hl ix sp pc m P = if cC f then RL G a f bc de hl ix sp (jr (pc + 2) (rd m (pc + 1))) m P else RL G a f bc de hl ix sp (pc + 2) m P := by
  by_cases hz : cC f
  · rw [if_pos hz]
    refine RL_of fun L _ _ d x y => ?_
    obtain ⟨x', y', e⟩ := st_38 (d := d) (g := G.1) (c0 := G.2.1) (s0 := G.2.2.1) (pr := x) (pc2 := y) (P := P.wlim L) (a := a) (bc := bc) (de := de) (hl := hl) (ix := ix) (sp := sp) (f := f) o0 hpc
    rw [if_pos hz] at e
    exact ⟨x', y', e⟩
  · rw [if_neg hz]
    refine RL_of fun L _ _ d x y => ?_
    obtain ⟨x', y', e⟩ := st_38 (d := d) (g := G.1) (c0 := G.2.1) (s0 := G.2.2.1) (pr := x) (pc2 := y) (P := P.wlim L) (a := a) (bc := bc) (de := de) (hl := hl) (ix := ix) (sp := sp) (f := f) o0 hpc
    rw [if_neg hz] at e
    exact ⟨x', y', e⟩
theorem rl_10 {G : GE} {a bc de hl ix sp pc : Nat} {f : Int32} {m : Nat → Nat} {P : PT} (o0 : rd m (pc) = 16) (hpc : pc + 2 < 65536) (h0 : bc < 65536) : RL G a f bc de hl ix sp pc m P = if ¬ (bc / 256 + 255) % 256 = 0 then RL G a f (((bc / 256 + 255) % 256) * 256 + bc % 256) de hl ix sp (jr (pc + 2) (rd m (pc + 1))) m P else RL G a f (((bc / 256 + 255) % 256) * 256 + bc % 256) de hl ix sp (pc + 2) m P := by
  by_cases hz : ¬ (bc / 256 + 255) % 256 = 0
  · rw [if_pos hz]
    refine RL_of fun L _ _ d x y => ?_
    obtain ⟨x', y', e⟩ := st_10 (d := d) (g := G.1) (c0 := G.2.1) (s0 := G.2.2.1) (pr := x) (pc2 := y) (P := P.wlim L) (a := a) (bc := bc) (de := de) (hl := hl) (ix := ix) (sp := sp) (f := f) o0 hpc h0
    rw [if_pos hz] at e
    exact ⟨x', y', e⟩
  · rw [if_neg hz]
    refine RL_of fun L _ _ d x y => ?_
    obtain ⟨x', y', e⟩ := st_10 (d := d) (g := G.1) (c0 := G.2.1) (s0 := G.2.2.1) (pr := x) (pc2 := y) (P := P.wlim L) (a := a) (bc := bc) (de := de) (hl := hl) (ix := ix) (sp := sp) (f := f) o0 hpc h0
    rw [if_neg hz] at e
    exact ⟨x', y', e⟩
theorem rl_CD {G : GE} {a bc de hl ix sp pc : Nat} {f : Int32} {m : Nat → Nat} {P : PT} (o0 : rd m (pc) = 205) (hpc : pc + 3 < 65536) (h0 : 2 ≤ sp) (h1 : sp < 65536) : RL G a f bc de hl ix sp pc m P = RL G a f bc de hl ix (sp - 2) (wd m (pc + 1)) (up (up m (sp - 1) ((pc + 3) / 256)) (sp - 2) (pc + 3)) P := RL_of fun L _ _ d x y => st_CD o0 hpc h0 h1
theorem rl_CF {G : GE} {a bc de hl ix sp pc : Nat} {f : Int32} {m : Nat → Nat} {P : PT} (o0 : rd m (pc) = 207) (hpc : pc + 1 < 65536) (h0 : 2 ≤ sp) (h1 : sp < 65536) : RL G a f bc de hl ix sp pc m P = RL G a f bc de hl ix (sp - 2) 8 (up (up m (sp - 1) ((pc + 1) / 256)) (sp - 2) (pc + 1)) P := RL_of fun L _ _ d x y => st_CF o0 hpc h0 h1
theorem rl_C9 {G : GE} {a bc de hl ix sp pc : Nat} {f : Int32} {m : Nat → Nat} {P : PT} (o0 : rd m (pc) = 201) (hpc : pc + 1 < 65536) (h0 : sp + 2 < 65536) : RL G a f bc de hl ix sp pc m P = RL G a f bc de hl ix (sp + 2) (wd m sp) m P := RL_of fun L _ _ d x y => st_C9 o0 hpc h0
theorem rl_C8 {G : GE} {a bc de hl ix sp pc : Nat} {f : Int32} {m : Nat → Nat} {P : PT} (o0 : rd m (pc) = 200) (hpc : pc + 1 < 65536) (h0 : sp + 2 < 65536) : RL G a f bc de hl ix sp pc m P = if cZ f then RL G a f bc de hl ix (sp + 2) (wd m sp) m P else RL G a f bc de hl ix sp (pc + 1) m P := by
  by_cases hz : cZ f
  · rw [if_pos hz]
    refine RL_of fun L _ _ d x y => ?_
    obtain ⟨x', y', e⟩ := st_C8 (d := d) (g := G.1) (c0 := G.2.1) (s0 := G.2.2.1) (pr := x) (pc2 := y) (P := P.wlim L) (a := a) (bc := bc) (de := de) (hl := hl) (ix := ix) (sp := sp) (f := f) o0 hpc h0
    rw [if_pos hz] at e
    exact ⟨x', y', e⟩
  · rw [if_neg hz]
    refine RL_of fun L _ _ d x y => ?_
    obtain ⟨x', y', e⟩ := st_C8 (d := d) (g := G.1) (c0 := G.2.1) (s0 := G.2.2.1) (pr := x) (pc2 := y) (P := P.wlim L) (a := a) (bc := bc) (de := de) (hl := hl) (ix := ix) (sp := sp) (f := f) o0 hpc h0
    rw [if_neg hz] at e
    exact ⟨x', y', e⟩
theorem rl_F0 {G : GE} {a bc de hl ix sp pc : Nat} {f : Int32} {m : Nat → Nat} {P : PT} (o0 : rd m (pc) = 240) (hpc : pc + 1 < 65536) (h0 : sp + 2 < 65536) : RL G a f bc de hl ix sp pc m P = if ¬ cS f then RL G a f bc de hl ix (sp + 2) (wd m sp) m P else RL G a f bc de hl ix sp (pc + 1) m P := by
  by_cases hz : ¬ cS f
  · rw [if_pos hz]
    refine RL_of fun L _ _ d x y => ?_
    obtain ⟨x', y', e⟩ := st_F0 (d := d) (g := G.1) (c0 := G.2.1) (s0 := G.2.2.1) (pr := x) (pc2 := y) (P := P.wlim L) (a := a) (bc := bc) (de := de) (hl := hl) (ix := ix) (sp := sp) (f := f) o0 hpc h0
    rw [if_pos hz] at e
    exact ⟨x', y', e⟩
  · rw [if_neg hz]
    refine RL_of fun L _ _ d x y => ?_
    obtain ⟨x', y', e⟩ := st_F0 (d := d) (g := G.1) (c0 := G.2.1) (s0 := G.2.2.1) (pr := x) (pc2 := y) (P := P.wlim L) (a := a) (bc := bc) (de := de) (hl := hl) (ix := ix) (sp := sp) (f := f) o0 hpc h0
    rw [if_neg hz] at e
    exact ⟨x', y', e⟩
theorem rl_C1 {G : GE} {a bc de hl ix sp pc : Nat} {f : Int32} {m : Nat → Nat} {P : PT} (o0 : rd m (pc) = 193) (hpc : pc + 1 < 65536) (h0 : sp + 2 < 65536) : RL G a f bc de hl ix sp pc m P = RL G a f (wd m sp) de hl ix (sp + 2) (pc + 1) m P := RL_of fun L _ _ d x y => st_C1 o0 hpc h0
theorem rl_D1 {G : GE} {a bc de hl ix sp pc : Nat} {f : Int32} {m : Nat → Nat} {P : PT} (o0 : rd m (pc) = 209) (hpc : pc + 1 < 65536) (h0 : sp + 2 < 65536) : RL G a f bc de hl ix sp pc m P = RL G a f bc (wd m sp) hl ix (sp + 2) (pc + 1) m P := RL_of fun L _ _ d x y => st_D1 o0 hpc h0
theorem rl_E1 {G : GE} {a bc de hl ix sp pc : Nat} {f : Int32} {m : Nat → Nat} {P : PT} (o0 : rd m (pc) = 225) (hpc : pc + 1 < 65536) (h0 : sp + 2 < 65536) : RL G a f bc de hl ix sp pc m P = RL G a f bc de (wd m sp) ix (sp + 2) (pc + 1) m P := RL_of fun L _ _ d x y => st_E1 o0 hpc h0
theorem rl_F1 {G : GE} {a bc de hl ix sp pc : Nat} {f : Int32} {m : Nat → Nat} {P : PT} (o0 : rd m (pc) = 241) (hpc : pc + 1 < 65536) (h0 : sp + 2 < 65536) : RL G a f bc de hl ix sp pc m P = RL G (rd m (sp + 1)) (Int32.ofNat (rd m sp)) bc de hl ix (sp + 2) (pc + 1) m P := RL_of fun L _ _ d x y => st_F1 o0 hpc h0
theorem rl_C5 {G : GE} {a bc de hl ix sp pc : Nat} {f : Int32} {m : Nat → Nat} {P : PT} (o0 : rd m (pc) = 197) (hpc : pc + 1 < 65536) (h0 : 2 ≤ sp) (h1 : sp < 65536) (h2 : bc < 65536) : RL G a f bc de hl ix sp pc m P = RL G a f bc de hl ix (sp - 2) (pc + 1) (up (up m (sp - 1) (bc / 256)) (sp - 2) bc) P := RL_of fun L _ _ d x y => st_C5 o0 hpc h0 h1 h2
theorem rl_D5 {G : GE} {a bc de hl ix sp pc : Nat} {f : Int32} {m : Nat → Nat} {P : PT} (o0 : rd m (pc) = 213) (hpc : pc + 1 < 65536) (h0 : 2 ≤ sp) (h1 : sp < 65536) (h2 : de < 65536) : RL G a f bc de hl ix sp pc m P = RL G a f bc de hl ix (sp - 2) (pc + 1) (up (up m (sp - 1) (de / 256)) (sp - 2) de) P := RL_of fun L _ _ d x y => st_D5 o0 hpc h0 h1 h2
theorem rl_E5 {G : GE} {a bc de hl ix sp pc : Nat} {f : Int32} {m : Nat → Nat} {P : PT} (o0 : rd m (pc) = 229) (hpc : pc + 1 < 65536) (h0 : 2 ≤ sp) (h1 : sp < 65536) (h2 : hl < 65536) : RL G a f bc de hl ix sp pc m P = RL G a f bc de hl ix (sp - 2) (pc + 1) (up (up m (sp - 1) (hl / 256)) (sp - 2) hl) P := RL_of fun L _ _ d x y => st_E5 o0 hpc h0 h1 h2
theorem rl_F5 {G : GE} {a bc de hl ix sp pc : Nat} {f : Int32} {m : Nat → Nat} {P : PT} (o0 : rd m (pc) = 245) (hpc : pc + 1 < 65536) (h0 : 2 ≤ sp) (h1 : sp < 65536) (h2 : a < 256) (h3 : f &&& 255 = f) : RL G a f bc de hl ix sp pc m P = RL G a f bc de hl ix (sp - 2) (pc + 1) (up (up m (sp - 1) ((a * 256 + fB f) / 256)) (sp - 2) (a * 256 + fB f)) P := RL_of fun L _ _ d x y => st_F5 o0 hpc h0 h1 h2 h3
theorem rl_E3 {G : GE} {a bc de hl ix sp pc : Nat} {f : Int32} {m : Nat → Nat} {P : PT} (o0 : rd m (pc) = 227) (hpc : pc + 1 < 65536) (h0 : hl < 65536) (h1 : sp + 1 < 65536) : RL G a f bc de hl ix sp pc m P = RL G a f bc de (wd m sp) ix sp (pc + 1) (up (up m sp hl) (sp + 1) (hl / 256)) P := RL_of fun L _ _ d x y => st_E3 o0 hpc h0 h1
theorem rl_DD21 {G : GE} {a bc de hl ix sp pc : Nat} {f : Int32} {m : Nat → Nat} {P : PT} (o0 : rd m (pc) = 221) (o1 : rd m (pc + 1) = 33) (hpc : pc + 4 < 65536)  : RL G a f bc de hl ix sp pc m P = RL G a f bc de hl (wd m (pc + 2)) sp (pc + 4) m P := RL_of fun L _ _ d x y => st_DD21 o0 o1 hpc
theorem rl_DD39 {G : GE} {a bc de hl ix sp pc : Nat} {f : Int32} {m : Nat → Nat} {P : PT} (o0 : rd m (pc) = 221) (o1 : rd m (pc + 1) = 57) (hpc : pc + 2 < 65536) (h0 : ix < 65536) (h1 : sp < 65536) : RL G a f bc de hl ix sp pc m P = RL G a (fAdd f ix sp) bc de hl ((ix + sp) % 65536) sp (pc + 2) m P := RL_of fun L _ _ d x y => st_DD39 o0 o1 hpc h0 h1
theorem rl_DD5E {G : GE} {a bc de hl ix sp pc : Nat} {f : Int32} {m : Nat → Nat} {P : PT} (o0 : rd m (pc) = 221) (o1 : rd m (pc + 1) = 94) (hpc : pc + 3 < 65536) (h0 : ix < 65536) (h1 : de < 65536) : RL G a f bc de hl ix sp pc m P = RL G a f bc (de / 256 * 256 + (rd m (jr ix (rd m (pc + 2))))) hl ix sp (pc + 3) m P := RL_of fun L _ _ d x y => st_DD5E o0 o1 hpc h0 h1
theorem rl_DD56 {G : GE} {a bc de hl ix sp pc : Nat} {f : Int32} {m : Nat → Nat} {P : PT} (o0 : rd m (pc) = 221) (o1 : rd m (pc + 1) = 86) (hpc : pc + 3 < 65536) (h0 : ix < 65536) (h1 : de < 65536) : RL G a f bc de hl ix sp pc m P = RL G a f bc ((rd m (jr ix (rd m (pc + 2)))) * 256 + de % 256) hl ix sp (pc + 3) m P := RL_of fun L _ _ d x y => st_DD56 o0 o1 hpc h0 h1
theorem rl_DD75 {G : GE} {a bc de hl ix sp pc : Nat} {f : Int32} {m : Nat → Nat} {P : PT} (o0 : rd m (pc) = 221) (o1 : rd m (pc + 1) = 117) (hpc : pc + 3 < 65536) (h0 : ix < 65536) (h1 : hl < 65536) : RL G a f bc de hl ix sp pc m P = RL G a f bc de hl ix sp (pc + 3) (up m (jr ix (rd m (pc + 2))) (hl % 256)) P := RL_of fun L _ _ d x y => st_DD75 o0 o1 hpc h0 h1
theorem rl_DD74 {G : GE} {a bc de hl ix sp pc : Nat} {f : Int32} {m : Nat → Nat} {P : PT} (o0 : rd m (pc) = 221) (o1 : rd m (pc + 1) = 116) (hpc : pc + 3 < 65536) (h0 : ix < 65536) (h1 : hl < 65536) : RL G a f bc de hl ix sp pc m P = RL G a f bc de hl ix sp (pc + 3) (up m (jr ix (rd m (pc + 2))) (hl / 256)) P := RL_of fun L _ _ d x y => st_DD74 o0 o1 hpc h0 h1
theorem rl_DDE5 {G : GE} {a bc de hl ix sp pc : Nat} {f : Int32} {m : Nat → Nat} {P : PT} (o0 : rd m (pc) = 221) (o1 : rd m (pc + 1) = 229) (hpc : pc + 2 < 65536) (h0 : 2 ≤ sp) (h1 : sp < 65536) (h2 : ix < 65536) : RL G a f bc de hl ix sp pc m P = RL G a f bc de hl ix (sp - 2) (pc + 2) (up (up m (sp - 1) (ix / 256)) (sp - 2) ix) P := RL_of fun L _ _ d x y => st_DDE5 o0 o1 hpc h0 h1 h2
theorem rl_DDE1 {G : GE} {a bc de hl ix sp pc : Nat} {f : Int32} {m : Nat → Nat} {P : PT} (o0 : rd m (pc) = 221) (o1 : rd m (pc + 1) = 225) (hpc : pc + 2 < 65536) (h0 : sp + 2 < 65536) : RL G a f bc de hl ix sp pc m P = RL G a f bc de hl (wd m sp) (sp + 2) (pc + 2) m P := RL_of fun L _ _ d x y => st_DDE1 o0 o1 hpc h0
theorem rl_DDF9 {G : GE} {a bc de hl ix sp pc : Nat} {f : Int32} {m : Nat → Nat} {P : PT} (o0 : rd m (pc) = 221) (o1 : rd m (pc + 1) = 249) (hpc : pc + 2 < 65536) (h0 : ix < 65536) : RL G a f bc de hl ix sp pc m P = RL G a f bc de hl ix ix (pc + 2) m P := RL_of fun L _ _ d x y => st_DDF9 o0 o1 hpc h0
theorem rl_EDB0 {G : GE} {a bc de hl ix sp pc : Nat} {f : Int32} {m : Nat → Nat} {P : PT} (o0 : rd m (pc) = 237) (o1 : rd m (pc + 1) = 176) (hpc : pc + 2 < 65536) (h0 : bc < 65536) (h1 : de < 65536) (h2 : hl < 65536) : RL G a f bc de hl ix sp pc m P = if ¬ ((bc + 65535) % 65536) = 0 then RL G a (fBlk f ((bc + 65535) % 65536)) ((bc + 65535) % 65536) ((de + 1) % 65536) ((hl + 1) % 65536) ix sp pc (up m de (rd m hl)) P else RL G a (fBlk f ((bc + 65535) % 65536)) ((bc + 65535) % 65536) ((de + 1) % 65536) ((hl + 1) % 65536) ix sp (pc + 2) (up m de (rd m hl)) P := by
  by_cases hz : ¬ ((bc + 65535) % 65536) = 0
  · rw [if_pos hz]
    refine RL_of fun L _ _ d x y => ?_
    obtain ⟨x', y', e⟩ := st_EDB0 (d := d) (g := G.1) (c0 := G.2.1) (s0 := G.2.2.1) (pr := x) (pc2 := y) (P := P.wlim L) (a := a) (bc := bc) (de := de) (hl := hl) (ix := ix) (sp := sp) (f := f) o0 o1 hpc h0 h1 h2
    rw [if_pos hz] at e
    exact ⟨x', y', e⟩
  · rw [if_neg hz]
    refine RL_of fun L _ _ d x y => ?_
    obtain ⟨x', y', e⟩ := st_EDB0 (d := d) (g := G.1) (c0 := G.2.1) (s0 := G.2.2.1) (pr := x) (pc2 := y) (P := P.wlim L) (a := a) (bc := bc) (de := de) (hl := hl) (ix := ix) (sp := sp) (f := f) o0 o1 hpc h0 h1 h2
    rw [if_neg hz] at e
    exact ⟨x', y', e⟩
theorem rl_D303 {G : GE} {a bc de hl ix sp pc : Nat} {f : Int32} {m : Nat → Nat} {P : PT} (o0 : rd m pc = 211) (o1 : rd m (pc + 1) = 3) (hpc : pc + 2 < 65536) (h0 : a < 256) (h1 : P.ou.length < 2000) : RL G a f bc de hl ix sp pc m P = RL G a f bc de hl ix sp (pc + 2) m (P.wou (P.ou ++ [a])) := RL_of fun L _ _ d x y => st_D303 (P := P.wlim L) o0 o1 hpc h1
theorem rl_D301 {G : GE} {a bc de hl ix sp pc : Nat} {f : Int32} {m : Nat → Nat} {P : PT} (o0 : rd m pc = 211) (o1 : rd m (pc + 1) = 1) (hpc : pc + 2 < 65536) (h0 : hl < 65536) (h1 : P.st < G.2.2.2) (h3 : sp + 1 < 65536) : RL G a f bc de hl ix sp pc m P = RL G a f bc de hl ix sp (pc + 2) m (P.ask hl) := RL_of fun L hL hL2 d x y => st_D301 (P := P.wlim L) o0 o1 hpc h0 (Nat.lt_of_lt_of_le h1 hL) hL2 h3
theorem rx_D301 {G : GE} {a bc de hl ix sp pc : Nat} {f : Int32} {m : Nat → Nat} {P : PT} (o0 : rd m pc = 211) (o1 : rd m (pc + 1) = 1) (hpc : pc + 2 < 65536) (h1 : P.st = P.lim) : RQ G a f bc de hl ix sp pc m P = RX G a f bc de hl ix sp pc m P 1 0 := RX_of fun d x y => st_D301p o0 o1 hpc h1
theorem rx_D302 {G : GE} {a bc de hl ix sp pc : Nat} {f : Int32} {m : Nat → Nat} {P : PT} (o0 : rd m pc = 211) (o1 : rd m (pc + 1) = 2) (hpc : pc + 2 < 65536) : RQ G a f bc de hl ix sp pc m P = RX G a f bc de hl ix sp (pc + 2) m P 4 (Int32.ofNat a) := RX_of fun d x y => st_D302 o0 o1 hpc
theorem rx_D305 {G : GE} {a bc de hl ix sp pc : Nat} {f : Int32} {m : Nat → Nat} {P : PT} (o0 : rd m pc = 211) (o1 : rd m (pc + 1) = 5) (hpc : pc + 2 < 65536) : RQ G a f bc de hl ix sp pc m P = RX G a f bc de hl ix sp (pc + 2) m P 2 0 := RX_of fun d x y => st_D305 o0 o1 hpc
