/-! Commands: their tokens, their code; what statement makes of each (printed by gen/sense5.py) -/
set_option maxRecDepth 100000
set_option maxHeartbeats 4000000
/-- a statement: its kind, the target, operands -/
def St : Type := Nat × Nat × Nat × Nat
def St.add (a w u : Nat) : St := (0, a, w, u)
def St.sub (a w c : Nat) : St := (1, a, w, c)
def St.mul (a w u : Nat) : St := (2, a, w, u)
def St.div (a w c : Nat) : St := (3, a, w, c)
def St.mod (a w c : Nat) : St := (4, a, w, c)
def St.set (w u : Nat) : St := (5, 0, w, u)
def St.get (a w : Nat) : St := (6, a, w, 0)
def St.con (a c : Nat) : St := (7, a, c, 0)
/-- a command: its kind (1 one, 2 if, 3 for, 4 write, 5 repeat, 6 while), three numbers, the statement within -/
def Cmd : Type := Nat × Nat × Nat × Nat × St
def Cmd.one (s : St) : Cmd := (1, 0, 0, 0, s)
def Cmd.iff (w u : Nat) (s : St) : Cmd := (2, w, u, 0, s)
def Cmd.fo (a w c : Nat) (s : St) : Cmd := (3, a, w, c, s)
def Cmd.wri (a c : Nat) : Cmd := (4, a, c, 0, (0, 0, 0, 0))
def Cmd.rep (w u : Nat) (s : St) : Cmd := (5, w, u, 0, s)
def Cmd.whi (w u : Nat) (s : St) : Cmd := (6, w, u, 0, s)
def St.ok (s : St) : Prop := match s with
  | (0, a, w, u) => a < 4 ∧ w < 4 ∧ u < 4 | (1, a, w, c) => a < 4 ∧ w < 4 ∧ c < 32768 | (2, a, w, u) => a < 4 ∧ w < 4 ∧ u < 4
  | (3, a, w, c) => a < 4 ∧ w < 4 ∧ 0 < c ∧ c < 32768 | (4, a, w, c) => a < 4 ∧ w < 4 ∧ 0 < c ∧ c < 32768
  | (5, a, w, u) => a = 0 ∧ w < 4 ∧ u < 4 | (6, a, w, u) => u = 0 ∧ a < 4 ∧ w < 4 | (7, a, c, u) => u = 0 ∧ a < 4 ∧ c < 32768 | _ => False
def Cmd.ok (c : Cmd) : Prop := match c with
  | (1, a, b, d, s) => a = 0 ∧ b = 0 ∧ d = 0 ∧ s.ok | (2, w, u, d, s) => d = 0 ∧ w < 4 ∧ u < 4 ∧ s.ok | (3, a, w, c, s) => a < 4 ∧ w < 4 ∧ c < 32768 ∧ s.ok
  | (4, a, c, d, s) => d = 0 ∧ s = (0, 0, 0, 0) ∧ a < 4 ∧ c < 8 | (5, w, u, d, s) => d = 0 ∧ w < 4 ∧ u < 4 ∧ s.ok | (6, w, u, d, s) => d = 0 ∧ w < 4 ∧ u < 4 ∧ s.ok | _ => False
theorem St.all {p : St → Prop} (h0 : ∀ a w u, (St.add a w u).ok → p (St.add a w u)) (h1 : ∀ a w c, (St.sub a w c).ok → p (St.sub a w c)) (h2 : ∀ a w u, (St.mul a w u).ok → p (St.mul a w u)) (h3 : ∀ a w c, (St.div a w c).ok → p (St.div a w c)) (h4 : ∀ a w c, (St.mod a w c).ok → p (St.mod a w c))
    (h5 : ∀ w u, (St.set w u).ok → p (St.set w u)) (h6 : ∀ a w, (St.get a w).ok → p (St.get a w)) (h7 : ∀ a c, (St.con a c).ok → p (St.con a c)) {s : St} (hs : s.ok) : p s := by
  obtain ⟨k, a, w, u⟩ := s
  match k, hs with
  | 0, hs => exact h0 a w u hs
  | 1, hs => exact h1 a w u hs
  | 2, hs => exact h2 a w u hs
  | 3, hs => exact h3 a w u hs
  | 4, hs => exact h4 a w u hs
  | 5, hs => obtain ⟨rfl, _⟩ := id hs; exact h5 w u hs
  | 6, hs => obtain ⟨rfl, _⟩ := id hs; exact h6 a w hs
  | 7, hs => obtain ⟨rfl, _⟩ := id hs; exact h7 a w hs
  | n + 8, hs => exact hs.elim
theorem Cmd.all {p : Cmd → Prop} (h1 : ∀ s, (Cmd.one s).ok → p (Cmd.one s)) (h2 : ∀ w u s, (Cmd.iff w u s).ok → p (Cmd.iff w u s)) (h3 : ∀ a w c s, (Cmd.fo a w c s).ok → p (Cmd.fo a w c s)) (h4 : ∀ a c, (Cmd.wri a c).ok → p (Cmd.wri a c)) (h5 : ∀ w u s, (Cmd.rep w u s).ok → p (Cmd.rep w u s)) (h6 : ∀ w u s, (Cmd.whi w u s).ok → p (Cmd.whi w u s)) {c : Cmd} (hc : c.ok) : p c := by
  obtain ⟨k, a, b, d, s⟩ := c
  match k, hc with
  | 0, hc => exact hc.elim
  | 1, hc => obtain ⟨rfl, rfl, rfl, _⟩ := id hc; exact h1 s hc
  | 2, hc => obtain ⟨rfl, _⟩ := id hc; exact h2 a b s hc
  | 3, hc => exact h3 a b d s hc
  | 4, hc => obtain ⟨rfl, rfl, _⟩ := id hc; exact h4 a b hc
  | 5, hc => obtain ⟨rfl, _⟩ := id hc; exact h5 a b s hc
  | 6, hc => obtain ⟨rfl, _⟩ := id hc; exact h6 a b s hc
  | n + 7, hc => exact hc.elim
/-- a token: 0 a name, 1 a number, 2 a sign or reserved word -/
def Tok : Type := Nat × Int64 × Nat × Int32
def Tok.nam (w : Int64) : Tok := (0, w, 0, 0)
def Tok.num (c : Nat) : Tok := (1, 0, c, 0)
def Tok.sym (k : Int32) : Tok := (2, 0, 0, k)
def tkA (tk : Nat → Int32) (tf ts : Nat → Int64) (n : Nat) (t : Tok) : Prop := match t with
  | (0, w, _, _) => tk n = 100 ∧ tf n = w ∧ ts n = 0
  | (1, _, c, _) => tk n = 101 ∧ (tf n).toInt32 = Int32.ofNat c
  | (_, _, _, k) => tk n = k
def TA (tk : Nat → Int32) (tf ts : Nat → Int64) : Nat → List Tok → Prop
  | _, [] => True
  | n, t :: l => tkA tk tf ts n t ∧ TA tk tf ts (n + 1) l
def tv (j : Nat) : Tok := .nam (cw j)
def St.toks (s : St) : List Tok := match s with
  | (5, _, w, u) => [.nam 15, .sym 119, tv w, .sym 23, .num 4, .sym 120, .sym 130, tv u]
  | (6, a, w, _) => [tv a, .sym 130, .nam 15, .sym 119, tv w, .sym 120]
  | (7, a, c, _) => [tv a, .sym 130, .num c]
  | (0, a, w, u) => [tv a, .sym 130, tv w, .sym 110, tv u]
  | (1, a, w, c) => [tv a, .sym 130, tv w, .sym 111, .num c]
  | (2, a, w, u) => [tv a, .sym 130, tv w, .sym 112, tv u]
  | (3, a, w, c) => [tv a, .sym 130, tv w, .sym 8, .num c]
  | (4, a, w, c) => [tv a, .sym 130, tv w, .sym 23, .num c]
  | _ => []
/-- what stands ahead of the statement within, and behind it -/
def Cmd.pre (c : Cmd) : List Tok := match c with
  | (2, w, u, _, _) => [.sym 18, tv w, .sym 127, tv u, .sym 35]
  | (3, a, w, c, _) => [.sym 15, tv a, .sym 130, tv w, .sym 36, .num c, .sym 4, .num 3, .sym 9]
  | (5, _, _, _, _) => [.sym 32]
  | (6, w, u, _, _) => [.sym 40, tv w, .sym 128, tv u, .sym 9]
  | _ => []
def Cmd.mid (c : Cmd) : List Tok := match c with
  | (4, a, c, _, _) => [.nam 261429798032926, .sym 117, tv a, .sym 115, .num c, .sym 118]
  | (_, _, _, _, s) => s.toks
def Cmd.post (c : Cmd) : List Tok := match c with
  | (2, _, _, _, _) => [.sym 12] | (3, _, _, _, _) => [.sym 12] | (6, _, _, _, _) => [.sym 12]
  | (5, w, u, _, _) => [.sym 38, tv w, .sym 127, tv u]
  | _ => []
def Cmd.toks (c : Cmd) : List Tok := c.pre ++ (c.mid ++ c.post)
theorem TA_app {tk : Nat → Int32} {tf ts : Nat → Int64} {l l2 : List Tok} {n : Nat} : TA tk tf ts n (l ++ l2) ↔ TA tk tf ts n l ∧ TA tk tf ts (n + l.length) l2 := by
  induction l generalizing n with
  | nil => simp [TA]
  | cons b l ih =>
    have e : n + (b :: l).length = n + 1 + l.length := by rw [List.length_cons]; omega
    simp only [List.cons_append, TA, ih, and_assoc, e]
-- code
def vaN (j : Nat) : Nat := 59392 + 2 * j
abbrev lo (x : Nat) : Nat := x % 256
abbrev hi (x : Nat) : Nat := x / 256
def St.code (s : St) : List Nat := match s with
  | (5, _, w, u) => [42, lo (vaN w), hi (vaN w), 17, 4, 0, 205, 121, 0, 205, 214, 0, 0, 0, 3, 0, 41, 17, 8, 232, 25, 229, 42, lo (vaN u), hi (vaN u), 235, 225, 115, 35, 114]
  | (6, a, w, _) => [42, lo (vaN w), hi (vaN w), 205, 214, 0, 0, 0, 3, 0, 41, 17, 8, 232, 25, 94, 35, 86, 235, 34, lo (vaN a), hi (vaN a)]
  | (7, a, c, _) => [33, lo c, hi c, 34, lo (vaN a), hi (vaN a)]
  | (0, a, w, u) => [42, lo (vaN w), hi (vaN w), 237, 91, lo (vaN u), hi (vaN u), 183, 237, 90, 234, 64, 0, 34, lo (vaN a), hi (vaN a)]
  | (1, a, w, c) => [42, lo (vaN w), hi (vaN w), 17, lo c, hi c, 183, 237, 82, 234, 64, 0, 34, lo (vaN a), hi (vaN a)]
  | (2, a, w, u) => [42, lo (vaN w), hi (vaN w), 237, 91, lo (vaN u), hi (vaN u), 205, 109, 0, 34, lo (vaN a), hi (vaN a)]
  | (3, a, w, c) => [42, lo (vaN w), hi (vaN w), 17, lo c, hi c, 205, 118, 0, 34, lo (vaN a), hi (vaN a)]
  | (4, a, w, c) => [42, lo (vaN w), hi (vaN w), 17, lo c, hi c, 205, 121, 0, 34, lo (vaN a), hi (vaN a)]
  | _ => []
def stp (pl : Nat) : List Nat := [33, lo pl, hi pl, 207]
def condL (w u t : Nat) : List Nat := [42, lo (vaN w), hi (vaN w), 237, 91, lo (vaN u), hi (vaN u), 205, 103, 0, 210, lo t, hi t]
def condG (w u t : Nat) : List Nat := [42, lo (vaN w), hi (vaN w), 237, 91, lo (vaN u), hi (vaN u), 235, 205, 103, 0, 210, lo t, hi t]
def forA (a w c t : Nat) : List Nat := (42 :: lo (vaN w) :: hi (vaN w) :: 229 :: 33 :: lo c :: hi c :: 221 :: 117 :: 252 :: 221 :: 116 :: 253 :: 225 :: 34 :: lo (vaN a) :: hi (vaN a) :: 42 :: lo (vaN a) :: hi (vaN a) :: 221 :: 94 :: 252 :: 221 :: 86 :: 253 :: 235 :: 205 :: 103 :: 0 :: 218 :: lo t :: hi t :: [])
def forB (a t : Nat) : List Nat := (42 :: lo (vaN a) :: hi (vaN a) :: 221 :: 94 :: 252 :: 221 :: 86 :: 253 :: 205 :: 208 :: 0 :: 1 :: 3 :: 0 :: 218 :: lo t :: hi t :: 34 :: lo (vaN a) :: hi (vaN a) :: [])
/-- the code of a command at h, its place, the place of the statement within -/
def Cmd.code (h pl pi : Nat) (c : Cmd) : List Nat := match c with
  | (1, _, _, _, s) => stp pl ++ s.code
  | (4, a, c, _, _) => stp pl ++ [42, lo (vaN a), hi (vaN a), 229, 33, lo c, hi c, 229, 209, 225, 205, 175, 0]
  | (2, w, u, _, s) => stp pl ++ (condL w u (h + 21 + s.code.length) ++ (stp pi ++ s.code))
  | (6, w, u, _, s) => stp pl ++ (condG w u (h + 25 + s.code.length) ++ ((stp pi ++ s.code) ++ [195, lo h, hi h]))
  | (5, w, u, _, s) => stp pl ++ ((stp pi ++ s.code) ++ condL w u h)
  | (3, a, w, c, s) => stp pl ++ (forA a w c (h + 69 + s.code.length) ++ ((stp pi ++ s.code) ++ (forB a (h + 69 + s.code.length) ++ (stp pl ++ [195, lo (h + 37), hi (h + 37)]))))
  | _ => []
def sbs (l : List Nat) : List Int32 := l.map (fun b => sb (Int32.ofNat b))
theorem sbs_app {l l2 : List Nat} : sbs (l ++ l2) = sbs l ++ sbs l2 := List.map_append
theorem sbs_len {l : List Nat} : (sbs l).length = l.length := List.length_map _
theorem sb_lo {x : Nat} : sb (Int32.ofNat (x % 256)) = sb (Int32.ofNat x) := by
  have : (Int32.ofNat (x % 256)).toInt8 = (Int32.ofNat x).toInt8 := by
    apply Int8.toBitVec_inj.mp
    rw [Int32.toBitVec_toInt8, Int32.toBitVec_toInt8]
    apply BitVec.eq_of_toNat_eq
    have h : ∀ y : Nat, ((Int32.ofNat y).toBitVec.signExtend 8).toNat = y % 256 := by
      intro y
      rw [BitVec.signExtend_eq_setWidth_of_le _ (by decide), BitVec.toNat_setWidth]
      show (BitVec.ofInt 32 y).toNat % 2 ^ 8 = y % 256
      simp
    rw [h, h]
    omega
  unfold sb
  rw [this]
theorem sb_hi {x : Nat} (h : x < 65536) : sb (Int32.ofNat (x / 256)) = sb (Int32.ofNat x >>> 8) := by
  have : Int32.ofNat (x / 256) = Int32.ofNat x >>> 8 := by
    apply Int32.toBitVec_inj.mp
    have e : (Int32.ofNat x).toBitVec.toNat = x := by
      show (BitVec.ofInt 32 x).toNat = x
      simp; omega
    have e2 : (Int32.ofNat (x / 256)).toBitVec.toNat = x / 256 := by
      show (BitVec.ofInt 32 (x / 256 : Nat)).toNat = x / 256
      simp; omega
    apply BitVec.eq_of_toNat_eq
    show (Int32.ofNat (x / 256)).toBitVec.toNat = ((Int32.ofNat x).toBitVec.sshiftRight 8).toNat
    rw [e2, BitVec.sshiftRight_eq_of_msb_false (by rw [BitVec.msb_eq_false_iff_two_mul_lt]; omega), BitVec.toNat_ushiftRight, e, Nat.shiftRight_eq_div_pow]
  rw [this]
theorem St.code_le (s : St) : s.code.length ≤ 40 := by unfold St.code; split <;> simp
theorem St.toks_le (s : St) : s.toks.length ≤ 10 := by unfold St.toks; split <;> simp
theorem vaN_lt {j : Nat} (h : j < 4) : vaN j < 65536 := by unfold vaN; omega
theorem st_ok_set {g : Nat → Nat → Value} {s0 : Nat} {tk : Nat → Int32} {tp : Nat → Int32} {tf : Nat → Int64} {ts : Nat → Int64} {n : Nat} {item : Nat} {hid : Nat} {im : Nat} {pa : Nat} {here : Nat} {cd : Nat → Int32} {it : Nat → Nat → Value} {ni : Nat} {pl : Nat} {w u : Nat} (hT : TA tk tf ts n (St.set w u).toks) (hF : Fq (tk (n + (St.set w u).toks.length))) (hok : (St.set w u).ok) (hn : n < 1500) (ht : tp n = Int32.ofNat pl) (hpl : pl < 65536) (h2 : 2 ≤ ni) (h20 : ni ≤ 20) (hh : here + 200 < 65536) : ∃ im2 pa2 it2 ni2, im2 ≤ 8 ∧ im2 ≤ ni2 ∧ 2 ≤ ni2 ∧ ni2 ≤ 20 ∧ ∀ d : Nat, am_M (d + 21) 162 [.ref 6945767432] (HQ g s0 tk tp tf ts n item hid im pa here cd it ni) = some (none, HQ g s0 tk tp tf ts (n + (St.set w u).toks.length) pl hid im2 pa2 (here + (sbs (stp pl ++ (St.set w u).code)).length) (lay cd here (sbs (stp pl ++ (St.set w u).code))) it2 ni2) := by
  obtain ⟨⟨k0, f0, g0⟩, k1, ⟨k2, f2, g2⟩, k3, ⟨k4, c4⟩, k5, k6, ⟨k7, f7, g7⟩, -⟩ := hT
  obtain ⟨-, o0, o1⟩ := hok
  refine ⟨6, (here + 26), (up (up (up (up (up (up it 0 (itm 1 59400 0 0 (.ref 125896228880) (.ref 125913006097) .null)) 1 (itm 8 (va w) 0 0 (.ref 124889595920) (.ref (sva w)) .null)) 2 (itm 4 (Int32.ofNat 4) 0 0 (.ref 124956704784) .null .null)) 3 (itm 4 0 0 1 (.ref 124889595920) .null .null)) 4 (itm 3 0 0 2 (.ref 124889595920) .null .null)) 5 (itm 4 (va u) 0 0 (.ref 124889595920) (.ref (sva u)) .null)), (max ni 6), ?_, ?_, ?_, ?_, fun d => (se_st_set (d := d) (g := g) (s0 := s0) (item := item) (hid := hid) (im := im) (pa := pa) (here := here) (cd := cd) (it := it) (ni := ni) (pl := pl) (k0 := k0) (f0 := f0) (g0 := g0) (k1 := k1) (k2 := k2) (f2 := f2) (g2 := g2) (k3 := k3) (k4 := k4) (c4 := c4) (k5 := k5) (k6 := k6) (k7 := k7) (f7 := f7) (g7 := g7) (j2 := o0) (l4 := by decide) (j7 := o1) (hF := hF) (h2 := h2) (h20 := h20) (hh := hh) (hn := hn) (ht := ht) (j := w) (k := 4) (u := u)).trans ?_⟩
  · omega
  · omega
  · omega
  · omega
  simp only [St.code, St.add, St.sub, St.mul, St.div, St.mod, St.set, St.get, St.con, stp, List.cons_append, List.nil_append, sbs, List.map_cons, List.map_nil, List.length_cons, List.length_nil, lay, sb_lo, sb_hi hpl, sb_hi (vaN_lt o0), sb_hi (vaN_lt o1)]
  rfl
theorem st_ok_get {g : Nat → Nat → Value} {s0 : Nat} {tk : Nat → Int32} {tp : Nat → Int32} {tf : Nat → Int64} {ts : Nat → Int64} {n : Nat} {item : Nat} {hid : Nat} {im : Nat} {pa : Nat} {here : Nat} {cd : Nat → Int32} {it : Nat → Nat → Value} {ni : Nat} {pl : Nat} {a w : Nat} (hT : TA tk tf ts n (St.get a w).toks) (hF : Fq (tk (n + (St.get a w).toks.length))) (hok : (St.get a w).ok) (hn : n < 1500) (ht : tp n = Int32.ofNat pl) (hpl : pl < 65536) (h2 : 2 ≤ ni) (h20 : ni ≤ 20) (hh : here + 200 < 65536) : ∃ im2 pa2 it2 ni2, im2 ≤ 8 ∧ im2 ≤ ni2 ∧ 2 ≤ ni2 ∧ ni2 ≤ 20 ∧ ∀ d : Nat, am_M (d + 21) 162 [.ref 6945767432] (HQ g s0 tk tp tf ts n item hid im pa here cd it ni) = some (none, HQ g s0 tk tp tf ts (n + (St.get a w).toks.length) pl hid im2 pa2 (here + (sbs (stp pl ++ (St.get a w).code)).length) (lay cd here (sbs (stp pl ++ (St.get a w).code))) it2 ni2) := by
  obtain ⟨⟨k0, f0, g0⟩, k1, ⟨k2, f2, g2⟩, k3, ⟨k4, f4, g4⟩, k5, -⟩ := hT
  obtain ⟨-, o0, o1⟩ := hok
  refine ⟨4, pa, (up (up (up (up it 0 (itm 1 (va a) 0 0 (.ref 124889595920) (.ref (sva a)) .null)) 1 (itm 1 59400 0 0 (.ref 125896228880) (.ref 125913006097) .null)) 2 (itm 4 (va w) 0 0 (.ref 124889595920) (.ref (sva w)) .null)) 3 (itm 4 0 0 1 (.ref 124889595920) .null .null)), (max ni 4), ?_, ?_, ?_, ?_, fun d => (se_st_get (d := d) (g := g) (s0 := s0) (item := item) (hid := hid) (im := im) (pa := pa) (here := here) (cd := cd) (it := it) (ni := ni) (pl := pl) (k0 := k0) (f0 := f0) (g0 := g0) (k1 := k1) (k2 := k2) (f2 := f2) (g2 := g2) (k3 := k3) (k4 := k4) (f4 := f4) (g4 := g4) (k5 := k5) (ja := o0) (j4 := o1) (hF := hF) (h2 := h2) (h20 := h20) (hh := hh) (hn := hn) (ht := ht) (a := a) (k := w)).trans ?_⟩
  · omega
  · omega
  · omega
  · omega
  simp only [St.code, St.add, St.sub, St.mul, St.div, St.mod, St.set, St.get, St.con, stp, List.cons_append, List.nil_append, sbs, List.map_cons, List.map_nil, List.length_cons, List.length_nil, lay, sb_lo, sb_hi hpl, sb_hi (vaN_lt o0), sb_hi (vaN_lt o1)]
  rfl
theorem st_ok_con {g : Nat → Nat → Value} {s0 : Nat} {tk : Nat → Int32} {tp : Nat → Int32} {tf : Nat → Int64} {ts : Nat → Int64} {n : Nat} {item : Nat} {hid : Nat} {im : Nat} {pa : Nat} {here : Nat} {cd : Nat → Int32} {it : Nat → Nat → Value} {ni : Nat} {pl : Nat} {a c : Nat} (hT : TA tk tf ts n (St.con a c).toks) (hF : Fq (tk (n + (St.con a c).toks.length))) (hok : (St.con a c).ok) (hn : n < 1500) (ht : tp n = Int32.ofNat pl) (hpl : pl < 65536) (h2 : 2 ≤ ni) (h20 : ni ≤ 20) (hh : here + 200 < 65536) : ∃ im2 pa2 it2 ni2, im2 ≤ 8 ∧ im2 ≤ ni2 ∧ 2 ≤ ni2 ∧ ni2 ≤ 20 ∧ ∀ d : Nat, am_M (d + 21) 162 [.ref 6945767432] (HQ g s0 tk tp tf ts n item hid im pa here cd it ni) = some (none, HQ g s0 tk tp tf ts (n + (St.con a c).toks.length) pl hid im2 pa2 (here + (sbs (stp pl ++ (St.con a c).code)).length) (lay cd here (sbs (stp pl ++ (St.con a c).code))) it2 ni2) := by
  obtain ⟨⟨k0, f0, g0⟩, k1, ⟨k2, c2⟩, -⟩ := hT
  obtain ⟨-, o0, o1⟩ := hok
  refine ⟨2, pa, (up (up it 0 (itm 1 (va a) 0 0 (.ref 124889595920) (.ref (sva a)) .null)) 1 (itm 4 (Int32.ofNat c) 0 0 (.ref 124956704784) .null .null)), (max ni 2), ?_, ?_, ?_, ?_, fun d => (se_st_con (d := d) (g := g) (s0 := s0) (item := item) (hid := hid) (im := im) (pa := pa) (here := here) (cd := cd) (it := it) (ni := ni) (pl := pl) (k0 := k0) (f0 := f0) (g0 := g0) (k1 := k1) (k2 := k2) (c2 := c2) (ja := o0) (l2 := o1) (hF := hF) (h2 := h2) (h20 := h20) (hh := hh) (hn := hn) (ht := ht) (a := a) (k := c)).trans ?_⟩
  · omega
  · omega
  · omega
  · omega
  simp only [St.code, St.add, St.sub, St.mul, St.div, St.mod, St.set, St.get, St.con, stp, List.cons_append, List.nil_append, sbs, List.map_cons, List.map_nil, List.length_cons, List.length_nil, lay, sb_lo, sb_hi hpl, sb_hi (vaN_lt o0), sb_hi (show c < 65536 by omega)]
  rfl
theorem st_ok_add {g : Nat → Nat → Value} {s0 : Nat} {tk : Nat → Int32} {tp : Nat → Int32} {tf : Nat → Int64} {ts : Nat → Int64} {n : Nat} {item : Nat} {hid : Nat} {im : Nat} {pa : Nat} {here : Nat} {cd : Nat → Int32} {it : Nat → Nat → Value} {ni : Nat} {pl : Nat} {a w u : Nat} (hT : TA tk tf ts n (St.add a w u).toks) (hF : Fq (tk (n + (St.add a w u).toks.length))) (hok : (St.add a w u).ok) (hn : n < 1500) (ht : tp n = Int32.ofNat pl) (hpl : pl < 65536) (h2 : 2 ≤ ni) (h20 : ni ≤ 20) (hh : here + 200 < 65536) : ∃ im2 pa2 it2 ni2, im2 ≤ 8 ∧ im2 ≤ ni2 ∧ 2 ≤ ni2 ∧ ni2 ≤ 20 ∧ ∀ d : Nat, am_M (d + 21) 162 [.ref 6945767432] (HQ g s0 tk tp tf ts n item hid im pa here cd it ni) = some (none, HQ g s0 tk tp tf ts (n + (St.add a w u).toks.length) pl hid im2 pa2 (here + (sbs (stp pl ++ (St.add a w u).code)).length) (lay cd here (sbs (stp pl ++ (St.add a w u).code))) it2 ni2) := by
  obtain ⟨⟨k0, f0, g0⟩, k1, ⟨k2, f2, g2⟩, k3, ⟨k4, f4, g4⟩, -⟩ := hT
  obtain ⟨o0, o1, o2⟩ := hok
  refine ⟨4, (here + 8), (up (up (up (up it 0 (itm 1 (va a) 0 0 (.ref 124889595920) (.ref (sva a)) .null)) 1 (itm 8 (va w) 0 0 (.ref 124889595920) (.ref (sva w)) .null)) 2 (itm 4 (va u) 0 0 (.ref 124889595920) (.ref (sva u)) .null)) 3 (itm 4 0 0 1 (.ref 124889595920) .null .null)), (max ni 4), ?_, ?_, ?_, ?_, fun d => (se_st_add (d := d) (g := g) (s0 := s0) (item := item) (hid := hid) (im := im) (pa := pa) (here := here) (cd := cd) (it := it) (ni := ni) (pl := pl) (k0 := k0) (f0 := f0) (g0 := g0) (k1 := k1) (k2 := k2) (f2 := f2) (g2 := g2) (k3 := k3) (k4 := k4) (f4 := f4) (g4 := g4) (ja := o0) (j2 := o1) (j4 := o2) (hF := hF) (h2 := h2) (h20 := h20) (hh := hh) (hn := hn) (ht := ht) (a := a) (j := w) (k := u)).trans ?_⟩
  · omega
  · omega
  · omega
  · omega
  simp only [St.code, St.add, St.sub, St.mul, St.div, St.mod, St.set, St.get, St.con, stp, List.cons_append, List.nil_append, sbs, List.map_cons, List.map_nil, List.length_cons, List.length_nil, lay, sb_lo, sb_hi hpl, sb_hi (vaN_lt o0), sb_hi (vaN_lt o1), sb_hi (vaN_lt o2)]
  rfl
theorem st_ok_sub {g : Nat → Nat → Value} {s0 : Nat} {tk : Nat → Int32} {tp : Nat → Int32} {tf : Nat → Int64} {ts : Nat → Int64} {n : Nat} {item : Nat} {hid : Nat} {im : Nat} {pa : Nat} {here : Nat} {cd : Nat → Int32} {it : Nat → Nat → Value} {ni : Nat} {pl : Nat} {a w c : Nat} (hT : TA tk tf ts n (St.sub a w c).toks) (hF : Fq (tk (n + (St.sub a w c).toks.length))) (hok : (St.sub a w c).ok) (hn : n < 1500) (ht : tp n = Int32.ofNat pl) (hpl : pl < 65536) (h2 : 2 ≤ ni) (h20 : ni ≤ 20) (hh : here + 200 < 65536) : ∃ im2 pa2 it2 ni2, im2 ≤ 8 ∧ im2 ≤ ni2 ∧ 2 ≤ ni2 ∧ ni2 ≤ 20 ∧ ∀ d : Nat, am_M (d + 21) 162 [.ref 6945767432] (HQ g s0 tk tp tf ts n item hid im pa here cd it ni) = some (none, HQ g s0 tk tp tf ts (n + (St.sub a w c).toks.length) pl hid im2 pa2 (here + (sbs (stp pl ++ (St.sub a w c).code)).length) (lay cd here (sbs (stp pl ++ (St.sub a w c).code))) it2 ni2) := by
  obtain ⟨⟨k0, f0, g0⟩, k1, ⟨k2, f2, g2⟩, k3, ⟨k4, c4⟩, -⟩ := hT
  obtain ⟨o0, o1, o2⟩ := hok
  refine ⟨4, (here + 8), (up (up (up (up it 0 (itm 1 (va a) 0 0 (.ref 124889595920) (.ref (sva a)) .null)) 1 (itm 8 (va w) 0 0 (.ref 124889595920) (.ref (sva w)) .null)) 2 (itm 4 (Int32.ofNat c) 0 0 (.ref 124956704784) .null .null)) 3 (itm 4 0 0 1 (.ref 124889595920) .null .null)), (max ni 4), ?_, ?_, ?_, ?_, fun d => (se_st_sub (d := d) (g := g) (s0 := s0) (item := item) (hid := hid) (im := im) (pa := pa) (here := here) (cd := cd) (it := it) (ni := ni) (pl := pl) (k0 := k0) (f0 := f0) (g0 := g0) (k1 := k1) (k2 := k2) (f2 := f2) (g2 := g2) (k3 := k3) (k4 := k4) (c4 := c4) (ja := o0) (j2 := o1) (l4 := o2) (hF := hF) (h2 := h2) (h20 := h20) (hh := hh) (hn := hn) (ht := ht) (a := a) (j := w) (k := c)).trans ?_⟩
  · omega
  · omega
  · omega
  · omega
  simp only [St.code, St.add, St.sub, St.mul, St.div, St.mod, St.set, St.get, St.con, stp, List.cons_append, List.nil_append, sbs, List.map_cons, List.map_nil, List.length_cons, List.length_nil, lay, sb_lo, sb_hi hpl, sb_hi (vaN_lt o0), sb_hi (vaN_lt o1), sb_hi (show c < 65536 by omega)]
  rfl
theorem st_ok_mul {g : Nat → Nat → Value} {s0 : Nat} {tk : Nat → Int32} {tp : Nat → Int32} {tf : Nat → Int64} {ts : Nat → Int64} {n : Nat} {item : Nat} {hid : Nat} {im : Nat} {pa : Nat} {here : Nat} {cd : Nat → Int32} {it : Nat → Nat → Value} {ni : Nat} {pl : Nat} {a w u : Nat} (hT : TA tk tf ts n (St.mul a w u).toks) (hF : Fq (tk (n + (St.mul a w u).toks.length))) (hok : (St.mul a w u).ok) (hn : n < 1500) (ht : tp n = Int32.ofNat pl) (hpl : pl < 65536) (h2 : 2 ≤ ni) (h20 : ni ≤ 20) (hh : here + 200 < 65536) : ∃ im2 pa2 it2 ni2, im2 ≤ 8 ∧ im2 ≤ ni2 ∧ 2 ≤ ni2 ∧ ni2 ≤ 20 ∧ ∀ d : Nat, am_M (d + 21) 162 [.ref 6945767432] (HQ g s0 tk tp tf ts n item hid im pa here cd it ni) = some (none, HQ g s0 tk tp tf ts (n + (St.mul a w u).toks.length) pl hid im2 pa2 (here + (sbs (stp pl ++ (St.mul a w u).code)).length) (lay cd here (sbs (stp pl ++ (St.mul a w u).code))) it2 ni2) := by
  obtain ⟨⟨k0, f0, g0⟩, k1, ⟨k2, f2, g2⟩, k3, ⟨k4, f4, g4⟩, -⟩ := hT
  obtain ⟨o0, o1, o2⟩ := hok
  refine ⟨4, (here + 8), (up (up (up (up it 0 (itm 1 (va a) 0 0 (.ref 124889595920) (.ref (sva a)) .null)) 1 (itm 8 (va w) 0 0 (.ref 124889595920) (.ref (sva w)) .null)) 2 (itm 4 (va u) 0 0 (.ref 124889595920) (.ref (sva u)) .null)) 3 (itm 4 0 0 1 (.ref 124889595920) .null .null)), (max ni 4), ?_, ?_, ?_, ?_, fun d => (se_st_mul (d := d) (g := g) (s0 := s0) (item := item) (hid := hid) (im := im) (pa := pa) (here := here) (cd := cd) (it := it) (ni := ni) (pl := pl) (k0 := k0) (f0 := f0) (g0 := g0) (k1 := k1) (k2 := k2) (f2 := f2) (g2 := g2) (k3 := k3) (k4 := k4) (f4 := f4) (g4 := g4) (ja := o0) (j2 := o1) (j4 := o2) (hF := hF) (h2 := h2) (h20 := h20) (hh := hh) (hn := hn) (ht := ht) (a := a) (j := w) (k := u)).trans ?_⟩
  · omega
  · omega
  · omega
  · omega
  simp only [St.code, St.add, St.sub, St.mul, St.div, St.mod, St.set, St.get, St.con, stp, List.cons_append, List.nil_append, sbs, List.map_cons, List.map_nil, List.length_cons, List.length_nil, lay, sb_lo, sb_hi hpl, sb_hi (vaN_lt o0), sb_hi (vaN_lt o1), sb_hi (vaN_lt o2)]
  rfl
theorem st_ok_div {g : Nat → Nat → Value} {s0 : Nat} {tk : Nat → Int32} {tp : Nat → Int32} {tf : Nat → Int64} {ts : Nat → Int64} {n : Nat} {item : Nat} {hid : Nat} {im : Nat} {pa : Nat} {here : Nat} {cd : Nat → Int32} {it : Nat → Nat → Value} {ni : Nat} {pl : Nat} {a w c : Nat} (hT : TA tk tf ts n (St.div a w c).toks) (hF : Fq (tk (n + (St.div a w c).toks.length))) (hok : (St.div a w c).ok) (hn : n < 1500) (ht : tp n = Int32.ofNat pl) (hpl : pl < 65536) (h2 : 2 ≤ ni) (h20 : ni ≤ 20) (hh : here + 200 < 65536) : ∃ im2 pa2 it2 ni2, im2 ≤ 8 ∧ im2 ≤ ni2 ∧ 2 ≤ ni2 ∧ ni2 ≤ 20 ∧ ∀ d : Nat, am_M (d + 21) 162 [.ref 6945767432] (HQ g s0 tk tp tf ts n item hid im pa here cd it ni) = some (none, HQ g s0 tk tp tf ts (n + (St.div a w c).toks.length) pl hid im2 pa2 (here + (sbs (stp pl ++ (St.div a w c).code)).length) (lay cd here (sbs (stp pl ++ (St.div a w c).code))) it2 ni2) := by
  obtain ⟨⟨k0, f0, g0⟩, k1, ⟨k2, f2, g2⟩, k3, ⟨k4, c4⟩, -⟩ := hT
  obtain ⟨o0, o1, o3, o2⟩ := hok
  refine ⟨4, (here + 8), (up (up (up (up it 0 (itm 1 (va a) 0 0 (.ref 124889595920) (.ref (sva a)) .null)) 1 (itm 8 (va w) 0 0 (.ref 124889595920) (.ref (sva w)) .null)) 2 (itm 4 (Int32.ofNat c) 0 0 (.ref 124956704784) .null .null)) 3 (itm 4 0 0 1 (.ref 124889595920) .null .null)), (max ni 4), ?_, ?_, ?_, ?_, fun d => (se_st_div (d := d) (g := g) (s0 := s0) (item := item) (hid := hid) (im := im) (pa := pa) (here := here) (cd := cd) (it := it) (ni := ni) (pl := pl) (k0 := k0) (f0 := f0) (g0 := g0) (k1 := k1) (k2 := k2) (f2 := f2) (g2 := g2) (k3 := k3) (k4 := k4) (c4 := c4) (ja := o0) (j2 := o1) (l4 := o2) (hF := hF) (h2 := h2) (h20 := h20) (hh := hh) (hn := hn) (ht := ht) (a := a) (j := w) (k := c)).trans ?_⟩
  · omega
  · omega
  · omega
  · omega
  simp only [St.code, St.add, St.sub, St.mul, St.div, St.mod, St.set, St.get, St.con, stp, List.cons_append, List.nil_append, sbs, List.map_cons, List.map_nil, List.length_cons, List.length_nil, lay, sb_lo, sb_hi hpl, sb_hi (vaN_lt o0), sb_hi (vaN_lt o1), sb_hi (show c < 65536 by omega)]
  rfl
theorem st_ok_mod {g : Nat → Nat → Value} {s0 : Nat} {tk : Nat → Int32} {tp : Nat → Int32} {tf : Nat → Int64} {ts : Nat → Int64} {n : Nat} {item : Nat} {hid : Nat} {im : Nat} {pa : Nat} {here : Nat} {cd : Nat → Int32} {it : Nat → Nat → Value} {ni : Nat} {pl : Nat} {a w c : Nat} (hT : TA tk tf ts n (St.mod a w c).toks) (hF : Fq (tk (n + (St.mod a w c).toks.length))) (hok : (St.mod a w c).ok) (hn : n < 1500) (ht : tp n = Int32.ofNat pl) (hpl : pl < 65536) (h2 : 2 ≤ ni) (h20 : ni ≤ 20) (hh : here + 200 < 65536) : ∃ im2 pa2 it2 ni2, im2 ≤ 8 ∧ im2 ≤ ni2 ∧ 2 ≤ ni2 ∧ ni2 ≤ 20 ∧ ∀ d : Nat, am_M (d + 21) 162 [.ref 6945767432] (HQ g s0 tk tp tf ts n item hid im pa here cd it ni) = some (none, HQ g s0 tk tp tf ts (n + (St.mod a w c).toks.length) pl hid im2 pa2 (here + (sbs (stp pl ++ (St.mod a w c).code)).length) (lay cd here (sbs (stp pl ++ (St.mod a w c).code))) it2 ni2) := by
  obtain ⟨⟨k0, f0, g0⟩, k1, ⟨k2, f2, g2⟩, k3, ⟨k4, c4⟩, -⟩ := hT
  obtain ⟨o0, o1, o3, o2⟩ := hok
  refine ⟨4, (here + 8), (up (up (up (up it 0 (itm 1 (va a) 0 0 (.ref 124889595920) (.ref (sva a)) .null)) 1 (itm 8 (va w) 0 0 (.ref 124889595920) (.ref (sva w)) .null)) 2 (itm 4 (Int32.ofNat c) 0 0 (.ref 124956704784) .null .null)) 3 (itm 4 0 0 1 (.ref 124889595920) .null .null)), (max ni 4), ?_, ?_, ?_, ?_, fun d => (se_st_mod (d := d) (g := g) (s0 := s0) (item := item) (hid := hid) (im := im) (pa := pa) (here := here) (cd := cd) (it := it) (ni := ni) (pl := pl) (k0 := k0) (f0 := f0) (g0 := g0) (k1 := k1) (k2 := k2) (f2 := f2) (g2 := g2) (k3 := k3) (k4 := k4) (c4 := c4) (ja := o0) (j2 := o1) (l4 := o2) (hF := hF) (h2 := h2) (h20 := h20) (hh := hh) (hn := hn) (ht := ht) (a := a) (j := w) (k := c)).trans ?_⟩
  · omega
  · omega
  · omega
  · omega
  simp only [St.code, St.add, St.sub, St.mul, St.div, St.mod, St.set, St.get, St.con, stp, List.cons_append, List.nil_append, sbs, List.map_cons, List.map_nil, List.length_cons, List.length_nil, lay, sb_lo, sb_hi hpl, sb_hi (vaN_lt o0), sb_hi (vaN_lt o1), sb_hi (show c < 65536 by omega)]
  rfl
theorem st_ok {g : Nat → Nat → Value} {s0 : Nat} {tk : Nat → Int32} {tp : Nat → Int32} {tf : Nat → Int64} {ts : Nat → Int64} {n : Nat} {item : Nat} {hid : Nat} {im : Nat} {pa : Nat} {here : Nat} {cd : Nat → Int32} {it : Nat → Nat → Value} {ni : Nat} {pl : Nat} {s : St} (hT : TA tk tf ts n s.toks) (hF : Fq (tk (n + s.toks.length))) (hok : s.ok) (hn : n < 1500) (ht : tp n = Int32.ofNat pl) (hpl : pl < 65536) (h2 : 2 ≤ ni) (h20 : ni ≤ 20) (hh : here + 200 < 65536) : ∃ im2 pa2 it2 ni2, im2 ≤ 8 ∧ im2 ≤ ni2 ∧ 2 ≤ ni2 ∧ ni2 ≤ 20 ∧ ∀ d : Nat, am_M (d + 21) 162 [.ref 6945767432] (HQ g s0 tk tp tf ts n item hid im pa here cd it ni) = some (none, HQ g s0 tk tp tf ts (n + s.toks.length) pl hid im2 pa2 (here + (sbs (stp pl ++ s.code)).length) (lay cd here (sbs (stp pl ++ s.code))) it2 ni2) := by
  have H : ∀ (hT : TA tk tf ts n s.toks) (hF : Fq (tk (n + s.toks.length))) (hn : n < 1500) (ht : tp n = Int32.ofNat pl) (hpl : pl < 65536) (h2 : 2 ≤ ni) (h20 : ni ≤ 20) (hh : here + 200 < 65536), ∃ im2 pa2 it2 ni2, im2 ≤ 8 ∧ im2 ≤ ni2 ∧ 2 ≤ ni2 ∧ ni2 ≤ 20 ∧ ∀ d : Nat, am_M (d + 21) 162 [.ref 6945767432] (HQ g s0 tk tp tf ts n item hid im pa here cd it ni) = some (none, HQ g s0 tk tp tf ts (n + s.toks.length) pl hid im2 pa2 (here + (sbs (stp pl ++ s.code)).length) (lay cd here (sbs (stp pl ++ s.code))) it2 ni2) := by
    refine St.all (p := fun s => ∀ (hT : TA tk tf ts n s.toks) (hF : Fq (tk (n + s.toks.length))) (hn : n < 1500) (ht : tp n = Int32.ofNat pl) (hpl : pl < 65536) (h2 : 2 ≤ ni) (h20 : ni ≤ 20) (hh : here + 200 < 65536), ∃ im2 pa2 it2 ni2, im2 ≤ 8 ∧ im2 ≤ ni2 ∧ 2 ≤ ni2 ∧ ni2 ≤ 20 ∧ ∀ d : Nat, am_M (d + 21) 162 [.ref 6945767432] (HQ g s0 tk tp tf ts n item hid im pa here cd it ni) = some (none, HQ g s0 tk tp tf ts (n + s.toks.length) pl hid im2 pa2 (here + (sbs (stp pl ++ s.code)).length) (lay cd here (sbs (stp pl ++ s.code))) it2 ni2)) ?_ ?_ ?_ ?_ ?_ ?_ ?_ ?_ hok
    · intro a w u ok hT hF hn ht hpl h2 h20 hh; exact st_ok_add hT hF ok hn ht hpl h2 h20 hh
    · intro a w c ok hT hF hn ht hpl h2 h20 hh; exact st_ok_sub hT hF ok hn ht hpl h2 h20 hh
    · intro a w u ok hT hF hn ht hpl h2 h20 hh; exact st_ok_mul hT hF ok hn ht hpl h2 h20 hh
    · intro a w c ok hT hF hn ht hpl h2 h20 hh; exact st_ok_div hT hF ok hn ht hpl h2 h20 hh
    · intro a w c ok hT hF hn ht hpl h2 h20 hh; exact st_ok_mod hT hF ok hn ht hpl h2 h20 hh
    · intro w u ok hT hF hn ht hpl h2 h20 hh; exact st_ok_set hT hF ok hn ht hpl h2 h20 hh
    · intro a w ok hT hF hn ht hpl h2 h20 hh; exact st_ok_get hT hF ok hn ht hpl h2 h20 hh
    · intro a c ok hT hF hn ht hpl h2 h20 hh; exact st_ok_con hT hF ok hn ht hpl h2 h20 hh
  exact H hT hF hn ht hpl h2 h20 hh
theorem up4 {f : Nat → Int32} {i j : Nat} {x y p q : Int32} (h : i ≠ j) : up (up (up (up f i x) j y) i p) j q = up (up f i p) j q := by
  rw [up_sw (f := up f i x) (Ne.symm h), up_up, up_up]
theorem sbs_cons {b : Nat} {l : List Nat} : sbs (b :: l) = sb (Int32.ofNat b) :: sbs l := rfl
theorem sbs_nil : sbs [] = [] := rfl
theorem lay_c {cd : Nat → Int32} {h : Nat} {b : Int32} {l : List Int32} : lay cd h (b :: l) = lay (up cd h b) (h + 1) l := rfl
theorem lay_n {cd : Nat → Int32} {h : Nat} : lay cd h [] = cd := rfl
theorem cm_ok_iff {g : Nat → Nat → Value} {s0 : Nat} {tk : Nat → Int32} {tp : Nat → Int32} {tf : Nat → Int64} {ts : Nat → Int64} {n : Nat} {item : Nat} {hid : Nat} {im : Nat} {pa : Nat} {here : Nat} {cd : Nat → Int32} {it : Nat → Nat → Value} {ni : Nat} {pl pi : Nat} {w u : Nat} {s : St} (hT : TA tk tf ts n (Cmd.iff w u s).toks) (hF : Fq (tk (n + (Cmd.iff w u s).toks.length))) (hok : (Cmd.iff w u s).ok) (hn : n < 1400) (ht : tp n = Int32.ofNat pl) (hpl : pl < 65536) (hti : tp (n + (Cmd.iff w u s).pre.length) = Int32.ofNat pi) (hpi : pi < 65536) (h2 : 2 ≤ ni) (h20 : ni ≤ 20) (hh : here + 500 < 65536) : ∃ item2 im2 pa2 it2 ni2, 2 ≤ ni2 ∧ ni2 ≤ 20 ∧ ∀ d : Nat, am_M (d + 24) 162 [.ref 6945767432] (HQ g s0 tk tp tf ts n item 2 im pa here cd it ni) = some (none, HQ g s0 tk tp tf ts (n + (Cmd.iff w u s).toks.length) item2 2 im2 pa2 (here + ((Cmd.iff w u s).code here pl pi).length) (lay cd here (sbs ((Cmd.iff w u s).code here pl pi))) it2 ni2) := by
  obtain ⟨-, ow, ou, os⟩ := hok
  have hc : (stp pi ++ s.code).length = s.code.length + 4 := by rw [List.length_append]; show 4 + _ = _; omega
  have hlen := s.code_le
  have htl := s.toks_le
  have hT2 := hT
  unfold Cmd.toks at hT2
  rw [TA_app, TA_app] at hT2
  obtain ⟨⟨k0, ⟨k1, f1, g1⟩, k2, ⟨k3, f3, g3⟩, k4, -⟩, hm, k5, -⟩ := hT2
  have k0 : tk n = 18 := k0
  have hm' : TA tk tf ts (n + 5) s.toks := hm
  have hE : tk (n + 5 + s.toks.length) = 12 := k5
  obtain ⟨im2, pa2, it2, ni2, q1, q2, q3, q4, hS⟩ := st_ok (g := g) (s0 := s0) (tk := tk) (tp := tp) (tf := tf) (ts := ts) (n := (n + 5)) (item := pl) (hid := 2) (im := 3) (pa := (here + 8)) (here := (here + 17)) (cd := (up (up (up (up (up (up (up (up (up (up (up (up (up (up (up (up (up cd here (sb 33)) (here + 1) (sb (Int32.ofNat pl))) (here + 2) (sb (Int32.ofNat pl >>> 8))) (here + 3) (sb 207)) (here + 4) (sb 42)) (here + 5) (sb (va w))) (here + 6) (sb (va w >>> 8))) (here + 7) (sb 237)) (here + 8) (sb 91)) (here + 9) (sb (va u))) (here + 10) (sb (va u >>> 8))) (here + 11) (sb 205)) (here + 12) (sb (64 + 3 * 13 : Int32))) (here + 13) (sb ((64 + 3 * 13 : Int32) >>> 8))) (here + 14) (sb 210)) (here + 15) (sb 0)) (here + 16) (sb ((0 : Int32) >>> 8)))) (it := (up (up (up it 0 (itm 8 (va w) 0 0 (.ref 124889595920) (.ref (sva w)) .null)) 1 (itm 4 (va u) 0 0 (.ref 124889595920) (.ref (sva u)) .null)) 2 (itm 5 3 0 1 (.ref 124939927568) .null .null))) (ni := (max ni 3)) (s := s) (pl := pi) hm' (Or.inr (Or.inl hE)) os (by omega) hti hpi (by omega) (by omega) (by omega)
  have hC := fun d => se_choose (d := d) (L := sbs (stp pi ++ s.code)) (hn := by omega) (h2 := h2) (h20 := h20) (hh := by rw [sbs_len]; omega) (j1 := ow) (f1 := f1) (g1 := g1) (k1 := k1) (k2 := k2) (j3 := ou) (f3 := f3) (g3 := g3) (k3 := k3) (k4 := k4) (k5 := hE) (hS := hS) (here := here + 4) (item := pl) (pl := pl) (ni := ni) (pa := pa) (im := 0) (it := it) (cd := (up (up (up (up cd here (sb 33)) (here + 1) (sb (Int32.ofNat pl))) (here + 2) (sb (Int32.ofNat pl >>> 8))) (here + 3) (sb 207)))
  refine ⟨pi, im2, 0, it2, ni2, q3, q4, fun d => ?_⟩
  · rw [e162]
    simp (disch := (refine id ?_; first | with_reducible exact sva_k | with_reducible exact sva_i | with_reducible exact sva_r | with_reducible exact ITA_k | with_reducible exact ITA_i | with_reducible exact ITA_r | with_unfolding_all exact rfl | assumption | with_reducible exact mx_lt (by omega) | with_reducible exact mx_le (by omega) | with_reducible exact mx_l2 (by assumption) | with_unfolding_all exact Nat.le_of_ble_eq_true rfl | (simp only [am_cat_nil, am_cat_int, am_cat_ref, am_cat_null, am_cat_long, Nat.reduceAdd, Nat.reduceLeDiff]; done) | omega | exact i_nel (by omega) (by omega) (by omega) | exact i_bnd2 (by simp only [am_n, Nat.reduceDiv, Nat.reduceMod, Nat.reduceMul, Nat.reduceAdd]; omega) | exact ITA_k | exact ITA_i | exact ITA_r | (rw [ITA_k]; with_unfolding_all exact rfl) | (simp only [ad2, Nat.reduceAdd]; assumption) | (simp only [ad2, Nat.reduceAdd]; omega) | exact sva_k | exact sva_i | exact sva_r | (rw [sva_k]; with_unfolding_all exact rfl) | fail)) only [z162_0, z162_1, z162_4, z162_5, z162_6, z162_9, z162_10, z162_13, z162_14, z162_15, z162_18_5, z162_18_13, z162_18_15, z162_18_18, z162_18_22, z162_18_32, z162_18_33, z162_18_40, z162_18_41, z162_18_100, z162_18_d, z162_108, z162_109, z162_110, z162_113, z162_114, z162_117, z162_120, z162_121, z162_122, z162_125, z162_126, z162_127, z162_130, z162_133, z162_134, z162_135, z162_138, z162_139, z162_143, z162_146, z162_147, z162_148, z162_151, z162_154, z162_155, z162_156, z162_159, z162_162, z162_163, z162_167, z162_170, z162_171, z162_172, z162_175, z162_176, z162_177, z162_180, z162_183, z162_184, z162_185, z162_188, z162_192, z162_195, z162_196, z162_196I, z162_197, z162_200, z162_201, z162_202, z162_205, z162_206, z162_207, z162_210, z162_213, z162_214, z162_217, z162_218, z162_221, z162_222, z162_223, z162_226, z162_227, z162_228, z162_231, z162_234, z162_235, z162_238, z162_241, z162_244, z162_247, z162_248, z162_248I, z162_249, z162_252, z162_253, z162_254, z162_257, z162_258, z162_259, z162_262, z162_266, z162_269, HQ_r0, HQ_r1, HQ_r2, HQ_r3, HQ_r4, HQ_r5, HQ_r6, HQ_r7, HQ_r8, HQ_r9, HQ_r10, HQ_r11, HQ_r12, HQ_r13, HQ_r14, HQ_r15, HQ_r16, HQ_r17, HQ_r18, HQ_r19, HQ_r20, HQ_r21, HQ_r22, HQ_r23, HQ_r24, HQ_r25, HQ_r26, HQ_r27, HQ_r28, HQ_r29, HQ_r30, HQ_r31, HQ_r32, HQ_r33, HQ_r34, HQ_r35, HQ_r36, HQ_r37, HQ_r38, HQ_r39, HQ_r40, HQ_r41, HQ_r42, HQ_r43, HQ_r44, HQ_r45, HQ_r46, HQ_r47, HQ_r48, HQ_r49, HQ_r50, HQ_r51, HQ_r52, HQ_r53, HQ_r54, HQ_r55, HQ_r56, HQ_r57, HQ_r58, HQ_r59, HQ_r60, HQ_r61, HQ_r62, HQ_r63, HQ_r64, HQ_r65, HQ_r66, HQ_r67, HQ_r68, HQ_r69, HQ_r70, HQ_r71, HQ_r72, HQ_r73, HQ_r74, HQ_r75, HQ_r76, HQ_r77, HQ_r78, HQ_r79, HQ_r80, HQ_r81, HQ_r82, HQ_r83, HQ_r84, HQ_r85, HQ_r86, HQ_r87, HQ_r88, HQ_r89, HQ_r90, HQ_r91, HQ_r92, HQ_r93, HQ_r94, HQ_r95, HQ_r96, HQ_r97, HQ_r98, HQ_r99, HQ_r100, HQ_r101, HQ_r102, HQ_r103, HQ_r104, HQ_r105, HQ_r106, HQ_r107, HQ_r108, HQ_r109, HQ_r110, HQ_r111, HQ_r112, HQ_r113, HQ_r114, HQ_r115, HQ_r116, HQ_r117, HQ_r118, HQ_r119, HQ_r120, HQ_r121, HQ_r122, HQ_r123, HQ_r124, HQ_r125, HQ_r126, HQ_r127, HQ_r128, HQ_r129, HQ_r130, HQ_r131, HQ_r132, HQ_r133, HQ_r134, HQ_r135, HQ_r136, HQ_r137, HQ_r138, HQ_r139, HQ_r140, HQ_r141, HQ_r142, HQ_r143, HQ_r144, HQ_r145, HQ_r146, HQ_r147, HQ_r148, HQ_r149, HQ_r150, HQ_r151, HQ_r152, HQ_r153, HQ_r154, HQ_r155, HQ_r156, HQ_r157, HQ_r158, HQ_r159, HQ_r160, HQ_r161, HQ_r162, HQ_r163, HQ_r164, HQ_r165, HQ_r166, HQ_r167, HQ_r168, HQ_r169, HQ_r170, HQ_r171, HQ_r172, HQ_r173, HQ_r174, HQ_r175, HQ_r176, HQ_r177, HQ_r178, HQ_a0, HQ_a1, HQ_a2, HQ_a3, HQ_a4, HQ_w2, HQ_w3, HQ_w17, HQ_w21, HQ_w22, HQ_w24, HQ_b0, HQ_b1, HQ_b2, HQ_b3, HQ_b4, i_m1, i_m8, i_and16, i8_8, ↓reduceIte, ad2, Nat.reduceAdd, se_item, se_now, HQ_im0, se_step, hC, ht, k0, lg_0, lg_n, i_10, i_00, itm_0, itm_1, itm_2, itm_3, itm_4, itm_5, itm_6, itw_0, itw_1, itw_2, itw_3, itw_4, itw_5, up_s, HQ_ir, HQ_iw, up_up, mx_c, i_eqll, i_lell, i_ltll, Nat.reduceEqDiff, Nat.reduceLeDiff, Nat.reduceLT, am_then_some, am_tl1, am_tl0, i_addl, i_sub1, tn_of, tn_lit]
    have eN : n + (Cmd.iff w u s).toks.length = n + 5 + s.toks.length + 1 := by simp [Cmd.toks, Cmd.pre, Cmd.mid, Cmd.post, Cmd.iff]; omega
    have eL : here + (Cmd.code here pl pi (Cmd.iff w u s)).length = here + 21 + s.code.length := by simp [Cmd.code, Cmd.iff, stp, condL]; omega
    have eT : here + 17 + (sbs (stp pi ++ s.code)).length = here + 21 + s.code.length := by rw [sbs_len, hc]; omega
    have eC : lay cd here (sbs (Cmd.code here pl pi (Cmd.iff w u s))) = lay (lay cd here (sbs (stp pl ++ condL w u (here + 21 + s.code.length)))) (here + 17) (sbs (stp pi ++ s.code)) := by
      show lay cd here (sbs (stp pl ++ (condL w u (here + 21 + s.code.length) ++ (stp pi ++ s.code)))) = _
      rw [← List.append_assoc, sbs_app, ← lay_app, sbs_len]
      rfl
    rw [eN, eL, eC, eT, lay_up (by omega), lay_up (by omega), up4 (by omega)]
    simp only [stp, condL, List.cons_append, List.nil_append, sbs_cons, sbs_nil, lay_c, lay_n, sb_lo, sb_hi hpl, sb_hi (vaN_lt ow), sb_hi (vaN_lt ou), sb_hi (show here + 21 + s.code.length < 65536 by omega)]
    rfl

theorem lay_n3 {f : Nat → Int32} {h : Nat} {b0 b1 b2 : Int32} : up (up (up f h b0) (h + 1) b1) (h + 2) b2 = lay f h [b0, b1, b2] := rfl
theorem lay_n28 {f : Nat → Int32} {h : Nat} {b0 b1 b2 b3 b4 b5 b6 b7 b8 b9 b10 b11 b12 b13 b14 b15 b16 b17 b18 b19 b20 b21 b22 b23 b24 b25 b26 b27 : Int32} : up (up (up (up (up (up (up (up (up (up (up (up (up (up (up (up (up (up (up (up (up (up (up (up (up (up (up (up f h b0) (h + 1) b1) (h + 2) b2) (h + 3) b3) (h + 4) b4) (h + 5) b5) (h + 6) b6) (h + 7) b7) (h + 8) b8) (h + 9) b9) (h + 10) b10) (h + 11) b11) (h + 12) b12) (h + 13) b13) (h + 14) b14) (h + 15) b15) (h + 16) b16) (h + 17) b17) (h + 18) b18) (h + 19) b19) (h + 20) b20) (h + 21) b21) (h + 22) b22) (h + 23) b23) (h + 24) b24) (h + 25) b25) (h + 26) b26) (h + 27) b27 = lay f h [b0, b1, b2, b3, b4, b5, b6, b7, b8, b9, b10, b11, b12, b13, b14, b15, b16, b17, b18, b19, b20, b21, b22, b23, b24, b25, b26, b27] := rfl
theorem cm_ok_whi {g : Nat → Nat → Value} {s0 : Nat} {tk : Nat → Int32} {tp : Nat → Int32} {tf : Nat → Int64} {ts : Nat → Int64} {n : Nat} {item : Nat} {hid : Nat} {im : Nat} {pa : Nat} {here : Nat} {cd : Nat → Int32} {it : Nat → Nat → Value} {ni : Nat} {pl pi : Nat} {w u : Nat} {s : St} (hT : TA tk tf ts n (Cmd.whi w u s).toks) (hF : Fq (tk (n + (Cmd.whi w u s).toks.length))) (hok : (Cmd.whi w u s).ok) (hn : n < 1400) (ht : tp n = Int32.ofNat pl) (hpl : pl < 65536) (hti : tp (n + (Cmd.whi w u s).pre.length) = Int32.ofNat pi) (hpi : pi < 65536) (h2 : 2 ≤ ni) (h20 : ni ≤ 20) (hh : here + 500 < 65536) : ∃ item2 im2 pa2 it2 ni2, 2 ≤ ni2 ∧ ni2 ≤ 20 ∧ ∀ d : Nat, am_M (d + 24) 162 [.ref 6945767432] (HQ g s0 tk tp tf ts n item 2 im pa here cd it ni) = some (none, HQ g s0 tk tp tf ts (n + (Cmd.whi w u s).toks.length) item2 2 im2 pa2 (here + ((Cmd.whi w u s).code here pl pi).length) (lay cd here (sbs ((Cmd.whi w u s).code here pl pi))) it2 ni2) := by
  obtain ⟨-, ow, ou, os⟩ := hok
  have hc : (stp pi ++ s.code).length = s.code.length + 4 := by rw [List.length_append]; show 4 + _ = _; omega
  have hlen := s.code_le
  have htl := s.toks_le
  have hT2 := hT
  unfold Cmd.toks at hT2
  rw [TA_app, TA_app] at hT2
  obtain ⟨⟨k0, ⟨k1, f1, g1⟩, k2, ⟨k3, f3, g3⟩, k4, -⟩, hm, k5, -⟩ := hT2
  have k0 : tk n = 40 := k0
  have hm' : TA tk tf ts (n + 5) s.toks := hm
  have hE : tk (n + 5 + s.toks.length) = 12 := k5
  obtain ⟨im2, pa2, it2, ni2, q1, q2, q3, q4, hS⟩ := st_ok (g := g) (s0 := s0) (tk := tk) (tp := tp) (tf := tf) (ts := ts) (n := (n + 5)) (item := pl) (hid := 2) (im := 3) (pa := (here + 8)) (here := (here + 18)) (cd := (up (up (up (up (up (up (up (up (up (up (up (up (up (up (up (up (up (up cd here (sb 33)) (here + 1) (sb (Int32.ofNat pl))) (here + 2) (sb (Int32.ofNat pl >>> 8))) (here + 3) (sb 207)) (here + 4) (sb 42)) (here + 5) (sb (va w))) (here + 6) (sb (va w >>> 8))) (here + 7) (sb 237)) (here + 8) (sb 91)) (here + 9) (sb (va u))) (here + 10) (sb (va u >>> 8))) (here + 11) (sb 235)) (here + 12) (sb 205)) (here + 13) (sb (64 + 3 * 13 : Int32))) (here + 14) (sb ((64 + 3 * 13 : Int32) >>> 8))) (here + 15) (sb 210)) (here + 16) (sb 0)) (here + 17) (sb ((0 : Int32) >>> 8)))) (it := (up (up (up it 0 (itm 8 (va w) 0 0 (.ref 124889595920) (.ref (sva w)) .null)) 1 (itm 4 (va u) 0 0 (.ref 124889595920) (.ref (sva u)) .null)) 2 (itm 5 3 0 1 (.ref 124939927568) .null .null))) (ni := (max ni 3)) (s := s) (pl := pi) hm' (Or.inr (Or.inl hE)) os (by omega) hti hpi (by omega) (by omega) (by omega)
  have hC := fun d => se_while (d := d) (L := sbs (stp pi ++ s.code)) (hn := by omega) (h2 := h2) (h20 := h20) (hh := by rw [sbs_len]; omega) (j1 := ow) (f1 := f1) (g1 := g1) (k1 := k1) (k2 := k2) (j3 := ou) (f3 := f3) (g3 := g3) (k3 := k3) (k4 := k4) (k5 := hE) (hS := hS) (here := here) (im := 0) (pl := pl) (ni := ni) (pa := pa) (it := it) (cd := cd)
  refine ⟨pi, im2, 0, it2, ni2, q3, q4, fun d => ?_⟩
  · rw [e162]
    simp (disch := (refine id ?_; first | with_reducible exact sva_k | with_reducible exact sva_i | with_reducible exact sva_r | with_reducible exact ITA_k | with_reducible exact ITA_i | with_reducible exact ITA_r | with_unfolding_all exact rfl | assumption | with_reducible exact mx_lt (by omega) | with_reducible exact mx_le (by omega) | with_reducible exact mx_l2 (by assumption) | with_unfolding_all exact Nat.le_of_ble_eq_true rfl | (simp only [am_cat_nil, am_cat_int, am_cat_ref, am_cat_null, am_cat_long, Nat.reduceAdd, Nat.reduceLeDiff]; done) | omega | exact i_nel (by omega) (by omega) (by omega) | exact i_bnd2 (by simp only [am_n, Nat.reduceDiv, Nat.reduceMod, Nat.reduceMul, Nat.reduceAdd]; omega) | exact ITA_k | exact ITA_i | exact ITA_r | (rw [ITA_k]; with_unfolding_all exact rfl) | (simp only [ad2, Nat.reduceAdd]; assumption) | (simp only [ad2, Nat.reduceAdd]; omega) | exact sva_k | exact sva_i | exact sva_r | (rw [sva_k]; with_unfolding_all exact rfl) | fail)) only [z162_0, z162_1, z162_4, z162_5, z162_6, z162_9, z162_10, z162_13, z162_14, z162_15, z162_18_5, z162_18_13, z162_18_15, z162_18_18, z162_18_22, z162_18_32, z162_18_33, z162_18_40, z162_18_41, z162_18_100, z162_18_d, z162_108, z162_109, z162_110, z162_113, z162_114, z162_117, z162_120, z162_121, z162_122, z162_125, z162_126, z162_127, z162_130, z162_133, z162_134, z162_135, z162_138, z162_139, z162_143, z162_146, z162_147, z162_148, z162_151, z162_154, z162_155, z162_156, z162_159, z162_162, z162_163, z162_167, z162_170, z162_171, z162_172, z162_175, z162_176, z162_177, z162_180, z162_183, z162_184, z162_185, z162_188, z162_192, z162_195, z162_196, z162_196I, z162_197, z162_200, z162_201, z162_202, z162_205, z162_206, z162_207, z162_210, z162_213, z162_214, z162_217, z162_218, z162_221, z162_222, z162_223, z162_226, z162_227, z162_228, z162_231, z162_234, z162_235, z162_238, z162_241, z162_244, z162_247, z162_248, z162_248I, z162_249, z162_252, z162_253, z162_254, z162_257, z162_258, z162_259, z162_262, z162_266, z162_269, HQ_r0, HQ_r1, HQ_r2, HQ_r3, HQ_r4, HQ_r5, HQ_r6, HQ_r7, HQ_r8, HQ_r9, HQ_r10, HQ_r11, HQ_r12, HQ_r13, HQ_r14, HQ_r15, HQ_r16, HQ_r17, HQ_r18, HQ_r19, HQ_r20, HQ_r21, HQ_r22, HQ_r23, HQ_r24, HQ_r25, HQ_r26, HQ_r27, HQ_r28, HQ_r29, HQ_r30, HQ_r31, HQ_r32, HQ_r33, HQ_r34, HQ_r35, HQ_r36, HQ_r37, HQ_r38, HQ_r39, HQ_r40, HQ_r41, HQ_r42, HQ_r43, HQ_r44, HQ_r45, HQ_r46, HQ_r47, HQ_r48, HQ_r49, HQ_r50, HQ_r51, HQ_r52, HQ_r53, HQ_r54, HQ_r55, HQ_r56, HQ_r57, HQ_r58, HQ_r59, HQ_r60, HQ_r61, HQ_r62, HQ_r63, HQ_r64, HQ_r65, HQ_r66, HQ_r67, HQ_r68, HQ_r69, HQ_r70, HQ_r71, HQ_r72, HQ_r73, HQ_r74, HQ_r75, HQ_r76, HQ_r77, HQ_r78, HQ_r79, HQ_r80, HQ_r81, HQ_r82, HQ_r83, HQ_r84, HQ_r85, HQ_r86, HQ_r87, HQ_r88, HQ_r89, HQ_r90, HQ_r91, HQ_r92, HQ_r93, HQ_r94, HQ_r95, HQ_r96, HQ_r97, HQ_r98, HQ_r99, HQ_r100, HQ_r101, HQ_r102, HQ_r103, HQ_r104, HQ_r105, HQ_r106, HQ_r107, HQ_r108, HQ_r109, HQ_r110, HQ_r111, HQ_r112, HQ_r113, HQ_r114, HQ_r115, HQ_r116, HQ_r117, HQ_r118, HQ_r119, HQ_r120, HQ_r121, HQ_r122, HQ_r123, HQ_r124, HQ_r125, HQ_r126, HQ_r127, HQ_r128, HQ_r129, HQ_r130, HQ_r131, HQ_r132, HQ_r133, HQ_r134, HQ_r135, HQ_r136, HQ_r137, HQ_r138, HQ_r139, HQ_r140, HQ_r141, HQ_r142, HQ_r143, HQ_r144, HQ_r145, HQ_r146, HQ_r147, HQ_r148, HQ_r149, HQ_r150, HQ_r151, HQ_r152, HQ_r153, HQ_r154, HQ_r155, HQ_r156, HQ_r157, HQ_r158, HQ_r159, HQ_r160, HQ_r161, HQ_r162, HQ_r163, HQ_r164, HQ_r165, HQ_r166, HQ_r167, HQ_r168, HQ_r169, HQ_r170, HQ_r171, HQ_r172, HQ_r173, HQ_r174, HQ_r175, HQ_r176, HQ_r177, HQ_r178, HQ_a0, HQ_a1, HQ_a2, HQ_a3, HQ_a4, HQ_w2, HQ_w3, HQ_w17, HQ_w21, HQ_w22, HQ_w24, HQ_b0, HQ_b1, HQ_b2, HQ_b3, HQ_b4, i_m1, i_m8, i_and16, i8_8, ↓reduceIte, ad2, Nat.reduceAdd, se_item, se_now, HQ_im0, hC, ht, k0, lg_0, lg_n, i_10, i_00, itm_0, itm_1, itm_2, itm_3, itm_4, itm_5, itm_6, itw_0, itw_1, itw_2, itw_3, itw_4, itw_5, up_s, HQ_ir, HQ_iw, up_up, mx_c, i_eqll, i_lell, i_ltll, Nat.reduceEqDiff, Nat.reduceLeDiff, Nat.reduceLT, am_then_some, am_tl1, am_tl0, i_addl, i_sub1, tn_of, tn_lit]
    have eN : n + (Cmd.whi w u s).toks.length = n + 5 + s.toks.length + 1 := by simp [Cmd.toks, Cmd.pre, Cmd.mid, Cmd.post, Cmd.whi]; omega
    have eL : here + (Cmd.code here pl pi (Cmd.whi w u s)).length = here + 25 + s.code.length := by simp [Cmd.code, Cmd.whi, stp, condG]; omega
    have eT : here + 18 + (sbs (stp pi ++ s.code)).length + 3 = here + 25 + s.code.length := by rw [sbs_len, hc]; omega
    have eC : lay cd here (sbs (Cmd.code here pl pi (Cmd.whi w u s))) = lay (lay (lay cd here (sbs (stp pl ++ condG w u (here + 25 + s.code.length)))) (here + 18) (sbs (stp pi ++ s.code))) (here + 18 + (sbs (stp pi ++ s.code)).length) (sbs [195, lo here, hi here]) := by
      rw [lay_app (h := here + 18), show here + 18 = here + (sbs (stp pl ++ condG w u (here + 25 + s.code.length))).length from rfl, lay_app, ← sbs_app, ← sbs_app, List.append_assoc]
      rfl
    rw [eN, eL, eC, lay_n3 (h := here + 18 + (sbs (stp pi ++ s.code)).length), eT, lay_up (by omega), lay_up (by omega), lay_up (by omega), lay_up (by omega), up4 (by omega)]
    simp only [stp, condG, List.cons_append, List.nil_append, sbs_cons, sbs_nil, lay_c, lay_n, sb_lo, sb_hi hpl, sb_hi (vaN_lt ow), sb_hi (vaN_lt ou), sb_hi (show here + 25 + s.code.length < 65536 by omega), sb_hi (show here < 65536 by omega)]
    rfl

theorem cm_ok_rep {g : Nat → Nat → Value} {s0 : Nat} {tk : Nat → Int32} {tp : Nat → Int32} {tf : Nat → Int64} {ts : Nat → Int64} {n : Nat} {item : Nat} {hid : Nat} {im : Nat} {pa : Nat} {here : Nat} {cd : Nat → Int32} {it : Nat → Nat → Value} {ni : Nat} {pl pi : Nat} {w u : Nat} {s : St} (hT : TA tk tf ts n (Cmd.rep w u s).toks) (hF : Fq (tk (n + (Cmd.rep w u s).toks.length))) (hok : (Cmd.rep w u s).ok) (hn : n < 1400) (ht : tp n = Int32.ofNat pl) (hpl : pl < 65536) (hti : tp (n + (Cmd.rep w u s).pre.length) = Int32.ofNat pi) (hpi : pi < 65536) (h2 : 2 ≤ ni) (h20 : ni ≤ 20) (hh : here + 500 < 65536) : ∃ item2 im2 pa2 it2 ni2, 2 ≤ ni2 ∧ ni2 ≤ 20 ∧ ∀ d : Nat, am_M (d + 24) 162 [.ref 6945767432] (HQ g s0 tk tp tf ts n item 2 im pa here cd it ni) = some (none, HQ g s0 tk tp tf ts (n + (Cmd.rep w u s).toks.length) item2 2 im2 pa2 (here + ((Cmd.rep w u s).code here pl pi).length) (lay cd here (sbs ((Cmd.rep w u s).code here pl pi))) it2 ni2) := by
  obtain ⟨-, ow, ou, os⟩ := hok
  have hc : (stp pi ++ s.code).length = s.code.length + 4 := by rw [List.length_append]; show 4 + _ = _; omega
  have hlen := s.code_le
  have htl := s.toks_le
  have hT2 := hT
  unfold Cmd.toks at hT2
  rw [TA_app, TA_app] at hT2
  obtain ⟨⟨k0, -⟩, hm, k1, ⟨k2, f2, g2⟩, k3, ⟨k4, f4, g4⟩, -⟩ := hT2
  have k0 : tk n = 32 := k0
  have hm' : TA tk tf ts (n + 1) s.toks := hm
  have eN : n + (Cmd.rep w u s).toks.length = n + 1 + s.toks.length + 4 := by simp [Cmd.toks, Cmd.pre, Cmd.mid, Cmd.post, Cmd.rep]; omega
  have hE : tk (n + 1 + s.toks.length) = 38 := k1
  have hF' : Fq (tk (n + 1 + s.toks.length + 4)) := by rw [← eN]; exact hF
  obtain ⟨im2, pa2, it2, ni2, q1, q2, q3, q4, hS⟩ := st_ok (g := g) (s0 := s0) (tk := tk) (tp := tp) (tf := tf) (ts := ts) (n := (n + 1)) (item := pl) (hid := 2) (im := 0) (pa := pa) (here := (here + 4)) (cd := (up (up (up (up cd here (sb 33)) (here + 1) (sb (Int32.ofNat pl))) (here + 2) (sb (Int32.ofNat pl >>> 8))) (here + 3) (sb 207))) (it := it) (ni := ni) (s := s) (pl := pi) hm' (by unfold Fq; rw [hE]; decide) os (by omega) hti hpi (by omega) (by omega) (by omega)
  have hC := fun d => se_repeat (d := d) (L := sbs (stp pi ++ s.code)) (hn := by omega) (h2 := h2) (h20 := h20) (hh := by rw [sbs_len]; omega) (k1 := hE) (j2 := ow) (f2 := f2) (g2 := g2) (k2 := k2) (k3 := k3) (j4 := ou) (f4 := f4) (g4 := g4) (k4 := k4) (hF := hF') (i2 := q3) (i20 := q4) (hS := hS) (here := here) (im := 0) (pl := pl) (ni := ni) (pa := pa) (it := it) (cd := cd)
  refine ⟨pl, 3, (here + 4 + (sbs (stp pi ++ s.code)).length + 4), (up (up (up it2 0 (itm 8 (va w) 0 0 (.ref 124889595920) (.ref (sva w)) .null)) 1 (itm 4 (va u) 0 0 (.ref 124889595920) (.ref (sva u)) .null)) 2 (itm 5 3 0 1 (.ref 124939927568) .null .null)), max ni2 3, by omega, by omega, fun d => ?_⟩
  · rw [e162]
    simp (disch := (refine id ?_; first | with_reducible exact sva_k | with_reducible exact sva_i | with_reducible exact sva_r | with_reducible exact ITA_k | with_reducible exact ITA_i | with_reducible exact ITA_r | with_unfolding_all exact rfl | assumption | with_reducible exact mx_lt (by omega) | with_reducible exact mx_le (by omega) | with_reducible exact mx_l2 (by assumption) | with_unfolding_all exact Nat.le_of_ble_eq_true rfl | (simp only [am_cat_nil, am_cat_int, am_cat_ref, am_cat_null, am_cat_long, Nat.reduceAdd, Nat.reduceLeDiff]; done) | omega | exact i_nel (by omega) (by omega) (by omega) | exact i_bnd2 (by simp only [am_n, Nat.reduceDiv, Nat.reduceMod, Nat.reduceMul, Nat.reduceAdd]; omega) | exact ITA_k | exact ITA_i | exact ITA_r | (rw [ITA_k]; with_unfolding_all exact rfl) | (simp only [ad2, Nat.reduceAdd]; assumption) | (simp only [ad2, Nat.reduceAdd]; omega) | exact sva_k | exact sva_i | exact sva_r | (rw [sva_k]; with_unfolding_all exact rfl) | fail)) only [z162_0, z162_1, z162_4, z162_5, z162_6, z162_9, z162_10, z162_13, z162_14, z162_15, z162_18_5, z162_18_13, z162_18_15, z162_18_18, z162_18_22, z162_18_32, z162_18_33, z162_18_40, z162_18_41, z162_18_100, z162_18_d, z162_108, z162_109, z162_110, z162_113, z162_114, z162_117, z162_120, z162_121, z162_122, z162_125, z162_126, z162_127, z162_130, z162_133, z162_134, z162_135, z162_138, z162_139, z162_143, z162_146, z162_147, z162_148, z162_151, z162_154, z162_155, z162_156, z162_159, z162_162, z162_163, z162_167, z162_170, z162_171, z162_172, z162_175, z162_176, z162_177, z162_180, z162_183, z162_184, z162_185, z162_188, z162_192, z162_195, z162_196, z162_196I, z162_197, z162_200, z162_201, z162_202, z162_205, z162_206, z162_207, z162_210, z162_213, z162_214, z162_217, z162_218, z162_221, z162_222, z162_223, z162_226, z162_227, z162_228, z162_231, z162_234, z162_235, z162_238, z162_241, z162_244, z162_247, z162_248, z162_248I, z162_249, z162_252, z162_253, z162_254, z162_257, z162_258, z162_259, z162_262, z162_266, z162_269, HQ_r0, HQ_r1, HQ_r2, HQ_r3, HQ_r4, HQ_r5, HQ_r6, HQ_r7, HQ_r8, HQ_r9, HQ_r10, HQ_r11, HQ_r12, HQ_r13, HQ_r14, HQ_r15, HQ_r16, HQ_r17, HQ_r18, HQ_r19, HQ_r20, HQ_r21, HQ_r22, HQ_r23, HQ_r24, HQ_r25, HQ_r26, HQ_r27, HQ_r28, HQ_r29, HQ_r30, HQ_r31, HQ_r32, HQ_r33, HQ_r34, HQ_r35, HQ_r36, HQ_r37, HQ_r38, HQ_r39, HQ_r40, HQ_r41, HQ_r42, HQ_r43, HQ_r44, HQ_r45, HQ_r46, HQ_r47, HQ_r48, HQ_r49, HQ_r50, HQ_r51, HQ_r52, HQ_r53, HQ_r54, HQ_r55, HQ_r56, HQ_r57, HQ_r58, HQ_r59, HQ_r60, HQ_r61, HQ_r62, HQ_r63, HQ_r64, HQ_r65, HQ_r66, HQ_r67, HQ_r68, HQ_r69, HQ_r70, HQ_r71, HQ_r72, HQ_r73, HQ_r74, HQ_r75, HQ_r76, HQ_r77, HQ_r78, HQ_r79, HQ_r80, HQ_r81, HQ_r82, HQ_r83, HQ_r84, HQ_r85, HQ_r86, HQ_r87, HQ_r88, HQ_r89, HQ_r90, HQ_r91, HQ_r92, HQ_r93, HQ_r94, HQ_r95, HQ_r96, HQ_r97, HQ_r98, HQ_r99, HQ_r100, HQ_r101, HQ_r102, HQ_r103, HQ_r104, HQ_r105, HQ_r106, HQ_r107, HQ_r108, HQ_r109, HQ_r110, HQ_r111, HQ_r112, HQ_r113, HQ_r114, HQ_r115, HQ_r116, HQ_r117, HQ_r118, HQ_r119, HQ_r120, HQ_r121, HQ_r122, HQ_r123, HQ_r124, HQ_r125, HQ_r126, HQ_r127, HQ_r128, HQ_r129, HQ_r130, HQ_r131, HQ_r132, HQ_r133, HQ_r134, HQ_r135, HQ_r136, HQ_r137, HQ_r138, HQ_r139, HQ_r140, HQ_r141, HQ_r142, HQ_r143, HQ_r144, HQ_r145, HQ_r146, HQ_r147, HQ_r148, HQ_r149, HQ_r150, HQ_r151, HQ_r152, HQ_r153, HQ_r154, HQ_r155, HQ_r156, HQ_r157, HQ_r158, HQ_r159, HQ_r160, HQ_r161, HQ_r162, HQ_r163, HQ_r164, HQ_r165, HQ_r166, HQ_r167, HQ_r168, HQ_r169, HQ_r170, HQ_r171, HQ_r172, HQ_r173, HQ_r174, HQ_r175, HQ_r176, HQ_r177, HQ_r178, HQ_a0, HQ_a1, HQ_a2, HQ_a3, HQ_a4, HQ_w2, HQ_w3, HQ_w17, HQ_w21, HQ_w22, HQ_w24, HQ_b0, HQ_b1, HQ_b2, HQ_b3, HQ_b4, i_m1, i_m8, i_and16, i8_8, ↓reduceIte, ad2, Nat.reduceAdd, se_item, se_now, HQ_im0, hC, ht, k0, lg_0, lg_n, i_10, i_00, itm_0, itm_1, itm_2, itm_3, itm_4, itm_5, itm_6, itw_0, itw_1, itw_2, itw_3, itw_4, itw_5, up_s, HQ_ir, HQ_iw, up_up, mx_c, i_eqll, i_lell, i_ltll, Nat.reduceEqDiff, Nat.reduceLeDiff, Nat.reduceLT, am_then_some, am_tl1, am_tl0, i_addl, i_sub1, tn_of, tn_lit]
    have eL : here + (Cmd.code here pl pi (Cmd.rep w u s)).length = here + 4 + (sbs (stp pi ++ s.code)).length + 13 := by rw [sbs_len, hc]; simp [Cmd.code, Cmd.rep, stp, condL]; omega
    have eC : lay cd here (sbs (Cmd.code here pl pi (Cmd.rep w u s))) = lay (lay (lay cd here (sbs (stp pl))) (here + 4) (sbs (stp pi ++ s.code))) (here + 4 + (sbs (stp pi ++ s.code)).length) (sbs (condL w u here)) := by
      show lay cd here (sbs (stp pl ++ ((stp pi ++ s.code) ++ condL w u here))) = _
      rw [sbs_app, sbs_app, ← lay_app, ← lay_app, sbs_len]
      rfl
    rw [eN, eL, eC, up4 (by omega)]
    simp only [stp, condL, List.cons_append, List.nil_append, sbs_cons, sbs_nil, lay_c, lay_n, sb_lo, sb_hi hpl, sb_hi (vaN_lt ow), sb_hi (vaN_lt ou), sb_hi (show here < 65536 by omega)]
    rfl

theorem cm_ok_for {g : Nat → Nat → Value} {s0 : Nat} {tk : Nat → Int32} {tp : Nat → Int32} {tf : Nat → Int64} {ts : Nat → Int64} {n : Nat} {item : Nat} {hid : Nat} {im : Nat} {pa : Nat} {here : Nat} {cd : Nat → Int32} {it : Nat → Nat → Value} {ni : Nat} {pl pi : Nat} {a w c : Nat} {s : St} (hT : TA tk tf ts n (Cmd.fo a w c s).toks) (hF : Fq (tk (n + (Cmd.fo a w c s).toks.length))) (hok : (Cmd.fo a w c s).ok) (hn : n < 1400) (ht : tp n = Int32.ofNat pl) (hpl : pl < 65536) (hti : tp (n + (Cmd.fo a w c s).pre.length) = Int32.ofNat pi) (hpi : pi < 65536) (h2 : 2 ≤ ni) (h20 : ni ≤ 20) (hh : here + 500 < 65536) : ∃ item2 im2 pa2 it2 ni2, 2 ≤ ni2 ∧ ni2 ≤ 20 ∧ ∀ d : Nat, am_M (d + 24) 162 [.ref 6945767432] (HQ g s0 tk tp tf ts n item 2 im pa here cd it ni) = some (none, HQ g s0 tk tp tf ts (n + (Cmd.fo a w c s).toks.length) item2 2 im2 pa2 (here + ((Cmd.fo a w c s).code here pl pi).length) (lay cd here (sbs ((Cmd.fo a w c s).code here pl pi))) it2 ni2) := by
  obtain ⟨oa, ow, oc, os⟩ := hok
  have hc : (stp pi ++ s.code).length = s.code.length + 4 := by rw [List.length_append]; show 4 + _ = _; omega
  have hlen := s.code_le
  have htl := s.toks_le
  have hT2 := hT
  unfold Cmd.toks at hT2
  rw [TA_app, TA_app] at hT2
  obtain ⟨⟨k0, ⟨k1, f1, g1⟩, k2, ⟨k3, f3, g3⟩, k4, ⟨k5, c5⟩, k6, ⟨k7, c7⟩, k8, -⟩, hm, k9, -⟩ := hT2
  have k0 : tk n = 15 := k0
  have hm' : TA tk tf ts (n + 9) s.toks := hm
  have hE : tk (n + 9 + s.toks.length) = 12 := k9
  obtain ⟨im2, pa2, it2, ni2, q1, q2, q3, q4, hS⟩ := st_ok (g := g) (s0 := s0) (tk := tk) (tp := tp) (tf := tf) (ts := ts) (n := (n + 9)) (item := pl) (hid := 4) (im := 4) (pa := ((here + 4) + 4)) (here := ((here + 4) + 33)) (cd := (up (up (up (up (up (up (up (up (up (up (up (up (up (up (up (up (up (up (up (up (up (up (up (up (up (up (up (up (up (up (up (up (up (up (up (up (up cd here (sb 33)) (here + 1) (sb (Int32.ofNat pl))) (here + 2) (sb (Int32.ofNat pl >>> 8))) (here + 3) (sb 207)) (here + 4) (sb 42)) ((here + 4) + 1) (sb (va w))) ((here + 4) + 2) (sb (va w >>> 8))) ((here + 4) + 3) (sb 229)) ((here + 4) + 4) (sb 33)) ((here + 4) + 5) (sb (Int32.ofNat c))) ((here + 4) + 6) (sb (Int32.ofNat c >>> 8))) ((here + 4) + 7) (sb 221)) ((here + 4) + 8) (sb 117)) ((here + 4) + 9) (sb (-Int32.ofNat 4))) ((here + 4) + 10) (sb 221)) ((here + 4) + 11) (sb 116)) ((here + 4) + 12) (sb ((-Int32.ofNat 4) + 1))) ((here + 4) + 13) (sb 225)) ((here + 4) + 14) (sb 34)) ((here + 4) + 15) (sb (va a))) ((here + 4) + 16) (sb (va a >>> 8))) ((here + 4) + 17) (sb 42)) ((here + 4) + 18) (sb (va a))) ((here + 4) + 19) (sb (va a >>> 8))) ((here + 4) + 20) (sb 221)) ((here + 4) + 21) (sb 94)) ((here + 4) + 22) (sb (-Int32.ofNat 4))) ((here + 4) + 23) (sb 221)) ((here + 4) + 24) (sb 86)) ((here + 4) + 25) (sb ((-Int32.ofNat 4) + 1))) ((here + 4) + 26) (sb 235)) ((here + 4) + 27) (sb 205)) ((here + 4) + 28) (sb (64 + 3 * 13 : Int32))) ((here + 4) + 29) (sb ((64 + 3 * 13 : Int32) >>> 8))) ((here + 4) + 30) (sb 218)) ((here + 4) + 31) (sb 0)) ((here + 4) + 32) (sb ((0 : Int32) >>> 8)))) (it := (up (up (up (up it 0 (itm 4 (va w) 0 0 (.ref 124889595920) (.ref (sva w)) .null)) 1 (itm 4 (Int32.ofNat c) 0 0 (.ref 124956704784) .null .null)) 2 (itm 0 (Int32.ofNat 3) 0 0 (.ref 124956704784) .null .null)) 3 (itm 4 (va a) 0 0 (.ref 124889595920) (.ref (sva a)) .null))) (ni := (max ni 4)) (s := s) (pl := pi) hm' (Or.inr (Or.inl hE)) os (by omega) hti hpi (by omega) (by omega) (by omega)
  have hC := fun d => se_for (d := d) (L := sbs (stp pi ++ s.code)) (a := a) (j := w) (c := c) (hn := by omega) (h2 := h2) (h20 := h20) (hh := by rw [sbs_len]; omega) (ja := oa) (f1 := f1) (g1 := g1) (k1 := k1) (k2 := k2) (j3 := ow) (f3 := f3) (g3 := g3) (k3 := k3) (k4 := k4) (k5 := k5) (c5 := c5) (l5 := oc) (k6 := k6) (k7 := k7) (c7 := c7) (k8 := k8) (k9 := hE) (i2 := q3) (i20 := q4) (i8 := q1) (i9 := q2) (hS := hS) (here := here + 4) (im := 0) (pl := pl) (ni := ni) (pa := pa) (it := it) (cd := (up (up (up (up cd here (sb 33)) (here + 1) (sb (Int32.ofNat pl))) (here + 2) (sb (Int32.ofNat pl >>> 8))) (here + 3) (sb 207)))
  refine ⟨pi, im2 + 1, 0, (up it2 im2 (itm 4 (va a) 0 0 (.ref 124889595920) (.ref (sva a)) .null)), max ni2 (im2 + 1), by omega, by omega, fun d => ?_⟩
  · rw [e162]
    simp (disch := (refine id ?_; first | with_reducible exact sva_c | with_reducible exact sva_k | with_reducible exact sva_i | with_reducible exact sva_r | with_reducible exact ITA_k | with_reducible exact ITA_i | with_reducible exact ITA_r | with_unfolding_all exact rfl | assumption | with_reducible exact mx_lt (by omega) | with_reducible exact mx_le (by omega) | with_reducible exact mx_l2 (by assumption) | with_unfolding_all exact Nat.le_of_ble_eq_true rfl | (simp only [am_cat_nil, am_cat_int, am_cat_ref, am_cat_null, am_cat_long, Nat.reduceAdd, Nat.reduceLeDiff]; done) | omega | exact i_nel (by omega) (by omega) (by omega) | exact i_bnd2 (by simp only [am_n, Nat.reduceDiv, Nat.reduceMod, Nat.reduceMul, Nat.reduceAdd]; omega) | exact ITA_k | exact ITA_i | exact ITA_r | (rw [ITA_k]; with_unfolding_all exact rfl) | (simp only [ad2, Nat.reduceAdd]; assumption) | (simp only [ad2, Nat.reduceAdd]; omega) | exact sva_k | exact sva_i | exact sva_r | (rw [sva_k]; with_unfolding_all exact rfl) | fail)) only [z162_0, z162_1, z162_4, z162_5, z162_6, z162_9, z162_10, z162_13, z162_14, z162_15, z162_18_5, z162_18_13, z162_18_15, z162_18_18, z162_18_22, z162_18_32, z162_18_33, z162_18_40, z162_18_41, z162_18_100, z162_18_d, z162_108, z162_109, z162_110, z162_113, z162_114, z162_117, z162_120, z162_121, z162_122, z162_125, z162_126, z162_127, z162_130, z162_133, z162_134, z162_135, z162_138, z162_139, z162_143, z162_146, z162_147, z162_148, z162_151, z162_154, z162_155, z162_156, z162_159, z162_162, z162_163, z162_167, z162_170, z162_171, z162_172, z162_175, z162_176, z162_177, z162_180, z162_183, z162_184, z162_185, z162_188, z162_192, z162_195, z162_196, z162_196I, z162_197, z162_200, z162_201, z162_202, z162_205, z162_206, z162_207, z162_210, z162_213, z162_214, z162_217, z162_218, z162_221, z162_222, z162_223, z162_226, z162_227, z162_228, z162_231, z162_234, z162_235, z162_238, z162_241, z162_244, z162_247, z162_248, z162_248I, z162_249, z162_252, z162_253, z162_254, z162_257, z162_258, z162_259, z162_262, z162_266, z162_269, HQ_r0, HQ_r1, HQ_r2, HQ_r3, HQ_r4, HQ_r5, HQ_r6, HQ_r7, HQ_r8, HQ_r9, HQ_r10, HQ_r11, HQ_r12, HQ_r13, HQ_r14, HQ_r15, HQ_r16, HQ_r17, HQ_r18, HQ_r19, HQ_r20, HQ_r21, HQ_r22, HQ_r23, HQ_r24, HQ_r25, HQ_r26, HQ_r27, HQ_r28, HQ_r29, HQ_r30, HQ_r31, HQ_r32, HQ_r33, HQ_r34, HQ_r35, HQ_r36, HQ_r37, HQ_r38, HQ_r39, HQ_r40, HQ_r41, HQ_r42, HQ_r43, HQ_r44, HQ_r45, HQ_r46, HQ_r47, HQ_r48, HQ_r49, HQ_r50, HQ_r51, HQ_r52, HQ_r53, HQ_r54, HQ_r55, HQ_r56, HQ_r57, HQ_r58, HQ_r59, HQ_r60, HQ_r61, HQ_r62, HQ_r63, HQ_r64, HQ_r65, HQ_r66, HQ_r67, HQ_r68, HQ_r69, HQ_r70, HQ_r71, HQ_r72, HQ_r73, HQ_r74, HQ_r75, HQ_r76, HQ_r77, HQ_r78, HQ_r79, HQ_r80, HQ_r81, HQ_r82, HQ_r83, HQ_r84, HQ_r85, HQ_r86, HQ_r87, HQ_r88, HQ_r89, HQ_r90, HQ_r91, HQ_r92, HQ_r93, HQ_r94, HQ_r95, HQ_r96, HQ_r97, HQ_r98, HQ_r99, HQ_r100, HQ_r101, HQ_r102, HQ_r103, HQ_r104, HQ_r105, HQ_r106, HQ_r107, HQ_r108, HQ_r109, HQ_r110, HQ_r111, HQ_r112, HQ_r113, HQ_r114, HQ_r115, HQ_r116, HQ_r117, HQ_r118, HQ_r119, HQ_r120, HQ_r121, HQ_r122, HQ_r123, HQ_r124, HQ_r125, HQ_r126, HQ_r127, HQ_r128, HQ_r129, HQ_r130, HQ_r131, HQ_r132, HQ_r133, HQ_r134, HQ_r135, HQ_r136, HQ_r137, HQ_r138, HQ_r139, HQ_r140, HQ_r141, HQ_r142, HQ_r143, HQ_r144, HQ_r145, HQ_r146, HQ_r147, HQ_r148, HQ_r149, HQ_r150, HQ_r151, HQ_r152, HQ_r153, HQ_r154, HQ_r155, HQ_r156, HQ_r157, HQ_r158, HQ_r159, HQ_r160, HQ_r161, HQ_r162, HQ_r163, HQ_r164, HQ_r165, HQ_r166, HQ_r167, HQ_r168, HQ_r169, HQ_r170, HQ_r171, HQ_r172, HQ_r173, HQ_r174, HQ_r175, HQ_r176, HQ_r177, HQ_r178, HQ_a0, HQ_a1, HQ_a2, HQ_a3, HQ_a4, HQ_w2, HQ_w3, HQ_w17, HQ_w21, HQ_w22, HQ_w24, HQ_b0, HQ_b1, HQ_b2, HQ_b3, HQ_b4, i_m1, i_m8, i_and16, i8_8, ↓reduceIte, ad2, Nat.reduceAdd, se_item, se_now, HQ_im0, se_step, hC, ht, k0, lg_0, lg_n, i_10, i_00, itm_0, itm_1, itm_2, itm_3, itm_4, itm_5, itm_6, itw_0, itw_1, itw_2, itw_3, itw_4, itw_5, up_s, HQ_ir, HQ_iw, up_up, mx_c, i_eqll, i_lell, i_ltll, Nat.reduceEqDiff, Nat.reduceLeDiff, Nat.reduceLT, am_then_some, am_tl1, am_tl0, i_addl, i_sub1, tn_of, tn_lit]
    have eN : n + (Cmd.fo a w c s).toks.length = n + 9 + s.toks.length + 1 := by simp [Cmd.toks, Cmd.pre, Cmd.mid, Cmd.post, Cmd.fo]; omega
    have eL : here + (Cmd.code here pl pi (Cmd.fo a w c s)).length = here + 69 + s.code.length := by simp [Cmd.code, Cmd.fo, stp, forA, forB]; omega
    have eT : here + 37 + (sbs (stp pi ++ s.code)).length + 28 = here + 69 + s.code.length := by rw [sbs_len, hc]; omega
    have eC : lay cd here (sbs (Cmd.code here pl pi (Cmd.fo a w c s))) = lay (lay (lay cd here (sbs (stp pl ++ forA a w c (here + 69 + s.code.length)))) (here + 37) (sbs (stp pi ++ s.code))) (here + 37 + (sbs (stp pi ++ s.code)).length) (sbs (forB a (here + 69 + s.code.length) ++ (stp pl ++ [195, lo (here + 37), hi (here + 37)]))) := by
      rw [lay_app (h := here + 37), show here + 37 = here + (sbs (stp pl ++ forA a w c (here + 69 + s.code.length))).length from rfl, lay_app, ← sbs_app, ← sbs_app, List.append_assoc]
      rfl
    rw [eN, eL, eC, lay_n28 (h := here + 37 + (sbs (stp pi ++ s.code)).length), eT, lay_set (h := here + 37 + (sbs (stp pi ++ s.code)).length) (i := 16) (by simp only [List.length_cons]; omega), lay_set (h := here + 37 + (sbs (stp pi ++ s.code)).length) (i := 17) (by simp only [List.length_cons, List.length_set]; omega), lay_up (by omega), lay_up (by omega), lay_up (by omega), lay_up (by omega), up4 (by omega)]
    simp only [stp, forA, forB, List.set, List.cons_append, List.nil_append, sbs_cons, sbs_nil, lay_c, lay_n, sb_lo, sb_hi hpl, sb_hi (show c < 65536 by omega), sb_hi (vaN_lt ow), sb_hi (vaN_lt oa), sb_hi (show here + 69 + s.code.length < 65536 by omega), sb_hi (show here + 37 < 65536 by omega)]
    rfl

theorem cm_ok_one {g : Nat → Nat → Value} {s0 : Nat} {tk : Nat → Int32} {tp : Nat → Int32} {tf : Nat → Int64} {ts : Nat → Int64} {n : Nat} {item : Nat} {hid : Nat} {im : Nat} {pa : Nat} {here : Nat} {cd : Nat → Int32} {it : Nat → Nat → Value} {ni : Nat} {pl pi : Nat} {s : St} (hT : TA tk tf ts n (Cmd.one s).toks) (hF : Fq (tk (n + (Cmd.one s).toks.length))) (hok : (Cmd.one s).ok) (hn : n < 1400) (ht : tp n = Int32.ofNat pl) (hpl : pl < 65536) (hti : tp (n + (Cmd.one s).pre.length) = Int32.ofNat pi) (hpi : pi < 65536) (h2 : 2 ≤ ni) (h20 : ni ≤ 20) (hh : here + 500 < 65536) : ∃ item2 im2 pa2 it2 ni2, 2 ≤ ni2 ∧ ni2 ≤ 20 ∧ ∀ d : Nat, am_M (d + 24) 162 [.ref 6945767432] (HQ g s0 tk tp tf ts n item 2 im pa here cd it ni) = some (none, HQ g s0 tk tp tf ts (n + (Cmd.one s).toks.length) item2 2 im2 pa2 (here + ((Cmd.one s).code here pl pi).length) (lay cd here (sbs ((Cmd.one s).code here pl pi))) it2 ni2) := by
  have hT2 : TA tk tf ts n s.toks := by have hT' : TA tk tf ts n ([] ++ (s.toks ++ [])) := hT; simpa using hT'
  have eN : (Cmd.one s).toks = s.toks := by show [] ++ (s.toks ++ []) = s.toks; simp
  rw [eN] at hF
  obtain ⟨im2, pa2, it2, ni2, q1, q2, q3, q4, hS⟩ := st_ok (g := g) (s0 := s0) (tk := tk) (tp := tp) (tf := tf) (ts := ts) (item := item) (hid := 2) (im := im) (pa := pa) (here := here) (cd := cd) (it := it) (ni := ni) (s := s) (pl := pl) hT2 hF hok.2.2.2 (by omega) ht hpl h2 h20 (by omega)
  refine ⟨pl, im2, pa2, it2, ni2, q3, q4, fun d => ?_⟩
  have := hS (d + 3)
  rw [eN]
  rw [sbs_len] at this
  exact this

theorem cm_ok_wri {g : Nat → Nat → Value} {s0 : Nat} {tk : Nat → Int32} {tp : Nat → Int32} {tf : Nat → Int64} {ts : Nat → Int64} {n : Nat} {item : Nat} {hid : Nat} {im : Nat} {pa : Nat} {here : Nat} {cd : Nat → Int32} {it : Nat → Nat → Value} {ni : Nat} {pl pi : Nat} {a c : Nat} (hT : TA tk tf ts n (Cmd.wri a c).toks) (hF : Fq (tk (n + (Cmd.wri a c).toks.length))) (hok : (Cmd.wri a c).ok) (hn : n < 1400) (ht : tp n = Int32.ofNat pl) (hpl : pl < 65536) (hti : tp (n + (Cmd.wri a c).pre.length) = Int32.ofNat pi) (hpi : pi < 65536) (h2 : 2 ≤ ni) (h20 : ni ≤ 20) (hh : here + 500 < 65536) : ∃ item2 im2 pa2 it2 ni2, 2 ≤ ni2 ∧ ni2 ≤ 20 ∧ ∀ d : Nat, am_M (d + 24) 162 [.ref 6945767432] (HQ g s0 tk tp tf ts n item 2 im pa here cd it ni) = some (none, HQ g s0 tk tp tf ts (n + (Cmd.wri a c).toks.length) item2 2 im2 pa2 (here + ((Cmd.wri a c).code here pl pi).length) (lay cd here (sbs ((Cmd.wri a c).code here pl pi))) it2 ni2) := by
  obtain ⟨-, -, oa, oc⟩ := hok
  have hT2 := hT
  unfold Cmd.toks at hT2
  rw [TA_app, TA_app] at hT2
  have hT3 : TA tk tf ts n (Cmd.wri a c).mid := hT2.2.1
  obtain ⟨⟨k0, f0, g0⟩, k1, ⟨k2, f2, g2⟩, k3, ⟨k4, c4⟩, k5, -⟩ := hT3
  have k0 : tk n = 100 := k0
  have g0 : ts n = 0 := g0
  have k1 : tk (n + 1) = 117 := k1
  have k3 : tk (n + 3) = 115 := k3
  have k5 : tk (n + 5) = 118 := k5
  have o3 : a < 4 := oa
  have o4 : c < 8 := oc
  have eN : (Cmd.wri a c).toks.length = 6 := rfl
  have eC : Cmd.code here pl pi (Cmd.wri a c) = stp pl ++ [42, lo (vaN a), hi (vaN a), 229, 33, lo c, hi c, 229, 209, 225, 205, 175, 0] := rfl
  rw [eN, eC]
  refine ⟨pl, 2, pa, (up (up it 0 (itm 4 (va a) 0 0 (.ref 124889595920) (.ref (sva a)) .null)) 1 (itm 4 (Int32.ofNat c) 0 0 (.ref 124956704784) .null .null)), (max ni 2), by omega, by omega, fun d => (se_st_wri (d := d + 3) (g := g) (s0 := s0) (item := item) (hid := 2) (im := im) (pa := pa) (here := here) (cd := cd) (it := it) (ni := ni) (pl := pl) (k := a) (c := c) (n := n) (hn := by omega) (f0 := f0) (g0 := g0) (k0 := k0) (k1 := k1) (j2 := o3) (f2 := f2) (g2 := g2) (k2 := k2) (k3 := k3) (k4 := k4) (c4 := c4) (l4 := Nat.lt_trans o4 (by decide)) (k5 := k5) (h2 := h2) (h20 := h20) (hh := by omega) (ht := ht)).trans ?_⟩
  simp only [stp, List.cons_append, List.nil_append, sbs_cons, sbs_nil, lay_c, lay_n, sb_lo, sb_hi hpl, sb_hi (vaN_lt o3), sb_hi (show c < 65536 by omega)]
  rfl

theorem cm_ok {g : Nat → Nat → Value} {s0 : Nat} {tk : Nat → Int32} {tp : Nat → Int32} {tf : Nat → Int64} {ts : Nat → Int64} {n : Nat} {item : Nat} {hid : Nat} {im : Nat} {pa : Nat} {here : Nat} {cd : Nat → Int32} {it : Nat → Nat → Value} {ni : Nat} {pl pi : Nat}  {c : Cmd} (hT : TA tk tf ts n c.toks) (hF : Fq (tk (n + c.toks.length))) (hok : c.ok) (hn : n < 1400) (ht : tp n = Int32.ofNat pl) (hpl : pl < 65536) (hti : tp (n + c.pre.length) = Int32.ofNat pi) (hpi : pi < 65536) (h2 : 2 ≤ ni) (h20 : ni ≤ 20) (hh : here + 500 < 65536) : ∃ item2 im2 pa2 it2 ni2, 2 ≤ ni2 ∧ ni2 ≤ 20 ∧ ∀ d : Nat, am_M (d + 24) 162 [.ref 6945767432] (HQ g s0 tk tp tf ts n item 2 im pa here cd it ni) = some (none, HQ g s0 tk tp tf ts (n + c.toks.length) item2 2 im2 pa2 (here + (c.code here pl pi).length) (lay cd here (sbs (c.code here pl pi))) it2 ni2) := by
  have H : ∀ (hT : TA tk tf ts n c.toks) (hF : Fq (tk (n + c.toks.length))) (hn : n < 1400) (ht : tp n = Int32.ofNat pl) (hpl : pl < 65536) (hti : tp (n + c.pre.length) = Int32.ofNat pi) (hpi : pi < 65536) (h2 : 2 ≤ ni) (h20 : ni ≤ 20) (hh : here + 500 < 65536), ∃ item2 im2 pa2 it2 ni2, 2 ≤ ni2 ∧ ni2 ≤ 20 ∧ ∀ d : Nat, am_M (d + 24) 162 [.ref 6945767432] (HQ g s0 tk tp tf ts n item 2 im pa here cd it ni) = some (none, HQ g s0 tk tp tf ts (n + c.toks.length) item2 2 im2 pa2 (here + (c.code here pl pi).length) (lay cd here (sbs (c.code here pl pi))) it2 ni2) := by
    refine Cmd.all (p := fun c => ∀ (hT : TA tk tf ts n c.toks) (hF : Fq (tk (n + c.toks.length))) (hn : n < 1400) (ht : tp n = Int32.ofNat pl) (hpl : pl < 65536) (hti : tp (n + c.pre.length) = Int32.ofNat pi) (hpi : pi < 65536) (h2 : 2 ≤ ni) (h20 : ni ≤ 20) (hh : here + 500 < 65536), ∃ item2 im2 pa2 it2 ni2, 2 ≤ ni2 ∧ ni2 ≤ 20 ∧ ∀ d : Nat, am_M (d + 24) 162 [.ref 6945767432] (HQ g s0 tk tp tf ts n item 2 im pa here cd it ni) = some (none, HQ g s0 tk tp tf ts (n + c.toks.length) item2 2 im2 pa2 (here + (c.code here pl pi).length) (lay cd here (sbs (c.code here pl pi))) it2 ni2)) ?_ ?_ ?_ ?_ ?_ ?_ hok
    · intro s ok hT hF hn ht hpl hti hpi h2 h20 hh; exact cm_ok_one (hid := 2) hT hF ok hn ht hpl hti hpi h2 h20 hh
    · intro w u s ok hT hF hn ht hpl hti hpi h2 h20 hh; exact cm_ok_iff (hid := 2) hT hF ok hn ht hpl hti hpi h2 h20 hh
    · intro a w c s ok hT hF hn ht hpl hti hpi h2 h20 hh; exact cm_ok_for (hid := 2) hT hF ok hn ht hpl hti hpi h2 h20 hh
    · intro a c ok hT hF hn ht hpl hti hpi h2 h20 hh; exact cm_ok_wri (hid := 2) hT hF ok hn ht hpl hti hpi h2 h20 hh
    · intro w u s ok hT hF hn ht hpl hti hpi h2 h20 hh; exact cm_ok_rep (hid := 2) hT hF ok hn ht hpl hti hpi h2 h20 hh
    · intro w u s ok hT hF hn ht hpl hti hpi h2 h20 hh; exact cm_ok_whi (hid := 2) hT hF ok hn ht hpl hti hpi h2 h20 hh
  exact H hT hF hn ht hpl hti hpi h2 h20 hh
def rowT : List (Cmd × Nat × Nat) → List Tok
  | [] => []
  | (c, _, _) :: r => c.toks ++ (.sym 116 :: rowT r)
def codeR : Nat → List (Cmd × Nat × Nat) → List Nat
  | _, [] => []
  | h, (c, pl, pi) :: r => c.code h pl pi ++ codeR (h + (c.code h pl pi).length) r
def plR (tp : Nat → Int32) : Nat → List (Cmd × Nat × Nat) → Prop
  | _, [] => True
  | n, (c, pl, pi) :: r => (c.ok ∧ tp n = Int32.ofNat pl ∧ pl < 65536 ∧ tp (n + c.pre.length) = Int32.ofNat pi ∧ pi < 65536) ∧ plR tp (n + c.toks.length + 1) r
theorem code_le {h pl pi : Nat} {c : Cmd} : (c.code h pl pi).length ≤ 150 := by
  unfold Cmd.code
  split <;> (try rename_i s; have := s.code_le) <;> simp [stp, condL, condG, forA, forB] <;> omega
theorem toks_le {c : Cmd} : c.toks.length ≤ 25 := by
  have h1 : c.pre.length ≤ 9 := by unfold Cmd.pre; split <;> simp
  have h2 : c.mid.length ≤ 10 := by
    unfold Cmd.mid
    split
    · simp
    · exact St.toks_le _
  have h3 : c.post.length ≤ 4 := by unfold Cmd.post; split <;> simp
  unfold Cmd.toks
  rw [List.length_append, List.length_append]
  omega
theorem se_st_end {g : Nat → Nat → Value} {s0 : Nat} {tk : Nat → Int32} {tp : Nat → Int32} {tf : Nat → Int64} {ts : Nat → Int64} {n : Nat} {item : Nat} {hid : Nat} {im : Nat} {pa : Nat} {here : Nat} {cd : Nat → Int32} {it : Nat → Nat → Value} {ni : Nat} {x d : Nat} (hn : n < 1800) (hk : tk n = 12) (ht : tp n = Int32.ofNat x) : am_M (d + 24) 162 [.ref 6945767432] (HQ g s0 tk tp tf ts n item hid im pa here cd it ni) = some (none, HQ g s0 tk tp tf ts n x hid 0 pa here cd it ni) := by
  rw [e162]
  simp (disch := (refine id ?_; first | with_reducible exact sva_c | with_reducible exact sva_k | with_reducible exact sva_i | with_reducible exact sva_r | with_reducible exact ITA_k | with_reducible exact ITA_i | with_reducible exact ITA_r | with_unfolding_all exact rfl | assumption | with_reducible exact mx_lt (by omega) | with_reducible exact mx_le (by omega) | with_reducible exact mx_l2 (by assumption) | with_unfolding_all exact Nat.le_of_ble_eq_true rfl | (simp only [am_cat_nil, am_cat_int, am_cat_ref, am_cat_null, am_cat_long, Nat.reduceAdd, Nat.reduceLeDiff]; done) | omega | exact i_nel (by omega) (by omega) (by omega) | exact i_bnd2 (by simp only [am_n, Nat.reduceDiv, Nat.reduceMod, Nat.reduceMul, Nat.reduceAdd]; omega) | exact ITA_k | exact ITA_i | exact ITA_r | (rw [ITA_k]; with_unfolding_all exact rfl) | (simp only [ad2, Nat.reduceAdd]; assumption) | (simp only [ad2, Nat.reduceAdd]; omega) | exact sva_k | exact sva_i | exact sva_r | (rw [sva_k]; with_unfolding_all exact rfl) | fail)) only [z162_0, z162_1, z162_4, z162_5, z162_6, z162_9, z162_10, z162_13, z162_14, z162_15, z162_18_5, z162_18_13, z162_18_15, z162_18_18, z162_18_22, z162_18_32, z162_18_33, z162_18_40, z162_18_41, z162_18_100, z162_18_d, z162_108, z162_109, z162_110, z162_113, z162_114, z162_117, z162_120, z162_121, z162_122, z162_125, z162_126, z162_127, z162_130, z162_133, z162_134, z162_135, z162_138, z162_139, z162_143, z162_146, z162_147, z162_148, z162_151, z162_154, z162_155, z162_156, z162_159, z162_162, z162_163, z162_167, z162_170, z162_171, z162_172, z162_175, z162_176, z162_177, z162_180, z162_183, z162_184, z162_185, z162_188, z162_192, z162_195, z162_196, z162_196I, z162_197, z162_200, z162_201, z162_202, z162_205, z162_206, z162_207, z162_210, z162_213, z162_214, z162_217, z162_218, z162_221, z162_222, z162_223, z162_226, z162_227, z162_228, z162_231, z162_234, z162_235, z162_238, z162_241, z162_244, z162_247, z162_248, z162_248I, z162_249, z162_252, z162_253, z162_254, z162_257, z162_258, z162_259, z162_262, z162_266, z162_269, HQ_r0, HQ_r1, HQ_r2, HQ_r3, HQ_r4, HQ_r5, HQ_r6, HQ_r7, HQ_r8, HQ_r9, HQ_r10, HQ_r11, HQ_r12, HQ_r13, HQ_r14, HQ_r15, HQ_r16, HQ_r17, HQ_r18, HQ_r19, HQ_r20, HQ_r21, HQ_r22, HQ_r23, HQ_r24, HQ_r25, HQ_r26, HQ_r27, HQ_r28, HQ_r29, HQ_r30, HQ_r31, HQ_r32, HQ_r33, HQ_r34, HQ_r35, HQ_r36, HQ_r37, HQ_r38, HQ_r39, HQ_r40, HQ_r41, HQ_r42, HQ_r43, HQ_r44, HQ_r45, HQ_r46, HQ_r47, HQ_r48, HQ_r49, HQ_r50, HQ_r51, HQ_r52, HQ_r53, HQ_r54, HQ_r55, HQ_r56, HQ_r57, HQ_r58, HQ_r59, HQ_r60, HQ_r61, HQ_r62, HQ_r63, HQ_r64, HQ_r65, HQ_r66, HQ_r67, HQ_r68, HQ_r69, HQ_r70, HQ_r71, HQ_r72, HQ_r73, HQ_r74, HQ_r75, HQ_r76, HQ_r77, HQ_r78, HQ_r79, HQ_r80, HQ_r81, HQ_r82, HQ_r83, HQ_r84, HQ_r85, HQ_r86, HQ_r87, HQ_r88, HQ_r89, HQ_r90, HQ_r91, HQ_r92, HQ_r93, HQ_r94, HQ_r95, HQ_r96, HQ_r97, HQ_r98, HQ_r99, HQ_r100, HQ_r101, HQ_r102, HQ_r103, HQ_r104, HQ_r105, HQ_r106, HQ_r107, HQ_r108, HQ_r109, HQ_r110, HQ_r111, HQ_r112, HQ_r113, HQ_r114, HQ_r115, HQ_r116, HQ_r117, HQ_r118, HQ_r119, HQ_r120, HQ_r121, HQ_r122, HQ_r123, HQ_r124, HQ_r125, HQ_r126, HQ_r127, HQ_r128, HQ_r129, HQ_r130, HQ_r131, HQ_r132, HQ_r133, HQ_r134, HQ_r135, HQ_r136, HQ_r137, HQ_r138, HQ_r139, HQ_r140, HQ_r141, HQ_r142, HQ_r143, HQ_r144, HQ_r145, HQ_r146, HQ_r147, HQ_r148, HQ_r149, HQ_r150, HQ_r151, HQ_r152, HQ_r153, HQ_r154, HQ_r155, HQ_r156, HQ_r157, HQ_r158, HQ_r159, HQ_r160, HQ_r161, HQ_r162, HQ_r163, HQ_r164, HQ_r165, HQ_r166, HQ_r167, HQ_r168, HQ_r169, HQ_r170, HQ_r171, HQ_r172, HQ_r173, HQ_r174, HQ_r175, HQ_r176, HQ_r177, HQ_r178, HQ_a0, HQ_a1, HQ_a2, HQ_a3, HQ_a4, HQ_w2, HQ_w3, HQ_w17, HQ_w21, HQ_w22, HQ_w24, HQ_b0, HQ_b1, HQ_b2, HQ_b3, HQ_b4, i_m1, i_m8, i_and16, i8_8, ↓reduceIte, ad2, Nat.reduceAdd, se_item, se_now, HQ_im0, ht, hk, lg_0, lg_n, i_10, i_00, itm_0, itm_1, itm_2, itm_3, itm_4, itm_5, itm_6, itw_0, itw_1, itw_2, itw_3, itw_4, itw_5, up_s, HQ_ir, HQ_iw, up_up, mx_c, i_eqll, i_lell, i_ltll, Nat.reduceEqDiff, Nat.reduceLeDiff, Nat.reduceLT, am_then_some, am_tl1, am_tl0, i_addl, i_sub1, tn_of, tn_lit]
theorem cm_row {g : Nat → Nat → Value} {s0 : Nat} {tk : Nat → Int32} {tp : Nat → Int32} {tf : Nat → Int64} {ts : Nat → Int64} {x : Nat} : ∀ (cs : List (Cmd × Nat × Nat)) {n item im pa here : Nat} {cd : Nat → Int32} {it : Nat → Nat → Value} {ni : Nat}, TA tk tf ts n (rowT cs) → plR tp n cs → tk (n + (rowT cs).length) = 12 → tp (n + (rowT cs).length) = Int32.ofNat x → n + (rowT cs).length < 1300 → 2 ≤ ni → ni ≤ 20 → here + 600 + 160 * cs.length < 65536 →
    ∃ item2 im2 pa2 it2 ni2, 2 ≤ ni2 ∧ ni2 ≤ 20 ∧ ∀ d : Nat, am_G (d + 24) 161 0 [some (.ref 6945767432)] [] (HQ g s0 tk tp tf ts n item 2 im pa here cd it ni) = some (none, HQ g s0 tk tp tf ts (n + (rowT cs).length) item2 2 im2 pa2 (here + (codeR here cs).length) (lay cd here (sbs (codeR here cs))) it2 ni2) := by
  intro cs
  induction cs with
  | nil =>
    intro n item im pa here cd it ni hT hp hk ht hn h2 h20 hh
    refine ⟨x, 0, pa, it, ni, h2, h20, fun d => ?_⟩
    have hk' : tk n = 12 := hk
    have ht' : tp n = Int32.ofNat x := ht
    have ne : ¬ tk n = 116 := by rw [hk']; decide
    rw [z161_0]
    simp (disch := (refine id ?_; first | with_reducible exact sva_c | with_reducible exact sva_k | with_reducible exact sva_i | with_reducible exact sva_r | with_reducible exact ITA_k | with_reducible exact ITA_i | with_reducible exact ITA_r | with_unfolding_all exact rfl | assumption | with_reducible exact mx_lt (by omega) | with_reducible exact mx_le (by omega) | with_reducible exact mx_l2 (by assumption) | with_unfolding_all exact Nat.le_of_ble_eq_true rfl | (simp only [am_cat_nil, am_cat_int, am_cat_ref, am_cat_null, am_cat_long, Nat.reduceAdd, Nat.reduceLeDiff]; done) | omega | exact i_nel (by omega) (by omega) (by omega) | exact i_bnd2 (by simp only [am_n, Nat.reduceDiv, Nat.reduceMod, Nat.reduceMul, Nat.reduceAdd]; omega) | exact ITA_k | exact ITA_i | exact ITA_r | (rw [ITA_k]; with_unfolding_all exact rfl) | (simp only [ad2, Nat.reduceAdd]; assumption) | (simp only [ad2, Nat.reduceAdd]; omega) | exact sva_k | exact sva_i | exact sva_r | (rw [sva_k]; with_unfolding_all exact rfl) | fail)) only [z161_1, z161_4, z161_5, z161_7, z161_10, z161_13, HQ_r0, HQ_r1, HQ_r2, HQ_r3, HQ_r4, HQ_r5, HQ_r6, HQ_r7, HQ_r8, HQ_r9, HQ_r10, HQ_r11, HQ_r12, HQ_r13, HQ_r14, HQ_r15, HQ_r16, HQ_r17, HQ_r18, HQ_r19, HQ_r20, HQ_r21, HQ_r22, HQ_r23, HQ_r24, HQ_r25, HQ_r26, HQ_r27, HQ_r28, HQ_r29, HQ_r30, HQ_r31, HQ_r32, HQ_r33, HQ_r34, HQ_r35, HQ_r36, HQ_r37, HQ_r38, HQ_r39, HQ_r40, HQ_r41, HQ_r42, HQ_r43, HQ_r44, HQ_r45, HQ_r46, HQ_r47, HQ_r48, HQ_r49, HQ_r50, HQ_r51, HQ_r52, HQ_r53, HQ_r54, HQ_r55, HQ_r56, HQ_r57, HQ_r58, HQ_r59, HQ_r60, HQ_r61, HQ_r62, HQ_r63, HQ_r64, HQ_r65, HQ_r66, HQ_r67, HQ_r68, HQ_r69, HQ_r70, HQ_r71, HQ_r72, HQ_r73, HQ_r74, HQ_r75, HQ_r76, HQ_r77, HQ_r78, HQ_r79, HQ_r80, HQ_r81, HQ_r82, HQ_r83, HQ_r84, HQ_r85, HQ_r86, HQ_r87, HQ_r88, HQ_r89, HQ_r90, HQ_r91, HQ_r92, HQ_r93, HQ_r94, HQ_r95, HQ_r96, HQ_r97, HQ_r98, HQ_r99, HQ_r100, HQ_r101, HQ_r102, HQ_r103, HQ_r104, HQ_r105, HQ_r106, HQ_r107, HQ_r108, HQ_r109, HQ_r110, HQ_r111, HQ_r112, HQ_r113, HQ_r114, HQ_r115, HQ_r116, HQ_r117, HQ_r118, HQ_r119, HQ_r120, HQ_r121, HQ_r122, HQ_r123, HQ_r124, HQ_r125, HQ_r126, HQ_r127, HQ_r128, HQ_r129, HQ_r130, HQ_r131, HQ_r132, HQ_r133, HQ_r134, HQ_r135, HQ_r136, HQ_r137, HQ_r138, HQ_r139, HQ_r140, HQ_r141, HQ_r142, HQ_r143, HQ_r144, HQ_r145, HQ_r146, HQ_r147, HQ_r148, HQ_r149, HQ_r150, HQ_r151, HQ_r152, HQ_r153, HQ_r154, HQ_r155, HQ_r156, HQ_r157, HQ_r158, HQ_r159, HQ_r160, HQ_r161, HQ_r162, HQ_r163, HQ_r164, HQ_r165, HQ_r166, HQ_r167, HQ_r168, HQ_r169, HQ_r170, HQ_r171, HQ_r172, HQ_r173, HQ_r174, HQ_r175, HQ_r176, HQ_r177, HQ_r178, HQ_a0, HQ_a1, HQ_a2, HQ_a3, HQ_a4, HQ_w2, HQ_w3, HQ_w17, HQ_w21, HQ_w22, HQ_w24, HQ_b0, HQ_b1, HQ_b2, HQ_b3, HQ_b4, i_m1, i_m8, i_and16, i8_8, ↓reduceIte, ad2, Nat.reduceAdd, se_st_end (x := x), se_takes, hk', ht', ne, i_10, i_00, lg_0, lg_n, i_10, i_00, itm_0, itm_1, itm_2, itm_3, itm_4, itm_5, itm_6, itw_0, itw_1, itw_2, itw_3, itw_4, itw_5, up_s, HQ_ir, HQ_iw, up_up, mx_c, i_eqll, i_lell, i_ltll, Nat.reduceEqDiff, Nat.reduceLeDiff, Nat.reduceLT, am_then_some, am_tl1, am_tl0, i_addl, i_sub1, tn_of, tn_lit]
    rfl
  | cons c cs ih =>
    obtain ⟨c, pl, pi⟩ := c
    intro n item im pa here cd it ni hT hp hk ht hn h2 h20 hh
    have hT2 : TA tk tf ts n (c.toks ++ (.sym 116 :: rowT cs)) := hT
    rw [TA_app] at hT2
    obtain ⟨t1, t2, t3⟩ := hT2
    have t2 : tk (n + c.toks.length) = 116 := t2
    obtain ⟨⟨o1, o2, o3, o4, o5⟩, o6⟩ := hp
    have hlen : (rowT ((c, pl, pi) :: cs)).length = c.toks.length + 1 + (rowT cs).length := by show (c.toks ++ (.sym 116 :: rowT cs)).length = _; rw [List.length_append, List.length_cons]; omega
    rw [hlen] at hk ht hn
    have cl := @code_le here pl pi c
    rw [List.length_cons] at hh
    obtain ⟨item2, im2, pa2, it2, ni2, q3, q4, hS⟩ := cm_ok (g := g) (s0 := s0) (tk := tk) (tp := tp) (tf := tf) (ts := ts) (hid := 2) (item := item) (im := im) (pa := pa) (here := here) (cd := cd) (it := it) (ni := ni) (c := c) (pl := pl) (pi := pi) t1 (by rw [t2]; unfold Fq; decide) o1 (by omega) o2 o3 o4 o5 h2 h20 (by omega)
    obtain ⟨item3, im3, pa3, it3, ni3, r3, r4, hR⟩ := ih (n := n + c.toks.length + 1) (item := item2) (im := im2) (pa := pa2) (here := here + (c.code here pl pi).length) (cd := lay cd here (sbs (c.code here pl pi))) (it := it2) (ni := ni2) t3 o6 (by rw [← hk]; congr 1; omega) (by rw [← ht]; congr 1; omega) (by omega) q3 q4 (by omega)
    refine ⟨item3, im3, pa3, it3, ni3, r3, r4, fun d => ?_⟩
    have hR' := hR d
    have hS' := hS d
    rw [z161_0]
    simp (disch := (refine id ?_; first | with_reducible exact sva_c | with_reducible exact sva_k | with_reducible exact sva_i | with_reducible exact sva_r | with_reducible exact ITA_k | with_reducible exact ITA_i | with_reducible exact ITA_r | with_unfolding_all exact rfl | assumption | with_reducible exact mx_lt (by omega) | with_reducible exact mx_le (by omega) | with_reducible exact mx_l2 (by assumption) | with_unfolding_all exact Nat.le_of_ble_eq_true rfl | (simp only [am_cat_nil, am_cat_int, am_cat_ref, am_cat_null, am_cat_long, Nat.reduceAdd, Nat.reduceLeDiff]; done) | omega | exact i_nel (by omega) (by omega) (by omega) | exact i_bnd2 (by simp only [am_n, Nat.reduceDiv, Nat.reduceMod, Nat.reduceMul, Nat.reduceAdd]; omega) | exact ITA_k | exact ITA_i | exact ITA_r | (rw [ITA_k]; with_unfolding_all exact rfl) | (simp only [ad2, Nat.reduceAdd]; assumption) | (simp only [ad2, Nat.reduceAdd]; omega) | exact sva_k | exact sva_i | exact sva_r | (rw [sva_k]; with_unfolding_all exact rfl) | fail)) only [z161_1, z161_4, z161_5, z161_7, z161_10, z161_13, HQ_r0, HQ_r1, HQ_r2, HQ_r3, HQ_r4, HQ_r5, HQ_r6, HQ_r7, HQ_r8, HQ_r9, HQ_r10, HQ_r11, HQ_r12, HQ_r13, HQ_r14, HQ_r15, HQ_r16, HQ_r17, HQ_r18, HQ_r19, HQ_r20, HQ_r21, HQ_r22, HQ_r23, HQ_r24, HQ_r25, HQ_r26, HQ_r27, HQ_r28, HQ_r29, HQ_r30, HQ_r31, HQ_r32, HQ_r33, HQ_r34, HQ_r35, HQ_r36, HQ_r37, HQ_r38, HQ_r39, HQ_r40, HQ_r41, HQ_r42, HQ_r43, HQ_r44, HQ_r45, HQ_r46, HQ_r47, HQ_r48, HQ_r49, HQ_r50, HQ_r51, HQ_r52, HQ_r53, HQ_r54, HQ_r55, HQ_r56, HQ_r57, HQ_r58, HQ_r59, HQ_r60, HQ_r61, HQ_r62, HQ_r63, HQ_r64, HQ_r65, HQ_r66, HQ_r67, HQ_r68, HQ_r69, HQ_r70, HQ_r71, HQ_r72, HQ_r73, HQ_r74, HQ_r75, HQ_r76, HQ_r77, HQ_r78, HQ_r79, HQ_r80, HQ_r81, HQ_r82, HQ_r83, HQ_r84, HQ_r85, HQ_r86, HQ_r87, HQ_r88, HQ_r89, HQ_r90, HQ_r91, HQ_r92, HQ_r93, HQ_r94, HQ_r95, HQ_r96, HQ_r97, HQ_r98, HQ_r99, HQ_r100, HQ_r101, HQ_r102, HQ_r103, HQ_r104, HQ_r105, HQ_r106, HQ_r107, HQ_r108, HQ_r109, HQ_r110, HQ_r111, HQ_r112, HQ_r113, HQ_r114, HQ_r115, HQ_r116, HQ_r117, HQ_r118, HQ_r119, HQ_r120, HQ_r121, HQ_r122, HQ_r123, HQ_r124, HQ_r125, HQ_r126, HQ_r127, HQ_r128, HQ_r129, HQ_r130, HQ_r131, HQ_r132, HQ_r133, HQ_r134, HQ_r135, HQ_r136, HQ_r137, HQ_r138, HQ_r139, HQ_r140, HQ_r141, HQ_r142, HQ_r143, HQ_r144, HQ_r145, HQ_r146, HQ_r147, HQ_r148, HQ_r149, HQ_r150, HQ_r151, HQ_r152, HQ_r153, HQ_r154, HQ_r155, HQ_r156, HQ_r157, HQ_r158, HQ_r159, HQ_r160, HQ_r161, HQ_r162, HQ_r163, HQ_r164, HQ_r165, HQ_r166, HQ_r167, HQ_r168, HQ_r169, HQ_r170, HQ_r171, HQ_r172, HQ_r173, HQ_r174, HQ_r175, HQ_r176, HQ_r177, HQ_r178, HQ_a0, HQ_a1, HQ_a2, HQ_a3, HQ_a4, HQ_w2, HQ_w3, HQ_w17, HQ_w21, HQ_w22, HQ_w24, HQ_b0, HQ_b1, HQ_b2, HQ_b3, HQ_b4, i_m1, i_m8, i_and16, i8_8, ↓reduceIte, ad2, Nat.reduceAdd, hS', hR', se_takes, t2, i_10, i_00, lg_0, lg_n, i_10, i_00, itm_0, itm_1, itm_2, itm_3, itm_4, itm_5, itm_6, itw_0, itw_1, itw_2, itw_3, itw_4, itw_5, up_s, HQ_ir, HQ_iw, up_up, mx_c, i_eqll, i_lell, i_ltll, Nat.reduceEqDiff, Nat.reduceLeDiff, Nat.reduceLT, am_then_some, am_tl1, am_tl0, i_addl, i_sub1, tn_of, tn_lit]
    rw [hlen, show (codeR here ((c, pl, pi) :: cs)) = c.code here pl pi ++ codeR (here + (c.code here pl pi).length) cs from rfl, sbs_app, ← lay_app, sbs_len, List.length_append, show n + c.toks.length + 1 + (rowT cs).length = n + (c.toks.length + 1 + (rowT cs).length) by omega, show here + (c.code here pl pi).length + (codeR (here + (c.code here pl pi).length) cs).length = here + ((c.code here pl pi).length + (codeR (here + (c.code here pl pi).length) cs).length) by omega]
