/-! The kernel's routines (printed by gen/rtpart.py of pure/) -/
set_option maxRecDepth 100000
set_option maxHeartbeats 4000000
theorem xor128 : ∀ {x : Nat}, x < 256 → x ^^^ 128 = (x + 128) % 256 := by
  have : ∀ x : Fin 256, x.val ^^^ 128 = (x.val + 128) % 256 := by decide
  intro x h; exact this ⟨x, h⟩
theorem or_self8 : ∀ {x : Nat}, x ||| x = x := by simp
theorem hl_mk {x y : Nat} (h : y < 256) : (x * 256 + y) / 256 = x := by omega
theorem rt_cmp {G : GE} {a bc de hl ix sp : Nat} {f : Int32} {m : Nat → Nat} {P : PT} (hm : KM m) (hhl : hl < 65536) (hde : de < 65536) (hs : sp + 2 < 65536) :
    ∃ a' f' de' hl', RL G a f bc de hl ix sp 439 m P = RL G a' f' bc de' hl' ix (sp + 2) (wd m sp) m P ∧ a' < 256 ∧ de' < 65536 ∧ hl' < 65536 ∧ cC f' = (sg hl < sg de) := by
  have x1 : hl / 256 < 256 := by omega
  have x2 : de / 256 < 256 := by omega
  refine ⟨_, _, _, _, by simp (disch := first | assumption | omega) only [k_439, k_440, k_442, k_443, k_444, k_446, k_447, k_448, k_450, xor128 x1, xor128 x2, or_self8, wd]; rfl, ?_, ?_, ?_, ?_⟩
  · omega
  · omega
  · omega
  · simp only [fWs_C, fLo_y]
    unfold sg
    apply propext
    split <;> split <;> omega
theorem sl16 {d : Nat} (h : d < 65536) : ((d / 256 * 2 + (if decide (128 ≤ d % 256) = true then 1 else 0)) % 256) * 256 + (d / 256 * 256 + d % 256 * 2 % 256) % 256 = 2 * d % 65536 := by
  by_cases c : 128 ≤ d % 256 <;> simp [c] <;> omega
theorem sl16c {d : Nat} (h : d < 65536) : (d / 256 * 256 + d % 256 * 2 % 256) / 256 = d / 256 := by omega
/-- one turn of PRODUCT's loop -/
theorem mul_it {G : GE} {i x d h ix sp : Nat} {f : Int32} {m : Nat → Nat} {P : PT} (hm : KM m) (hx : x < 65536) (hd : d < 65536) (hh : h < 65536) (hi : i < 16) (hs : sp + 2 < 65536) (hov : 2 * h + d / 32768 * x < 65536) :
    ∃ f', RL G (i + 1) f x d h ix sp 458 m P = if i = 0 then RL G 0 f' x (2 * d % 65536) (2 * h + d / 32768 * x) ix (sp + 2) (wd m sp) m P else RL G i f' x (2 * d % 65536) (2 * h + d / 32768 * x) ix sp 458 m P := by
  have n1 : ¬ 65535 < h + h := by omega
  have e2 := sl16 hd
  have e3 := sl16c hd
  have b1 : (d / 256 * 256 + d % 256 * 2 % 256) < 65536 := by omega
  have b2 : 2 * d % 65536 < 65536 := by omega
  have a1 : (i + 1 + 255) % 256 = i := by omega
  have h2 : (h + h) % 65536 = 2 * h := by omega
  by_cases c : 128 ≤ d / 256
  · have q : d / 32768 = 1 := by omega
    rw [q] at hov ⊢
    have n2 : ¬ 65535 < 2 * h + x := by omega
    have h3 : (2 * h + x) % 65536 = 2 * h + 1 * x := by omega
    by_cases z : i = 0
    · subst z
      refine ⟨_, by rw [k_458 hm hh hh]; simp (disch := first | assumption | omega) only [k_459, k_462, k_464, k_466, k_468, k_469, k_472, k_473, k_475, fAdd_C, fRot_C, fRot_y, fDec_Z, n1, n2, e2, e3, c, a1, h2, h3, decide_true, not_true, ↓reduceIte]; rfl⟩
    · refine ⟨_, by rw [k_458 hm hh hh]; simp (disch := first | assumption | omega) only [k_459, k_462, k_464, k_466, k_468, k_469, k_472, k_473, k_475, fAdd_C, fRot_C, fRot_y, fDec_Z, n1, n2, e2, e3, c, a1, h2, h3, z, not_false_eq_true, decide_true, not_true, ↓reduceIte]; rfl⟩
  · have q : d / 32768 = 0 := by omega
    rw [q] at hov ⊢
    have h3 : 2 * h + 0 * x = 2 * h := by omega
    rw [h3]
    by_cases z : i = 0
    · subst z
      refine ⟨_, by rw [k_458 hm hh hh]; simp (disch := first | assumption | omega) only [k_459, k_462, k_464, k_466, k_468, k_469, k_472, k_473, k_475, fAdd_C, fRot_C, fRot_y, fDec_Z, n1, e2, e3, c, a1, h2, not_false_eq_true, Bool.false_eq_true, decide_false, not_true, ↓reduceIte]; rfl⟩
    · refine ⟨_, by rw [k_458 hm hh hh]; simp (disch := first | assumption | omega) only [k_459, k_462, k_464, k_466, k_468, k_469, k_472, k_473, k_475, fAdd_C, fRot_C, fRot_y, fDec_Z, n1, e2, e3, c, a1, h2, z, not_false_eq_true, Bool.false_eq_true, decide_false, not_true, ↓reduceIte]; rfl⟩
/-- .. when it is too much -/
theorem mul_ov {G : GE} {i x d h ix sp : Nat} {f : Int32} {m : Nat → Nat} {P : PT} (hm : KM m) (hx : x < 65536) (hd : d < 65536) (hh : h < 65536) (hi : i < 16) (hov : ¬ 2 * h + d / 32768 * x < 65536) :
    ∃ a' f' d' h', RL G (i + 1) f x d h ix sp 458 m P = RL G a' f' x d' h' ix sp 64 m P := by
  have e2 := sl16 hd
  have e3 := sl16c hd
  have b1 : (d / 256 * 256 + d % 256 * 2 % 256) < 65536 := by omega
  have b2 : 2 * d % 65536 < 65536 := by omega
  by_cases n1 : 65535 < h + h
  · exact ⟨_, _, _, _, by simp (disch := first | assumption | omega) only [k_458, k_459, fAdd_C, n1, ↓reduceIte]; rfl⟩
  have h2 : (h + h) % 65536 = 2 * h := by omega
  by_cases c : 128 ≤ d / 256
  · have q : d / 32768 = 1 := by omega
    rw [q] at hov
    have n2 : 65535 < 2 * h + x := by omega
    exact ⟨_, _, _, _, by simp (disch := first | assumption | omega) only [k_458, k_459, k_462, k_464, k_466, k_468, k_469, fAdd_C, fRot_C, fRot_y, n1, n2, e2, e3, c, h2, decide_true, not_true, ↓reduceIte]; rfl⟩
  · have q : d / 32768 = 0 := by omega
    rw [q] at hov
    omega
theorem mul_ar {x h d i : Nat} (hd : d < 65536) (hi : i ≤ 15) : (2 * h + d / 32768 * x) * 2 ^ i + x * (2 * d % 65536 / 2 ^ (16 - i)) = h * 2 ^ (i + 1) + x * (d / 2 ^ (15 - i)) := by
  have hp : 2 ^ (16 - i) = 2 * 2 ^ (15 - i) := by rw [show 16 - i = (15 - i) + 1 by omega, Nat.pow_succ]; omega
  have hq : 2 ^ (15 - i) * 2 ^ i = 32768 := by rw [← Nat.pow_add, show 15 - i + i = 15 by omega]
  have hpos : 0 < 2 ^ (15 - i) := Nat.two_pow_pos _
  have e1 : 2 * d % 65536 = 2 * (d % 32768) := by omega
  have e2 : d = d % 32768 + 2 ^ (15 - i) * (2 ^ i * (d / 32768)) := by rw [← Nat.mul_assoc, hq]; omega
  have e3 : d / 2 ^ (15 - i) = d % 32768 / 2 ^ (15 - i) + 2 ^ i * (d / 32768) := by
    conv => lhs; rw [e2]
    rw [Nat.add_mul_div_left _ _ hpos]
  rw [e1, hp, Nat.mul_div_mul_left _ _ (by decide), e3, Nat.pow_succ]
  generalize d % 32768 / 2 ^ (15 - i) = u
  generalize d / 32768 = v
  generalize 2 ^ i = w
  rw [Nat.add_mul, Nat.mul_add]
  have : v * x * w = x * (w * v) := by rw [Nat.mul_comm v x, Nat.mul_assoc, Nat.mul_comm v w]
  rw [this, Nat.mul_comm 2 h, Nat.mul_assoc, Nat.mul_comm 2 w]
  omega
theorem mul_loop {G : GE} {x ix sp : Nat} {m : Nat → Nat} {P : PT} (hm : KM m) (hx : x < 65536) (hs : sp + 2 < 65536) : ∀ (i d h : Nat) (f : Int32), i < 16 → d < 65536 → h < 65536 →
    if h * 2 ^ (i + 1) + x * (d / 2 ^ (15 - i)) < 65536 then ∃ f' d', d' < 65536 ∧ RL G (i + 1) f x d h ix sp 458 m P = RL G 0 f' x d' (h * 2 ^ (i + 1) + x * (d / 2 ^ (15 - i))) ix (sp + 2) (wd m sp) m P
    else ∃ a' f' d' h', RL G (i + 1) f x d h ix sp 458 m P = RL G a' f' x d' h' ix sp 64 m P := by
  intro i
  induction i with
  | zero =>
    intro d h f hi hd hh
    have ar := mul_ar (x := x) (h := h) (i := 0) hd (by omega)
    have e0 : 2 * d % 65536 / 2 ^ (16 - 0) = 0 := by omega
    rw [e0] at ar
    by_cases c : 2 * h + d / 32768 * x < 65536
    · obtain ⟨f', hf⟩ := mul_it (G := G) (ix := ix) (sp := sp) (f := f) (P := P) hm hx hd hh hi hs c
      have e1 : h * 2 ^ (0 + 1) + x * (d / 2 ^ (15 - 0)) = 2 * h + d / 32768 * x := by omega
      rw [e1, if_pos c]
      exact ⟨f', _, by omega, hf⟩
    · have e1 : h * 2 ^ (0 + 1) + x * (d / 2 ^ (15 - 0)) = 2 * h + d / 32768 * x := by omega
      rw [e1, if_neg c]
      exact mul_ov hm hx hd hh hi c
  | succ i ih =>
    intro d h f hi hd hh
    have ar := mul_ar (x := x) (h := h) (i := i + 1) hd (by omega)
    rw [← ar]
    by_cases c : 2 * h + d / 32768 * x < 65536
    · obtain ⟨f', hf⟩ := mul_it (G := G) (ix := ix) (sp := sp) (f := f) (P := P) hm hx hd hh hi hs c
      rw [if_neg (Nat.succ_ne_zero i)] at hf
      have := ih (2 * d % 65536) (2 * h + d / 32768 * x) f' (by omega) (by omega) c
      rw [show 15 - i = 16 - (i + 1) by omega] at this
      rw [hf]
      exact this
    · have big : ¬ (2 * h + d / 32768 * x) * 2 ^ (i + 1) + x * (2 * d % 65536 / 2 ^ (16 - (i + 1))) < 65536 := by
        intro q
        have : 2 * h + d / 32768 * x ≤ (2 * h + d / 32768 * x) * 2 ^ (i + 1) := Nat.le_mul_of_pos_right _ (Nat.two_pow_pos _)
        omega
      rw [if_neg big]
      exact mul_ov hm hx hd hh hi c
theorem rt_mul {G : GE} {a bc x y ix sp : Nat} {f : Int32} {m : Nat → Nat} {P : PT} (hm : KM m) (hb : bc < 65536) (hx : x < 65536) (hy : y < 65536) (hs : sp + 2 < 65536) :
    if x * y < 65536 then ∃ f' d', d' < 65536 ∧ RL G a f bc y x ix sp 451 m P = RL G 0 f' x d' (x * y) ix (sp + 2) (wd m sp) m P
    else ∃ a' f' d' h', RL G a f bc y x ix sp 451 m P = RL G a' f' x d' h' ix sp 64 m P := by
  have e : RL G a f bc y x ix sp 451 m P = RL G (15 + 1) f x y 0 ix sp 458 m P := by
    have b1 : x / 256 * 256 + bc % 256 < 65536 := by omega
    have b2 : (x / 256 * 256 + bc % 256) / 256 * 256 + x % 256 = x := by omega
    simp (disch := first | assumption | omega) only [k_451, k_452, k_453, k_456, b2]
  have := mul_loop (G := G) (ix := ix) (sp := sp) (P := P) hm hx hs 15 y 0 f (by omega) hy (by omega)
  rw [e]
  simpa using this
theorem rd_eq {m : Nat → Nat} {k v : Nat} : rd (up m k v) k = v % 256 := by unfold rd; rw [up_eq]
theorem rd_ne {m : Nat → Nat} {k v i : Nat} (h : i ≠ k) : rd (up m k v) i = rd m i := by unfold rd; rw [up_ne h]
/-- the memories are the same but for a stretch -/
def Sm (lo hi : Nat) (m m' : Nat → Nat) : Prop := ∀ k, (k < lo ∨ hi ≤ k) → m' k = m k
theorem Sm_r {lo hi : Nat} {m : Nat → Nat} : Sm lo hi m m := fun _ _ => rfl
theorem Sm_t {lo hi : Nat} {m m' m'' : Nat → Nat} (h : Sm lo hi m m') (h2 : Sm lo hi m' m'') : Sm lo hi m m'' := fun k hk => (h2 k hk).trans (h k hk)
theorem Sm_up {lo hi k v : Nat} {m m' : Nat → Nat} (h : Sm lo hi m m') (h1 : lo ≤ k) (h2 : k < hi) : Sm lo hi m (up m' k v) := fun i hi => by rw [up_ne (by omega)]; exact h i hi
theorem Sm_w {lo hi lo' hi' : Nat} {m m' : Nat → Nat} (h : Sm lo hi m m') (h1 : lo' ≤ lo) (h2 : hi ≤ hi') : Sm lo' hi' m m' := fun k hk => h k (by omega)
theorem Sm_rd {lo hi k : Nat} {m m' : Nat → Nat} (h : Sm lo hi m m') (hk : k < lo ∨ hi ≤ k) : rd m' k = rd m k := by unfold rd; rw [h k hk]
theorem Sm_wd {lo hi k : Nat} {m m' : Nat → Nat} (h : Sm lo hi m m') (hk : k + 1 < lo ∨ hi ≤ k) : wd m' k = wd m k := by unfold wd; rw [Sm_rd h (by omega), Sm_rd h (by omega)]
theorem Sm_KM {lo hi : Nat} {m m' : Nat → Nat} (h : Sm lo hi m m') (hm : KM m) (h1 : 1895 ≤ lo) : KM m' := fun i hi => by rw [Sm_rd h (by omega)]; exact hm i hi
/-- a word on the stack -/
def pu (m : Nat → Nat) (sp v : Nat) : Nat → Nat := up (up m (sp - 1) (v / 256)) (sp - 2) v
theorem pu_wd {m : Nat → Nat} {sp v : Nat} (h : 2 ≤ sp) (hv : v < 65536) : wd (pu m sp v) (sp - 2) = v := by
  unfold wd pu
  rw [rd_eq, show sp - 2 + 1 = sp - 1 by omega, rd_ne (by omega), rd_eq]
  omega
theorem pu_Sm {m : Nat → Nat} {sp v : Nat} (h : 2 ≤ sp) : Sm (sp - 2) sp m (pu m sp v) := Sm_up (Sm_up Sm_r (by omega) (by omega)) (by omega) (by omega)
theorem rt_neg {G : GE} {a bc de hl ix sp : Nat} {f : Int32} {m : Nat → Nat} {P : PT} (hm : KM m) (ha : a < 256) (hhl : hl < 65536) (hs : sp + 2 < 65536) :
    ∃ a' f', a' < 256 ∧ RL G a f bc de hl ix sp 1594 m P = RL G a' f' bc de ((65536 - hl) % 65536) ix (sp + 2) (wd m sp) m P := by
  have z : a ^^^ a = 0 := Nat.xor_self a
  have e : ∀ u, u = hl % 256 → (if (0 : Nat) < u then 1 else 0) = (if 0 < hl % 256 then 1 else 0) := fun u hu => by rw [hu]
  have b1 : hl % 256 < 256 := by omega
  have q : ((((0 + 256 - hl % 256) % 256 + 512 - (0 + 256 - hl % 256) % 256 - (if 0 < hl % 256 + 0 then 1 else 0)) % 256 + 256 - hl / 256) % 256) * 256 + (hl / 256 * 256 + (0 + 256 - hl % 256) % 256) % 256 = (65536 - hl) % 65536 := by
    split <;> omega
  have cy : ∀ u v c, cyn (fMi u v c) = if u < v + c then 1 else 0 := fun u v c => by unfold cyn; simp only [fMi_C]
  have b2 : hl / 256 * 256 + (0 + 256 - hl % 256) % 256 < 65536 := by omega
  have b3 : (hl / 256 * 256 + (0 + 256 - hl % 256) % 256) / 256 = hl / 256 := by omega
  have b4 : (0 + 256 - hl % 256) % 256 < 256 := by omega
  refine ⟨_, _, ?_, by simp (disch := first | assumption | omega) only [k_1594, k_1595, k_1596, k_1597, k_1598, k_1599, k_1600, z, cy, b3, q]; rfl⟩
  omega
theorem rt_abs {G : GE} {a bc de hl ix sp : Nat} {f : Int32} {m : Nat → Nat} {P : PT} (hm : KM m) (ha : a < 256) (hhl : hl < 65536) (hs : sp + 2 < 65536) :
    ∃ a' f', a' < 256 ∧ RL G a f bc de hl ix sp 1591 m P = RL G a' f' bc de (if hl < 32768 then hl else 65536 - hl) ix (sp + 2) (wd m sp) m P := by
  by_cases c : hl < 32768
  · have n : ¬ 128 ≤ hl / 256 := by omega
    rw [if_pos c]
    refine ⟨_, _, ?_, by simp (disch := first | assumption | omega) only [k_1591, k_1592, k_1593, or_self8, fLo_S, n, not_false_eq_true, ↓reduceIte]; rfl⟩
    omega
  · have n : 128 ≤ hl / 256 := by omega
    rw [if_neg c]
    obtain ⟨a', f', h1, h2⟩ := rt_neg (G := G) (a := hl / 256) (bc := bc) (de := de) (f := fLo (hl / 256) false) (ix := ix) (P := P) hm (by omega) hhl hs
    rw [show (65536 - hl) % 65536 = 65536 - hl by omega] at h2
    refine ⟨a', f', h1, ?_⟩
    rw [← h2]
    simp (disch := first | assumption | omega) only [k_1591, k_1592, k_1593, or_self8, fLo_S, n, not_true, ↓reduceIte]
theorem fB_lt {f : Int32} : fB f < 256 := by
  unfold fB
  have h : (f &&& 255).toBitVec.toNat < 256 := by
    show (f.toBitVec &&& 255#32).toNat < 256
    rw [BitVec.toNat_and]
    exact Nat.lt_of_le_of_lt Nat.and_le_right (by decide)
  have e : f &&& 255 = Int32.ofNat (f &&& 255).toBitVec.toNat := n_eq (by omega)
  rw [e, tn_of (by omega)]
  exact h
theorem fLo_b {w : Nat} {h : Bool} : fLo w h &&& 255 = fLo w h := by
  rw [fLo_eq]
  cases h <;> by_cases p : 128 ≤ w <;> by_cases q : w = 0 <;> by_cases r : even8 w = true <;> simp [p, q, r] <;> rfl
theorem fDec_b {f : Int32} {v : Nat} : fDec f v &&& 255 = fDec f v := by
  have h : (f &&& 1) &&& 255 = f &&& 1 := by rw [and_k]; rfl
  unfold fDec
  rw [or_and, or_and, or_and, or_and, h, sgV_e]
  by_cases p : 128 ≤ (v + 255) % 256 <;> by_cases q : (v + 255) % 256 = 0 <;> by_cases r : v % 16 = 0 <;> by_cases s : (v + 255) % 256 = 127 <;> simp [p, q, r, s] <;> rfl
def ab (x : Nat) : Nat := if x < 32768 then x else 65536 - x
/-- 16 bits of an int -/
def us (p : Int) : Nat := (p % 65536).toNat
theorem us_lt {p : Int} : us p < 65536 := by unfold us; omega
theorem sg_us {p : Int} (h1 : -32768 ≤ p) (h2 : p ≤ 32767) : sg (us p) = p := by unfold sg us; split <;> omega
theorem us_sg {x : Nat} (h : x < 65536) : us (sg x) = x := by unfold sg us; split <;> omega
theorem xor_hi {x y : Nat} (hx : x < 256) (hy : y < 256) : (128 ≤ x ^^^ y) = ¬ ((128 ≤ x) ↔ (128 ≤ y)) := by
  have e : (x ^^^ y) >>> 7 = x >>> 7 ^^^ y >>> 7 := Nat.shiftRight_xor_distrib
  simp only [Nat.shiftRight_eq_div_pow, Nat.reducePow] at e
  have lt : x ^^^ y < 256 := Nat.xor_lt_two_pow (n := 8) hx hy
  apply propext
  rcases (show x / 128 = 0 ∨ x / 128 = 1 by omega) with a | a <;> rcases (show y / 128 = 0 ∨ y / 128 = 1 by omega) with b | b <;> rw [a, b] at e
  · have : (x ^^^ y) / 128 = 0 := e.trans rfl
    omega
  · have : (x ^^^ y) / 128 = 1 := e.trans rfl
    omega
  · have : (x ^^^ y) / 128 = 1 := e.trans rfl
    omega
  · have : (x ^^^ y) / 128 = 0 := e.trans rfl
    omega
theorem sg_mul {x y : Nat} (hx : x < 65536) (hy : y < 65536) : sg x * sg y = if (x < 32768 ↔ y < 32768) then ((ab x * ab y : Nat) : Int) else -((ab x * ab y : Nat) : Int) := by
  have e : ∀ z, z < 65536 → sg z = if z < 32768 then (ab z : Int) else -(ab z : Int) := by
    intro z hz; unfold sg ab; split <;> omega
  rw [e x hx, e y hy]
  by_cases a : x < 32768 <;> by_cases b : y < 32768 <;> simp only [a, b, if_true, if_false, true_iff, iff_true, false_iff, not_true, not_false_eq_true, Int.neg_mul, Int.mul_neg, Int.neg_neg, Int.natCast_mul, iff_self]
theorem fLo_y' {w : Nat} {h : Bool} : cyn (fLo w h) = 0 := fLo_y
theorem ab_lt {x : Nat} (h : x < 65536) : ab x < 65536 := by unfold ab; split <;> omega
/-- where a trap is reached -/
def TR (G : GE) (n sp : Nat) (m : Nat → Nat) (P : PT) (x : RT) : Prop := ∃ a f bc de hl ix sp' m', KM m' ∧ Sm (sp - 16) sp m m' ∧ x = RL G a f bc de hl ix sp' n m' P
theorem rt_pms {G : GE} {a bc de hl ix sp : Nat} {f : Int32} {m : Nat → Nat} {P : PT} (hm : KM m) (ha : a < 256) (hb : bc < 65536) (hd : de < 65536) (hhl : hl < 65536) (hs0 : 2000 ≤ sp) (hs : sp + 2 < 65536) :
    if -32768 ≤ sg hl * sg de ∧ sg hl * sg de ≤ 32767 then ∃ a' f' bc' de' m', a' < 256 ∧ bc' < 65536 ∧ de' < 65536 ∧ Sm (sp - 16) sp m m' ∧ RL G a f bc de hl ix sp 476 m P = RL G a' f' bc' de' (us (sg hl * sg de)) ix (sp + 2) (wd m sp) m' P
    else TR G 64 sp m P (RL G a f bc de hl ix sp 476 m P) := by
  have hA1 := ab_lt hhl
  have hA2 := ab_lt hd
  have lx : hl / 256 ^^^ de / 256 < 256 := Nat.xor_lt_two_pow (n := 8) (by omega) (by omega)
  obtain ⟨X, hX⟩ : ∃ X, X = hl / 256 ^^^ de / 256 := ⟨_, rfl⟩
  obtain ⟨M1, hM1⟩ : ∃ M, M = pu m sp (X * 256 + fB (fLo X false)) := ⟨_, rfl⟩
  obtain ⟨M2, hM2⟩ : ∃ M, M = pu M1 (sp - 2) 482 := ⟨_, rfl⟩
  obtain ⟨M3, hM3⟩ : ∃ M, M = pu M2 (sp - 2) 486 := ⟨_, rfl⟩
  obtain ⟨M4, hM4⟩ : ∃ M, M = pu M3 (sp - 2) 489 := ⟨_, rfl⟩
  have s1 : Sm (sp - 2) sp m M1 := by rw [hM1]; exact pu_Sm (by omega)
  have k1 : KM M1 := Sm_KM s1 hm (by omega)
  have t2 : Sm (sp - 4) (sp - 2) M1 M2 := by rw [hM2]; exact Sm_w (pu_Sm (by omega)) (by omega) (by omega)
  have t3 : Sm (sp - 4) (sp - 2) M2 M3 := by rw [hM3]; exact Sm_w (pu_Sm (by omega)) (by omega) (by omega)
  have t4 : Sm (sp - 4) (sp - 2) M3 M4 := by rw [hM4]; exact Sm_w (pu_Sm (by omega)) (by omega) (by omega)
  have k2 : KM M2 := Sm_KM t2 k1 (by omega)
  have k3 : KM M3 := Sm_KM t3 k2 (by omega)
  have k4 : KM M4 := Sm_KM t4 k3 (by omega)
  have t14 : Sm (sp - 4) (sp - 2) M1 M4 := Sm_t t2 (Sm_t t3 t4)
  have s4 : Sm (sp - 16) sp m M4 := Sm_t (Sm_w s1 (by omega) (by omega)) (Sm_w t14 (by omega) (by omega))
  have w2 : wd M2 (sp - 2 - 2) = 482 := by rw [hM2]; exact pu_wd (by omega) (by omega)
  have w3 : wd M3 (sp - 2 - 2) = 486 := by rw [hM3]; exact pu_wd (by omega) (by omega)
  have w4 : wd M4 (sp - 2 - 2) = 489 := by rw [hM4]; exact pu_wd (by omega) (by omega)
  have p4 : sp - 2 - 2 + 2 = sp - 2 := by omega
  obtain ⟨a1, f1, b1, e1⟩ := rt_abs (G := G) (a := X) (bc := bc) (de := de) (hl := hl) (ix := ix) (f := fLo X false) (P := P) (sp := sp - 2 - 2) k2 (by omega) hhl (by omega)
  obtain ⟨a2, f2, b2, e2⟩ := rt_abs (G := G) (a := a1) (bc := bc) (de := ab hl) (hl := de) (ix := ix) (f := f1) (P := P) (sp := sp - 2 - 2) k3 b1 hd (by omega)
  have e3 := rt_mul (G := G) (a := a2) (bc := bc) (x := ab de) (y := ab hl) (ix := ix) (f := f2) (P := P) (sp := sp - 2 - 2) k4 hb hA2 hA1 (by omega)
  rw [w2, p4] at e1
  rw [w3, p4] at e2
  rw [w4, p4] at e3
  have start : RL G a f bc de hl ix sp 476 m P = RL G a2 f2 bc (ab hl) (ab de) ix (sp - 2 - 2) 451 M4 P := by
    rw [k_476 hm hhl, k_477 hm (by omega) hd, ← hX, k_478 hm (by omega) (by omega) (by omega) fLo_b, show up (up m (sp - 1) ((X * 256 + fB (fLo X false)) / 256)) (sp - 2) (X * 256 + fB (fLo X false)) = M1 from hM1.symm, k_479 k1 (by omega) (by omega)]
    rw [show up (up M1 (sp - 2 - 1) 1) (sp - 2 - 2) 482 = M2 from hM2.symm, e1, k_482 k2 (by show ab hl < 65536; exact hA1) hd, k_483 k2 (by omega) (by omega)]
    rw [show up (up M2 (sp - 2 - 1) 1) (sp - 2 - 2) 486 = M3 from hM3.symm]
    refine Eq.trans e2 ?_
    rw [k_486 k3 (by omega) (by omega), show up (up M3 (sp - 2 - 1) 1) (sp - 2 - 2) 489 = M4 from hM4.symm, k_106 k4]
    rfl
  -- the sign's byte
  have r1 : rd M4 (sp - 2 + 1) = X := by
    have := @fB_lt (fLo X false)
    rw [show sp - 2 + 1 = sp - 1 by omega, Sm_rd t14 (by omega), hM1]; unfold pu; rw [rd_ne (by omega), rd_eq]; omega
  have sx : (128 ≤ X) = ¬ ((hl < 32768) ↔ (de < 32768)) := by
    rw [hX, xor_hi (by omega) (by omega)]
    apply propext
    constructor <;> intro z q <;> apply z <;> omega
  have pm : ab de * ab hl = ab hl * ab de := Nat.mul_comm _ _
  rw [pm] at e3
  have sm := sg_mul hhl hd
  obtain ⟨v, hv⟩ : ∃ v, v = ab hl * ab de := ⟨_, rfl⟩
  rw [← hv] at e3 sm
  have sp2 : sp - 2 + 2 = sp := by omega
  by_cases big : v < 65536
  · rw [if_pos big] at e3
    obtain ⟨f3, d3, hd3, e3⟩ := e3
    have run : RL G a f bc de hl ix sp 476 m P = RL G X (fLo X false) (ab de) d3 v ix sp 491 M4 P := by
      rw [start, e3, k_489 k4 (by omega), k_490 k4 (by rw [r1]; omega), r1, or_self8, sp2]
    by_cases sgn : hl < 32768 ↔ de < 32768
    · rw [if_pos sgn] at sm
      have nS : ¬ 128 ≤ X := by rw [sx]; simp [sgn]
      have run2 : RL G a f bc de hl ix sp 476 m P = if ¬ v / 256 < 128 then RL G X (fBit (fLo X false) (v / 256)) (ab de) d3 v ix sp 64 M4 P else RL G X (fBit (fLo X false) (v / 256)) (ab de) d3 v ix sp 499 M4 P := by
        rw [run, k_491 k4]
        simp only [fLo_S, nS, if_false]
        rw [k_494 k4 big, k_496 k4]
        simp only [fBit_Z]
      rw [sm]
      by_cases c : v < 32768
      · rw [if_pos (by omega), run2, if_neg (by omega), k_499 k4 hs]
        refine ⟨X, fBit (fLo X false) (v / 256), ab de, d3, M4, by omega, hA2, hd3, s4, ?_⟩
        rw [show us ((v : Nat) : Int) = v by unfold us; omega, Sm_wd s4 (by omega)]
      · rw [if_neg (by omega), run2, if_pos (by omega)]
        exact ⟨_, _, _, _, _, _, _, M4, k4, s4, rfl⟩
    · rw [if_neg sgn] at sm
      have pS : 128 ≤ X := by rw [sx]; exact sgn
      have y0 : cyn (fLo 0 false) = 0 := fLo_y
      obtain ⟨w, hw⟩ : ∃ w, w = (65536 - v) % 65536 := ⟨_, rfl⟩
      have lw : w < 65536 := by omega
      obtain ⟨F, hF⟩ : ∃ F, F = fLo (w / 256 ||| w % 256) false := ⟨_, rfl⟩
      have or0 : (w / 256 ||| w % 256 = 0) = (w = 0) := by
        apply propext
        rw [Nat.or_eq_zero_iff]
        omega
      have run2 : RL G a f bc de hl ix sp 476 m P = if w = 0 then RL G (w / 256 ||| w % 256) F (ab de) v w ix (sp + 2) (wd m sp) M4 P else RL G (w / 256 ||| w % 256) F (ab de) v w ix sp 510 M4 P := by
        rw [run, k_491 k4]
        simp only [fLo_S, pS, if_true]
        rw [k_500 k4 big hd3, k_501 k4, k_504 k4 (by omega), or_self8, k_505 k4 (by omega) big, fLo_y', show (0 + 131072 - v - 0) % 65536 = w by omega, k_507 k4 lw, k_508 k4 (by omega) lw, k_509 k4 hs, Sm_wd s4 (by omega)]
        simp only [fLo_Z, or0, hF]
      have lo : w / 256 ||| w % 256 < 256 := Nat.or_lt_two_pow (n := 8) (by omega) (by omega)
      rw [sm]
      by_cases z : w = 0
      · rw [if_pos (by omega), run2, if_pos z]
        refine ⟨w / 256 ||| w % 256, F, ab de, v, M4, lo, hA2, big, s4, ?_⟩
        rw [show us (-((v : Nat) : Int)) = w by unfold us; omega]
      · have run3 : RL G a f bc de hl ix sp 476 m P = if w / 256 < 128 then RL G (w / 256 ||| w % 256) (fBit F (w / 256)) (ab de) v w ix sp 64 M4 P else RL G (w / 256 ||| w % 256) (fBit F (w / 256)) (ab de) v w ix sp 515 M4 P := by
          rw [run2, if_neg z, k_510 k4 lw, k_512 k4]
          simp only [fBit_Z]
        by_cases c : v ≤ 32768
        · rw [if_pos (by omega), run3, if_neg (by omega), k_515 k4 hs, Sm_wd s4 (by omega)]
          refine ⟨w / 256 ||| w % 256, fBit F (w / 256), ab de, v, M4, lo, hA2, big, s4, ?_⟩
          rw [show us (-((v : Nat) : Int)) = w by unfold us; omega]
        · rw [if_neg (by omega), run3, if_pos (by omega)]
          exact ⟨_, _, _, _, _, _, _, M4, k4, s4, rfl⟩
  · rw [if_neg big] at e3
    obtain ⟨a3, f3, d3, h3, e3⟩ := e3
    rw [if_neg (by rw [sm]; split <;> omega), start, e3]
    exact ⟨_, _, _, _, _, _, _, M4, k4, s4, rfl⟩
/-- one turn of division: BC turns left into HL, DE is taken off where it goes -/
theorem div_it {G : GE} {i r b y ix sp : Nat} {f : Int32} {m : Nat → Nat} {P : PT} (hm : KM m) (hb : b < 65536) (hy : y < 65536) (hr : r < y) (hi : i < 16) (hs : sp + 2 < 65536) :
    ∃ f', f' &&& 255 = f' ∧ RL G (i + 1) f b y r ix sp 1613 m P = if i = 0 then RL G 0 f' (2 * b % 65536 + (if y ≤ 2 * r + b / 32768 then 1 else 0)) y (if y ≤ 2 * r + b / 32768 then 2 * r + b / 32768 - y else 2 * r + b / 32768) ix (sp + 2) (wd m sp) m P
      else RL G i f' (2 * b % 65536 + (if y ≤ 2 * r + b / 32768 then 1 else 0)) y (if y ≤ 2 * r + b / 32768 then 2 * r + b / 32768 - y else 2 * r + b / 32768) ix sp 1613 m P := by
  have e2 := sl16 hb
  have e3 := sl16c hb
  have b1 : (b / 256 * 256 + b % 256 * 2 % 256) < 65536 := by omega
  obtain ⟨B, hB⟩ : ∃ B, B = 2 * b % 65536 := ⟨_, rfl⟩
  rw [← hB] at e2 ⊢
  have lB : B < 65536 := by omega
  have B1 : B / 256 * 256 + (B % 256 + 1) % 256 = B + 1 := by omega
  have a1 : (i + 1 + 255) % 256 = i := by omega
  obtain ⟨t, ht⟩ : ∃ t, t = 2 * r + b / 32768 := ⟨_, rfl⟩
  have adc : ∃ g, RL G (i + 1) f b y r ix sp 1613 m P = RL G (i + 1) g B y (t % 65536) ix sp 1619 m P ∧ cC g = (65535 < t) ∧ (t < 65536 → cyn g = 0) := by
    have q : (if decide (128 ≤ b / 256) = true then 1 else 0) = b / 32768 := by
      by_cases c : 128 ≤ b / 256 <;> simp [c] <;> omega
    refine ⟨_, by rw [k_1613 hm hb]; simp (disch := first | assumption | omega) only [k_1615, k_1617, fRot_y, e2, e3, q, show r + r + b / 32768 = t by omega]; rfl, ?_, ?_⟩
    · rw [fWa_C, fRot_y, q, show r + r + b / 32768 = t by omega]
    · intro h; rw [fWa_y, fRot_y, q, show r + r + b / 32768 = t by omega, if_neg (by omega)]
  obtain ⟨g, eg, gc, gy⟩ := adc
  rw [eg, ← ht, k_1619 hm]
  simp only [gc]
  have lt : t % 65536 < 65536 := by omega
  by_cases c1 : 65535 < t
  · have c2 : y ≤ t := by omega
    rw [if_pos c1, if_pos c2, if_pos c2]
    have d1 : (t % 65536 + 131072 - y - 0) % 65536 = t - y := by omega
    by_cases z : i = 0
    · subst z
      refine ⟨_, fDec_b, by simp (disch := first | assumption | omega) only [k_1628, k_1629, k_1631, k_1632, k_1633, k_1635, fDec_Z, fLo_y, B1, a1, d1, or_self8, not_true, ↓reduceIte]; rfl⟩
    · refine ⟨_, fDec_b, by simp (disch := first | assumption | omega) only [k_1628, k_1629, k_1631, k_1632, k_1633, k_1635, fDec_Z, fLo_y, B1, a1, d1, or_self8, z, not_false_eq_true, ↓reduceIte]; rfl⟩
  · have g0 := gy (by omega)
    have tm : t % 65536 = t := by omega
    rw [if_neg c1, tm, k_1621 hm (by omega) hy, g0, k_1623 hm]
    simp only [fWs_C, g0, Nat.add_zero]
    by_cases c2 : y ≤ t
    · have c3 : ¬ t < y := by omega
      rw [if_pos c2, if_pos c2, if_pos c3]
      have d1 : (t + 131072 - y - 0) % 65536 = t - y := by omega
      by_cases z : i = 0
      · subst z
        refine ⟨_, fDec_b, by simp (disch := first | assumption | omega) only [k_1631, k_1632, k_1633, k_1635, fDec_Z, B1, a1, d1, not_true, ↓reduceIte]; rfl⟩
      · refine ⟨_, fDec_b, by simp (disch := first | assumption | omega) only [k_1631, k_1632, k_1633, k_1635, fDec_Z, B1, a1, d1, z, not_false_eq_true, ↓reduceIte]; rfl⟩
    · have c3 : ¬ ¬ t < y := by omega
      rw [if_neg c2, if_neg c2, if_neg c3]
      have d1 : ((t + 131072 - y - 0) % 65536 + y) % 65536 = t := by omega
      by_cases z : i = 0
      · subst z
        refine ⟨_, fDec_b, by simp (disch := first | assumption | omega) only [k_1625, k_1626, k_1632, k_1633, k_1635, fDec_Z, a1, d1, Nat.add_zero, not_true, ↓reduceIte]; rfl⟩
      · refine ⟨_, fDec_b, by simp (disch := first | assumption | omega) only [k_1625, k_1626, k_1632, k_1633, k_1635, fDec_Z, a1, d1, Nat.add_zero, z, not_false_eq_true, ↓reduceIte]; rfl⟩
theorem div_ar {x y i : Nat} (hx : x < 65536) (hy0 : 0 < y) (hi : i < 16) :
    (x % 2 ^ (i + 1) * 2 ^ (15 - i) + (x / 2 ^ (i + 1)) / y) < 65536 ∧
    (x % 2 ^ (i + 1) * 2 ^ (15 - i) + (x / 2 ^ (i + 1)) / y) / 32768 = x / 2 ^ i % 2 ∧
    2 * (x % 2 ^ (i + 1) * 2 ^ (15 - i) + (x / 2 ^ (i + 1)) / y) % 65536 + (if y ≤ 2 * ((x / 2 ^ (i + 1)) % y) + x / 2 ^ i % 2 then 1 else 0) = x % 2 ^ i * 2 ^ (16 - i) + (x / 2 ^ i) / y ∧
    (if y ≤ 2 * ((x / 2 ^ (i + 1)) % y) + x / 2 ^ i % 2 then 2 * ((x / 2 ^ (i + 1)) % y) + x / 2 ^ i % 2 - y else 2 * ((x / 2 ^ (i + 1)) % y) + x / 2 ^ i % 2) = (x / 2 ^ i) % y := by
  obtain ⟨u, hu⟩ : ∃ u, u = 2 ^ (15 - i) := ⟨_, rfl⟩
  obtain ⟨w, hw⟩ : ∃ w, w = 2 ^ i := ⟨_, rfl⟩
  have huw : u * w = 32768 := by rw [hu, hw, ← Nat.pow_add, show 15 - i + i = 15 by omega]
  have hw0 : 0 < w := by rw [hw]; exact Nat.two_pow_pos _
  have hu0 : 0 < u := by rw [hu]; exact Nat.two_pow_pos _
  have hp1 : 2 ^ (i + 1) = w * 2 := by rw [hw, Nat.pow_succ]
  have hp2 : 2 ^ (16 - i) = u * 2 := by rw [hu, ← Nat.pow_succ, show (15 - i).succ = 16 - i by omega]
  rw [hp1, hp2, ← hu, ← hw]
  obtain ⟨t, ht⟩ : ∃ t, t = x / w % 2 := ⟨_, rfl⟩
  obtain ⟨n, hn⟩ : ∃ n, n = x / (w * 2) := ⟨_, rfl⟩
  obtain ⟨s, hs⟩ : ∃ s, s = x % w := ⟨_, rfl⟩
  have hsw : s < w := by rw [hs]; exact Nat.mod_lt _ hw0
  have hn2 : x / w = 2 * n + t := by rw [hn, ← Nat.div_div_eq_div_mul]; omega
  have hmod : x % (w * 2) = s + w * t := by rw [hs, ht]; exact Nat.mod_mul
  rw [hmod, ← hn, ← ht, ← hs, hn2]
  have ht2 : t < 2 := by omega
  obtain ⟨q, hq⟩ : ∃ q, q = n / y := ⟨_, rfl⟩
  obtain ⟨r, hr⟩ : ∃ r, r = n % y := ⟨_, rfl⟩
  have hry : r < y := by rw [hr]; exact Nat.mod_lt _ hy0
  have hnq : n = q * y + r := by rw [hq, hr, Nat.mul_comm]; exact (Nat.div_add_mod n y).symm
  have hnu : n < u := by
    rw [hn]
    apply Nat.div_lt_of_lt_mul
    have : w * 2 * u = 2 * (u * w) := by rw [Nat.mul_comm (w * 2) u, ← Nat.mul_assoc]; omega
    omega
  have hqn : q ≤ n := by rw [hq]; exact Nat.div_le_self _ _
  have hsu : s * u + u ≤ 32768 := by
    have : (s + 1) * u ≤ w * u := Nat.mul_le_mul_right _ hsw
    rw [Nat.add_mul, Nat.mul_comm w u, huw] at this
    omega
  rw [← hq, ← hr]
  have hb : (s + w * t) * u = s * u + t * 32768 := by
    rw [Nat.add_mul, Nat.mul_comm w t, Nat.mul_assoc, Nat.mul_comm w u, huw]
  have hsu2 : s * (u * 2) = s * u * 2 := (Nat.mul_assoc _ _ _).symm
  rw [hb, hsu2]
  have hdiv : (2 * n + t) / y = 2 * q + (if y ≤ 2 * r + t then 1 else 0) := by
    have e : 2 * n + t = (2 * r + t) + 2 * q * y := by rw [hnq, Nat.mul_add, Nat.mul_assoc]; omega
    rw [e, Nat.add_mul_div_right _ _ hy0]
    split
    · rename_i c
      have : (2 * r + t) / y = 1 := by
        apply Nat.div_eq_of_lt_le <;> omega
      omega
    · rename_i c
      have : (2 * r + t) / y = 0 := Nat.div_eq_of_lt (by omega)
      omega
  have hmd : (2 * n + t) % y = (if y ≤ 2 * r + t then 2 * r + t - y else 2 * r + t) := by
    have e : 2 * n + t = (2 * r + t) + 2 * q * y := by rw [hnq, Nat.mul_add, Nat.mul_assoc]; omega
    rw [e, Nat.add_mul_mod_self_right]
    split
    · rename_i c
      rw [Nat.mod_eq_sub_mod c, Nat.mod_eq_of_lt (by omega)]
    · exact Nat.mod_eq_of_lt (by omega)
  rw [hdiv, hmd]
  obtain ⟨z, hz⟩ : ∃ z, z = s * u := ⟨_, rfl⟩
  rw [← hz] at hsu ⊢
  refine ⟨by omega, by omega, ?_, rfl⟩
  omega
/-- the loop: i + 1 turns are to come; of the dividend x what is above them has gone into r (with its quotient in b) -/
theorem div_loop {G : GE} {x y ix sp : Nat} {m : Nat → Nat} {P : PT} (hm : KM m) (hx : x < 65536) (hy : y < 65536) (hy0 : 0 < y) (hs : sp + 2 < 65536) : ∀ (i : Nat) (f : Int32), i < 16 →
    ∃ f', f' &&& 255 = f' ∧ RL G (i + 1) f (x % 2 ^ (i + 1) * 2 ^ (15 - i) + (x / 2 ^ (i + 1)) / y) y ((x / 2 ^ (i + 1)) % y) ix sp 1613 m P = RL G 0 f' (x / y) y (x % y) ix (sp + 2) (wd m sp) m P := by
  intro i
  induction i with
  | zero =>
    intro f hi
    obtain ⟨q1, q2, q3, q4⟩ := div_ar hx hy0 hi
    obtain ⟨f', hb', hf⟩ := div_it (G := G) (ix := ix) (sp := sp) (f := f) (P := P) hm q1 hy (Nat.mod_lt _ hy0) hi hs
    rw [if_pos rfl, q2, q3, q4] at hf
    refine ⟨f', hb', hf.trans ?_⟩
    simp [Nat.mod_one]
  | succ i ih =>
    intro f hi
    obtain ⟨q1, q2, q3, q4⟩ := div_ar hx hy0 hi
    obtain ⟨f', hb', hf⟩ := div_it (G := G) (ix := ix) (sp := sp) (f := f) (P := P) hm q1 hy (Nat.mod_lt _ hy0) hi hs
    rw [if_neg (Nat.succ_ne_zero i), q2, q3, q4, show 16 - (i + 1) = 15 - i by omega] at hf
    obtain ⟨g, hg0, hg⟩ := ih f' (by omega)
    exact ⟨g, hg0, hf.trans hg⟩
theorem rt_div {G : GE} {a bc x y ix sp : Nat} {f : Int32} {m : Nat → Nat} {P : PT} (hm : KM m) (hb : bc < 65536) (hx : x < 65536) (hy : y < 65536) (hy0 : 0 < y) (hs : sp + 2 < 65536) :
    ∃ f', f' &&& 255 = f' ∧ RL G a f bc y x ix sp 1601 m P = RL G 0 f' (x / y) y (x % y) ix (sp + 2) (wd m sp) m P := by
  obtain ⟨f', hb', hf⟩ := div_loop (G := G) (x := x) (ix := ix) (sp := sp) (P := P) hm hx hy hy0 hs 15 (fLo (y / 256 ||| y % 256) false) (by decide)
  refine ⟨f', hb', Eq.trans ?_ hf⟩
  have o0 : ¬ (y / 256 ||| y % 256 = 0) := by rw [Nat.or_eq_zero_iff]; omega
  have b1 : x / 256 * 256 + bc % 256 < 65536 := by omega
  have b2 : (x / 256 * 256 + bc % 256) / 256 * 256 + x % 256 = x := by omega
  have b3 : y / 256 < 256 := by omega
  have b4 : x % 2 ^ (15 + 1) * 2 ^ (15 - 15) + (x / 2 ^ (15 + 1)) / y = x := by
    rw [show (2 : Nat) ^ (15 + 1) = 65536 from rfl, Nat.mod_eq_of_lt hx, Nat.div_eq_of_lt hx, Nat.zero_div]; simp
  have b5 : (x / 2 ^ (15 + 1)) % y = 0 := by rw [show (2 : Nat) ^ (15 + 1) = 65536 from rfl, Nat.div_eq_of_lt hx, Nat.zero_mod]
  rw [b4, b5]
  simp (disch := first | assumption | omega) only [k_1601, k_1602, k_1603, k_1606, k_1607, k_1608, k_1611, fLo_Z, o0, b2, ↓reduceIte, Nat.reduceAdd]
theorem or_pos {x y : Nat} (h : x ≠ 0 ∨ y ≠ 0) : ¬ (x ||| y = 0) := by rw [Nat.or_eq_zero_iff]; omega
theorem or_lo {x y : Nat} (hx : x < 128) (hy : y < 128) : x ||| y < 128 := Nat.or_lt_two_pow (n := 7) hx hy
theorem or_by {x y : Nat} (hx : x < 256) (hy : y < 256) : x ||| y < 256 := Nat.or_lt_two_pow (n := 8) hx hy
theorem rt_quo {G : GE} {a bc y hl ix sp : Nat} {f : Int32} {m : Nat → Nat} {P : PT} (hm : KM m) (hb : bc < 65536) (hy0 : 0 < y) (hy : y < 32768) (hhl : hl < 65536) (hs0 : 2000 ≤ sp) (hs : sp + 2 < 65536) :
    ∃ a' f' bc' m', a' < 256 ∧ bc' < 65536 ∧ Sm (sp - 16) sp m m' ∧ RL G a f bc y hl ix sp 526 m P = RL G a' f' bc' y (us (sg hl / y)) ix (sp + 2) (wd m sp) m' P := by
  have y1 : ¬ 128 ≤ y / 256 := by omega
  have y2 := or_pos (x := y / 256) (y := y % 256) (by omega)
  have y3 : y / 256 ||| y % 256 < 256 := or_by (by omega) (by omega)
  have y4 : y / 256 < 256 := by omega
  by_cases c : hl < 32768
  · have c1 : hl / 256 < 128 := by omega
    obtain ⟨M2, hM2⟩ : ∃ M, M = pu m sp 555 := ⟨_, rfl⟩
    have t2 : Sm (sp - 2) sp m M2 := by rw [hM2]; exact pu_Sm (by omega)
    have k2 : KM M2 := Sm_KM t2 hm (by omega)
    have w2 : wd M2 (sp - 2) = 555 := by rw [hM2]; exact pu_wd (by omega) (by omega)
    obtain ⟨g, hgb, e⟩ := rt_div (G := G) (a := y / 256 ||| y % 256) (bc := bc) (x := hl) (y := y) (ix := ix) (sp := sp - 2) (f := fBit (fLo (y / 256 ||| y % 256) false) (hl / 256)) (P := P) k2 hb hhl (by omega) hy0 (by omega)
    rw [w2, show sp - 2 + 2 = sp by omega] at e
    have lq : hl / y ≤ hl := Nat.div_le_self _ _
    have lr : hl % y < y := Nat.mod_lt _ hy0
    refine ⟨0, g, hl / y, M2, by omega, by omega, Sm_w t2 (by omega) (by omega), ?_⟩
    have st : RL G a f bc y hl ix sp 526 m P = RL G (y / 256 ||| y % 256) (fBit (fLo (y / 256 ||| y % 256) false) (hl / 256)) bc y hl ix (sp - 2) 1601 M2 P := by
      rw [hM2]
      simp (disch := first | assumption | omega) only [k_526, k_527, k_528, k_531, k_532, k_535, k_537, k_552, or_self8, fLo_S, fLo_Z, fBit_Z, y1, y2, c1, ↓reduceIte]
      rfl
    have q1 : ((hl / y) / 256 * 256 + hl % y % 256) < 65536 := by omega
    have q2 : ((hl / y) / 256 * 256 + hl % y % 256) / 256 * 256 + (hl / y) % 256 = hl / y := by omega
    rw [st, e, k_555 k2 (by omega) (by omega), k_556 k2 (by omega) (by omega), q2, k_557 k2 hs, Sm_wd t2 (by omega)]
    congr 1
    unfold us sg
    rw [if_pos c]
    omega
  · have c1 : ¬ hl / 256 < 128 := by omega
    obtain ⟨M2, hM2⟩ : ∃ M, M = pu m sp 542 := ⟨_, rfl⟩
    have t2 : Sm (sp - 2) sp m M2 := by rw [hM2]; exact pu_Sm (by omega)
    have k2 : KM M2 := Sm_KM t2 hm (by omega)
    have w2 : wd M2 (sp - 2) = 542 := by rw [hM2]; exact pu_wd (by omega) (by omega)
    obtain ⟨M3, hM3⟩ : ∃ M, M = pu M2 sp 547 := ⟨_, rfl⟩
    have t3 : Sm (sp - 2) sp M2 M3 := by rw [hM3]; exact pu_Sm (by omega)
    have k3 : KM M3 := Sm_KM t3 k2 (by omega)
    have w3 : wd M3 (sp - 2) = 547 := by rw [hM3]; exact pu_wd (by omega) (by omega)
    have t13 := Sm_t t2 t3
    obtain ⟨a1, f1, b1, e1⟩ := rt_abs (G := G) (a := y / 256 ||| y % 256) (bc := bc) (de := y) (hl := hl) (ix := ix) (sp := sp - 2) (f := fBit (fLo (y / 256 ||| y % 256) false) (hl / 256)) (P := P) k2 y3 hhl (by omega)
    rw [w2, show sp - 2 + 2 = sp by omega, if_neg c] at e1
    obtain ⟨v, hv⟩ : ∃ v, v = 65536 - hl + y - 1 := ⟨_, rfl⟩
    obtain ⟨g, hgb, e⟩ := rt_div (G := G) (a := a1) (bc := bc) (x := v) (y := y) (ix := ix) (sp := sp - 2) (f := fAdd f1 (65536 - hl) y) (P := P) k3 hb (by omega) (by omega) hy0 (by omega)
    rw [w3, show sp - 2 + 2 = sp by omega] at e
    have lq : v / y ≤ v := Nat.div_le_self _ _
    have lr : v % y < y := Nat.mod_lt _ hy0
    obtain ⟨a2, f2, b2, e2⟩ := rt_neg (G := G) (a := 0) (bc := v / y) (de := y) (hl := v / y) (ix := ix) (sp := sp) (f := g) (P := P) k3 (by omega) (by omega) hs
    refine ⟨a2, f2, v / y, M3, b2, by omega, Sm_w t13 (by omega) (by omega), ?_⟩
    have st : RL G a f bc y hl ix sp 526 m P = RL G (y / 256 ||| y % 256) (fBit (fLo (y / 256 ||| y % 256) false) (hl / 256)) bc y hl ix (sp - 2) 1591 M2 P := by
      rw [hM2]
      simp (disch := first | assumption | omega) only [k_526, k_527, k_528, k_531, k_532, k_535, k_537, k_539, or_self8, fLo_S, fLo_Z, fBit_Z, y1, y2, c1, ↓reduceIte]
      rfl
    have q1 : ((v / y) / 256 * 256 + v % y % 256) < 65536 := by omega
    have q2 : ((v / y) / 256 * 256 + v % y % 256) / 256 * 256 + (v / y) % 256 = v / y := by omega
    have q3 : (65536 - hl + y) % 65536 = 65536 - hl + y := by omega
    have q4 : (65536 - hl + y + 65535) % 65536 = v := by omega
    rw [st, e1, k_542 k2 (by omega) (by omega), q3, k_543 k2 (by omega), q4, k_544 k2 (by omega) (by omega), show up (up M2 (sp - 1) 2) (sp - 2) 547 = M3 from hM3.symm, e,
      k_547 k3 (by omega) (by omega), k_548 k3 (by omega) (by omega), q2, k_549 k3, e2, Sm_wd t13 (by omega)]
    congr 1
    -- floor
    have key : sg hl / y = -((v / y : Nat) : Int) := by
      have hyI : (0 : Int) < y := by omega
      have hd := Nat.div_add_mod v y
      have hcm : ((y * (v / y) : Nat) : Int) = (y : Int) * ((v / y : Nat) : Int) := Int.natCast_mul _ _
      refine ((Int.ediv_emod_unique (a := sg hl) (b := (y : Int)) (r := sg hl + ((y * (v / y) : Nat) : Int)) (q := -((v / y : Nat) : Int)) hyI).mpr ⟨?_, ?_, ?_⟩).1
      · rw [hcm, Int.mul_neg]; omega
      · unfold sg; rw [if_neg c]; omega
      · unfold sg; rw [if_neg c]; omega
    rw [key]
    unfold us
    omega

theorem rt_rst {G : GE} {a bc y hl ix sp : Nat} {f : Int32} {m : Nat → Nat} {P : PT} (hm : KM m) (hb : bc < 65536) (hy0 : 0 < y) (hy : y < 32768) (hhl : hl < 65536) (hs0 : 2000 ≤ sp) (hs : sp + 2 < 65536) :
    ∃ a' f' bc' de' m', a' < 256 ∧ bc' < 65536 ∧ de' < 65536 ∧ Sm (sp - 16) sp m m' ∧ RL G a f bc y hl ix sp 558 m P = RL G a' f' bc' de' (us (sg hl % y)) ix (sp + 2) (wd m sp) m' P := by
  have y1 : ¬ 128 ≤ y / 256 := by omega
  have y2 := or_pos (x := y / 256) (y := y % 256) (by omega)
  have y3 : y / 256 ||| y % 256 < 256 := or_by (by omega) (by omega)
  have y4 : y / 256 < 256 := by omega
  by_cases c : hl < 32768
  · have c1 : hl / 256 < 128 := by omega
    obtain ⟨M2, hM2⟩ : ∃ M, M = pu m sp 590 := ⟨_, rfl⟩
    have t2 : Sm (sp - 2) sp m M2 := by rw [hM2]; exact pu_Sm (by omega)
    have k2 : KM M2 := Sm_KM t2 hm (by omega)
    have w2 : wd M2 (sp - 2) = 590 := by rw [hM2]; exact pu_wd (by omega) (by omega)
    obtain ⟨g, hgb, e⟩ := rt_div (G := G) (a := y / 256 ||| y % 256) (bc := bc) (x := hl) (y := y) (ix := ix) (sp := sp - 2) (f := fBit (fLo (y / 256 ||| y % 256) false) (hl / 256)) (P := P) k2 hb hhl (by omega) hy0 (by omega)
    rw [w2, show sp - 2 + 2 = sp by omega] at e
    have lq : hl / y ≤ hl := Nat.div_le_self _ _
    have lr : hl % y < y := Nat.mod_lt _ hy0
    refine ⟨0, g, hl / y, y, M2, by omega, by omega, by omega, Sm_w t2 (by omega) (by omega), ?_⟩
    have st : RL G a f bc y hl ix sp 558 m P = RL G (y / 256 ||| y % 256) (fBit (fLo (y / 256 ||| y % 256) false) (hl / 256)) bc y hl ix (sp - 2) 1601 M2 P := by
      rw [hM2]
      simp (disch := first | assumption | omega) only [k_558, k_559, k_560, k_563, k_564, k_567, k_569, k_587, or_self8, fLo_S, fLo_Z, fBit_Z, y1, y2, c1, ↓reduceIte]
      rfl
    rw [st, e, k_590 k2 hs, Sm_wd t2 (by omega)]
    congr 1
    unfold us sg
    rw [if_pos c]
    omega
  · have c1 : ¬ hl / 256 < 128 := by omega
    obtain ⟨M2, hM2⟩ : ∃ M, M = pu m sp 574 := ⟨_, rfl⟩
    have t2 : Sm (sp - 2) sp m M2 := by rw [hM2]; exact pu_Sm (by omega)
    have k2 : KM M2 := Sm_KM t2 hm (by omega)
    have w2 : wd M2 (sp - 2) = 574 := by rw [hM2]; exact pu_wd (by omega) (by omega)
    obtain ⟨M3, hM3⟩ : ∃ M, M = pu M2 sp y := ⟨_, rfl⟩
    have t3 : Sm (sp - 2) sp M2 M3 := by rw [hM3]; exact pu_Sm (by omega)
    have k3 : KM M3 := Sm_KM t3 k2 (by omega)
    have w3 : wd M3 (sp - 2) = y := by rw [hM3]; exact pu_wd (by omega) (by omega)
    obtain ⟨M4, hM4⟩ : ∃ M, M = pu M3 (sp - 2) 578 := ⟨_, rfl⟩
    have t4 : Sm (sp - 4) (sp - 2) M3 M4 := by rw [hM4]; exact Sm_w (pu_Sm (by omega)) (by omega) (by omega)
    have k4 : KM M4 := Sm_KM t4 k3 (by omega)
    have w4 : wd M4 (sp - 2 - 2) = 578 := by rw [hM4]; exact pu_wd (by omega) (by omega)
    have w5 : wd M4 (sp - 2) = y := by rw [Sm_wd t4 (by omega), w3]
    have t14 : Sm (sp - 4) sp m M4 := Sm_t (Sm_w (Sm_t t2 t3) (by omega) (by omega)) (Sm_w t4 (by omega) (by omega))
    obtain ⟨a1, f1, b1, e1⟩ := rt_abs (G := G) (a := y / 256 ||| y % 256) (bc := bc) (de := y) (hl := hl) (ix := ix) (sp := sp - 2) (f := fBit (fLo (y / 256 ||| y % 256) false) (hl / 256)) (P := P) k2 y3 hhl (by omega)
    rw [w2, show sp - 2 + 2 = sp by omega, if_neg c] at e1
    obtain ⟨v, hv⟩ : ∃ v, v = 65536 - hl := ⟨_, rfl⟩
    rw [← hv] at e1
    obtain ⟨g, hgb, e⟩ := rt_div (G := G) (a := a1) (bc := bc) (x := v) (y := y) (ix := ix) (sp := sp - 2 - 2) (f := f1) (P := P) k4 hb (by omega) (by omega) hy0 (by omega)
    rw [w4, show sp - 2 - 2 + 2 = sp - 2 by omega] at e
    have lq : v / y ≤ v := Nat.div_le_self _ _
    obtain ⟨r, hr⟩ : ∃ r, r = v % y := ⟨_, rfl⟩
    have lr : r < y := by rw [hr]; exact Nat.mod_lt _ hy0
    rw [← hr] at e
    have st : RL G a f bc y hl ix sp 558 m P = RL G (y / 256 ||| y % 256) (fBit (fLo (y / 256 ||| y % 256) false) (hl / 256)) bc y hl ix (sp - 2) 1591 M2 P := by
      rw [hM2]
      simp (disch := first | assumption | omega) only [k_558, k_559, k_560, k_563, k_564, k_567, k_569, k_571, or_self8, fLo_S, fLo_Z, fBit_Z, y1, y2, c1, ↓reduceIte]
      rfl
    have key : sg hl % y = if r = 0 then 0 else (y : Int) - r := by
      have hyI : (0 : Int) < y := by omega
      have hd := Nat.div_add_mod v y
      rw [← hr] at hd
      have hcm : ((y * (v / y) : Nat) : Int) = (y : Int) * ((v / y : Nat) : Int) := Int.natCast_mul _ _
      have hsg : sg hl = -(v : Int) := by unfold sg; rw [if_neg c]; omega
      split
      · refine ((Int.ediv_emod_unique (a := sg hl) (b := (y : Int)) (r := 0) (q := -((v / y : Nat) : Int)) hyI).mpr ⟨?_, ?_, ?_⟩).2
        · rw [Int.mul_neg, ← hcm]; omega
        · omega
        · omega
      · refine ((Int.ediv_emod_unique (a := sg hl) (b := (y : Int)) (r := (y : Int) - r) (q := -((v / y : Nat) : Int) - 1) hyI).mpr ⟨?_, ?_, ?_⟩).2
        · rw [Int.mul_sub, Int.mul_neg, ← hcm]; omega
        · omega
        · omega
    have r2 : r / 256 ||| r % 256 < 256 := or_by (by omega) (by omega)
    have run : RL G a f bc y hl ix sp 558 m P = if r = 0 then RL G (r / 256 ||| r % 256) (fLo (r / 256 ||| r % 256) false) (v / y) y r ix (sp + 2) (wd m sp) M4 P else RL G (r / 256 ||| r % 256) (fLo (r / 256 ||| r % 256) false) (v / y) y r ix sp 582 M4 P := by
      have o0 : (r / 256 ||| r % 256 = 0) = (r = 0) := by
        apply propext
        rw [Nat.or_eq_zero_iff]
        omega
      rw [st, e1, k_574 k2 (by omega) (by omega) (by omega), show up (up M2 (sp - 1) (y / 256)) (sp - 2) y = M3 from hM3.symm, k_575 k3 (by omega) (by omega), show up (up M3 (sp - 2 - 1) 2) (sp - 2 - 2) 578 = M4 from hM4.symm, e,
        k_578 k4 (by omega), w5, show sp - 2 + 2 = sp by omega, k_579 k4 (by omega), k_580 k4 (by omega) (by omega), k_581 k4 hs, Sm_wd t14 (by omega)]
      simp only [fLo_Z, o0]
    rw [run, key]
    by_cases z : r = 0
    · rw [if_pos z, if_pos z]
      refine ⟨r / 256 ||| r % 256, fLo (r / 256 ||| r % 256) false, v / y, y, M4, r2, by omega, by omega, Sm_w t14 (by omega) (by omega), ?_⟩
      rw [z]; rfl
    · rw [if_neg z, if_neg z]
      rw [k_582 k4 (by omega) (by omega), k_583 k4 r2, or_self8, k_584 k4 (by omega) (by omega), fLo_y, k_586 k4 hs, Sm_wd t14 (by omega)]
      refine ⟨r / 256 ||| r % 256, fWs (fLo (r / 256 ||| r % 256) false) y r, v / y, r, M4, r2, by omega, by omega, Sm_w t14 (by omega) (by omega), ?_⟩
      congr 1
      unfold us
      omega
theorem k_1295 {G : GE} {a bc de hl ix sp : Nat} {f : Int32} {m : Nat → Nat} {P : PT} (hm : KM m) (h0 : a < 256) (h1 : P.ou.length < 2000) : RL G a f bc de hl ix sp 1295 m P = RL G a f bc de hl ix sp 1297 m (P.wou (P.ou ++ [a])) := rl_D303 (kb_1295 hm) (kb_1296 hm) (by decide) h0 h1
theorem k_1308 {G : GE} {a bc de hl ix sp : Nat} {f : Int32} {m : Nat → Nat} {P : PT} (hm : KM m) (h0 : a < 256) (h1 : P.ou.length < 2000) : RL G a f bc de hl ix sp 1308 m P = RL G a f bc de hl ix sp 1310 m (P.wou (P.ou ++ [a])) := rl_D303 (kb_1308 hm) (kb_1309 hm) (by decide) h0 h1
theorem k_1313 {G : GE} {a bc de hl ix sp : Nat} {f : Int32} {m : Nat → Nat} {P : PT} (hm : KM m) (h0 : a < 256) (h1 : P.ou.length < 2000) : RL G a f bc de hl ix sp 1313 m P = RL G a f bc de hl ix sp 1315 m (P.wou (P.ou ++ [a])) := rl_D303 (kb_1313 hm) (kb_1314 hm) (by decide) h0 h1
theorem wou_ou {P : PT} {l : List Nat} : (P.wou l).ou = l := rfl
theorem wou_s {P : PT} : P.wou P.ou = P := rfl
theorem wou_wou {P : PT} {l l2 : List Nat} : (P.wou l).wou l2 = P.wou l2 := rfl
/-- how many digits a number has -/
def nd (a : Nat) : Nat := if h : a ≤ 9 then 1 else nd (a / 10) + 1
termination_by a
decreasing_by omega
theorem nd_le {a : Nat} (h : a < 100000) : nd a ≤ 5 := by
  have s : ∀ n a, a < 10 ^ (n + 1) → nd a ≤ n + 1 := by
    intro n
    induction n with
    | zero => intro a h; unfold nd; rw [dif_pos (by omega)]; omega
    | succ n ih =>
      intro a h
      unfold nd
      split
      · omega
      · have := ih (a / 10) (by rw [Nat.pow_succ] at h; omega)
        omega
  exact s 4 a h
theorem nd_pos {a : Nat} : 1 ≤ nd a := by unfold nd; split <;> omega
theorem wr_dig {G : GE} {ix : Nat} {P : PT} : ∀ (v : Nat) {a B C de sp : Nat} {f : Int32} {m : Nat → Nat}, KM m → v < 65536 → a < 256 → B + nd v < 200 → C < 256 → 2100 + 2 * nd v ≤ sp → sp < 65530 →
    ∃ a' f' de' m', a' < 256 ∧ de' < 65536 ∧ (∀ j, j < nd v → rd m' (sp - 2 * j - 1) = v / 10 ^ j % 10) ∧ Sm (sp - 2 * nd v - 4) sp m m' ∧ RL G a f (B * 256 + C) de v ix sp 1262 m P = RL G a' f' ((B + nd v) * 256 + C) de' 0 ix (sp - 2 * nd v) 1279 m' P := by
  intro v
  induction v using Nat.strongRecOn with
  | _ v ih =>
    intro a B C de sp f m hm hv ha hB hC hs0 hs
    have n0 : 1 ≤ nd v := nd_pos
    obtain ⟨q, hq⟩ : ∃ q, q = v / 10 := ⟨_, rfl⟩
    obtain ⟨r, hr⟩ : ∃ r, r = v % 10 := ⟨_, rfl⟩
    obtain ⟨M1, hM1⟩ : ∃ M, M = pu m sp (B * 256 + C) := ⟨_, rfl⟩
    obtain ⟨M2, hM2⟩ : ∃ M, M = pu M1 (sp - 2) 1269 := ⟨_, rfl⟩
    have t1 : Sm (sp - 2) sp m M1 := by rw [hM1]; exact pu_Sm (by omega)
    have t2 : Sm (sp - 4) (sp - 2) M1 M2 := by rw [hM2]; exact Sm_w (pu_Sm (by omega)) (by omega) (by omega)
    have k1 : KM M1 := Sm_KM t1 hm (by omega)
    have k2 : KM M2 := Sm_KM t2 k1 (by omega)
    have w1 : wd M2 (sp - 2) = B * 256 + C := by rw [Sm_wd t2 (by omega), hM1]; exact pu_wd (by omega) (by omega)
    have w2 : wd M2 (sp - 2 - 2) = 1269 := by rw [hM2]; exact pu_wd (by omega) (by omega)
    obtain ⟨g, hgb, e⟩ := rt_div (G := G) (a := a) (bc := B * 256 + C) (x := v) (y := 10) (ix := ix) (sp := sp - 2 - 2) (f := f) (P := P) k2 (by omega) hv (by omega) (by omega) (by omega)
    rw [w2, show sp - 2 - 2 + 2 = sp - 2 by omega, ← hq, ← hr] at e
    obtain ⟨M3, hM3⟩ : ∃ M, M = pu M2 sp (r * 256 + fB g) := ⟨_, rfl⟩
    have t3 : Sm (sp - 2) sp M2 M3 := by rw [hM3]; exact pu_Sm (by omega)
    have k3 : KM M3 := Sm_KM t3 k2 (by omega)
    have t13 : Sm (sp - 4) sp m M3 := Sm_t (Sm_t (Sm_w t1 (by omega) (by omega)) (Sm_w t2 (by omega) (by omega))) (Sm_w t3 (by omega) (by omega))
    have d0 : rd M3 (sp - 1) = r := by
      have := @fB_lt g
      rw [hM3]; unfold pu; rw [rd_ne (by omega), rd_eq]; omega
    have q1 : (q / 256) * 256 + r % 256 < 65536 := by omega
    have q2 : ((q / 256) * 256 + r % 256) / 256 * 256 + q % 256 = q := by omega
    have o0 : (q / 256 ||| q % 256 = 0) = (q = 0) := by
      apply propext
      rw [Nat.or_eq_zero_iff]
      omega
    have lo : q / 256 ||| q % 256 < 256 := or_by (by omega) (by omega)
    have bb : ((B * 256 + C) / 256 + 1) % 256 * 256 + (B * 256 + C) % 256 = (B + 1) * 256 + C := by omega
    have run : RL G a f (B * 256 + C) de v ix sp 1262 m P = if ¬ q = 0 then RL G (q / 256 ||| q % 256) (fLo (q / 256 ||| q % 256) false) ((B + 1) * 256 + C) 10 q ix (sp - 2) 1262 M3 P else RL G (q / 256 ||| q % 256) (fLo (q / 256 ||| q % 256) false) ((B + 1) * 256 + C) 10 q ix (sp - 2) 1279 M3 P := by
      rw [k_1262 hm (by omega) (by omega) (by omega), show up (up m (sp - 1) ((B * 256 + C) / 256)) (sp - 2) (B * 256 + C) = M1 from hM1.symm, k_1263 k1, k_1266 k1 (by omega) (by omega), show up (up M1 (sp - 2 - 1) 4) (sp - 2 - 2) 1269 = M2 from hM2.symm, e,
        k_1269 k2 (by omega), k_1270 k2 (by omega) (by omega), k_1271 k2 (by omega) (by omega), q2, k_1272 k2 (by omega), w1, show sp - 2 + 2 = sp by omega, k_1273 k2 (by omega) (by omega) (by omega) hgb, show r % 256 = r by omega, show up (up M2 (sp - 1) ((r * 256 + fB g) / 256)) (sp - 2) (r * 256 + fB g) = M3 from hM3.symm, k_1274 k3 (by omega), bb, k_1275 k3 (by omega), k_1276 k3 (by omega) (by omega), k_1277 k3]
      simp only [fLo_Z, o0]
    by_cases z : q = 0
    · have n1 : nd v = 1 := by unfold nd; rw [dif_pos (by omega)]
      rw [run, if_neg (by omega), n1, z]
      refine ⟨_, _, 10, M3, ?_, by omega, ?_, Sm_w t13 (by omega) (by omega), rfl⟩
      · decide
      · intro j hj
        have : j = 0 := by omega
        subst this
        rw [show sp - 2 * 0 - 1 = sp - 1 by omega, d0]
        simp; omega
    · have n1 : nd v = nd q + 1 := by conv => lhs; unfold nd
                                      rw [dif_neg (by omega), hq]
      rw [n1] at hB hs0 ⊢
      obtain ⟨a', f', de', m', h1, h2, h3, h4, h5⟩ := ih q (by omega) (a := q / 256 ||| q % 256) (B := B + 1) (C := C) (de := 10) (sp := sp - 2) (f := fLo (q / 256 ||| q % 256) false) k3 (by omega) lo (by omega) hC (by omega) (by omega)
      rw [run, if_pos z, h5]
      refine ⟨a', f', de', m', h1, h2, ?_, Sm_t (Sm_w t13 (by omega) (by omega)) (Sm_w h4 (by omega) (by omega)), ?_⟩
      · intro j hj
        cases j with
        | zero =>
          rw [show sp - 2 * 0 - 1 = sp - 1 by omega, Sm_rd h4 (by omega), d0]
          simp; omega
        | succ j =>
          have := h3 j (by omega)
          rw [show sp - 2 * (j + 1) - 1 = sp - 2 - 2 * j - 1 by omega, this, hq, Nat.pow_succ, Nat.mul_comm (10 ^ j) 10, Nat.div_div_eq_div_mul]
      · rw [show B + 1 + nd q = B + (nd q + 1) by omega, show sp - 2 - 2 * nd q = sp - 2 * (nd q + 1) by omega]
theorem wr_pad {G : GE} {ix de hl sp B : Nat} {m : Nat → Nat} (hm : KM m) (hB : B < 200) : ∀ (c : Nat) {a : Nat} {f : Int32} {P : PT}, c < 200 → P.ou.length + c < 1999 →
    ∃ a' f' C', a' < 256 ∧ C' < 256 ∧ RL G a f (B * 256 + (c + 1)) de hl ix sp 1293 m P = RL G a' f' (B * 256 + C') de hl ix sp 1300 m (P.wou (P.ou ++ List.replicate (c + 1) 32)) := by
  intro c
  induction c with
  | zero =>
    intro a f P hc hq
    refine ⟨32, fDec f ((B * 256 + (0 + 1)) % 256), 0, by decide, by decide, ?_⟩
    · rw [k_1293 hm, k_1295 hm (by omega) (by omega), k_1297 hm (by omega), k_1298 hm]
      simp only [fDec_Z]
      rw [if_neg (by omega), show (B * 256 + (0 + 1)) / 256 * 256 + ((B * 256 + (0 + 1)) % 256 + 255) % 256 = B * 256 + 0 by omega]
      rfl
  | succ c ih =>
    intro a f P hc hq
    obtain ⟨a', f', C', h1, h2, h3⟩ := ih (a := 32) (f := fDec f ((B * 256 + (c + 1 + 1)) % 256)) (P := (P.wou (P.ou ++ [32]))) (by omega) (by simp [wou_ou]; omega)
    refine ⟨a', f', C', h1, h2, ?_⟩
    rw [k_1293 hm, k_1295 hm (by omega) (by omega), k_1297 hm (by omega), k_1298 hm]
    simp only [fDec_Z]
    rw [if_pos (by omega), show (B * 256 + (c + 1 + 1)) / 256 * 256 + ((B * 256 + (c + 1 + 1)) % 256 + 255) % 256 = B * 256 + (c + 1) by omega, h3]
    rw [wou_ou, wou_wou, List.append_assoc, show [32] ++ List.replicate (c + 1) 32 = List.replicate (c + 1 + 1) 32 from rfl]
theorem wr_dgs {G : GE} {ix de hl C : Nat} {m : Nat → Nat} (hm : KM m) (hC : C < 256) (dg : Nat → Nat) (hdg : ∀ j, dg j < 10) : ∀ (n : Nat) {a sp : Nat} {f : Int32} {P : PT}, n < 200 → 2 * n + 10 ≤ sp → sp < 65530 → P.ou.length + n < 1999 → (∀ j, j < n + 1 → rd m (sp - 2 * j - 1) = dg j) →
    ∃ a' f', a' < 256 ∧ RL G a f ((n + 1) * 256 + C) de hl ix (sp - 2 * (n + 1)) 1310 m P = RL G a' f' C de hl ix (sp + 2) (wd m sp) m (P.wou (P.ou ++ (List.range (n + 1)).reverse.map (fun j => 48 + dg j))) := by
  intro n
  induction n with
  | zero =>
    intro a sp f P hn h1 h2 h3 h4
    have h5 := h4 0 (by omega)
    have h6 := hdg 0
    refine ⟨(dg 0 + 48) % 256, fPl (dg 0) 48 0, by omega, ?_⟩
    · rw [k_1310 hm (by omega), show sp - 2 * (0 + 1) + 1 = sp - 2 * 0 - 1 by omega, h5, k_1311 hm (by omega), k_1313 hm (by omega) (by omega), k_1315 hm (by omega), if_neg (by omega), show sp - 2 * (0 + 1) + 2 = sp by omega, k_1317 hm (by omega), show ((0 + 1) * 256 + C) / 256 + 255 = 256 by omega, show 256 % 256 * 256 + ((0 + 1) * 256 + C) % 256 = C by omega]
      rw [show (dg 0 + 48) % 256 = 48 + dg 0 by omega]
      rfl
  | succ n ih =>
    intro a sp f P hn h1 h2 h3 h4
    have h5 := h4 (n + 1) (by omega)
    have h6 := hdg (n + 1)
    obtain ⟨a', f', g1, g2⟩ := ih (a := (dg (n + 1) + 48) % 256) (sp := sp) (f := fPl (dg (n + 1)) 48 0) (P := (P.wou (P.ou ++ [(dg (n + 1) + 48) % 256]))) (by omega) (by omega) h2 (by simp [wou_ou]; omega) (fun j hj => h4 j (by omega))
    refine ⟨a', f', g1, ?_⟩
    rw [k_1310 hm (by omega), show sp - 2 * (n + 1 + 1) + 1 = sp - 2 * (n + 1) - 1 by omega, h5, k_1311 hm (by omega), k_1313 hm (by omega) (by omega), k_1315 hm (by omega), if_pos (by omega), show sp - 2 * (n + 1 + 1) + 2 = sp - 2 * (n + 1) by omega, show ((n + 1 + 1) * 256 + C) / 256 + 255 = n + 257 by omega, show (n + 257) % 256 * 256 + ((n + 1 + 1) * 256 + C) % 256 = (n + 1) * 256 + C by omega, g2]
    rw [show (dg (n + 1) + 48) % 256 = 48 + dg (n + 1) by omega, wou_ou, wou_wou, List.append_assoc, List.range_succ (n := n + 1)]
    simp
/-- the memories are the same but for the kernel's own words and what lies below the stack -/
def Kp (sp : Nat) (m m' : Nat → Nat) : Prop := ∀ k, ¬ (236 ≤ k ∧ k < 256) → (k < sp - 64 ∨ sp ≤ k) → m' k = m k
theorem Kp_r {sp : Nat} {m : Nat → Nat} : Kp sp m m := fun _ _ _ => rfl
theorem Kp_t {sp : Nat} {m m' m'' : Nat → Nat} (h : Kp sp m m') (h2 : Kp sp m' m'') : Kp sp m m'' := fun k a b => (h2 k a b).trans (h k a b)
theorem Kp_Sm {sp lo hi : Nat} {m m' : Nat → Nat} (h : Sm lo hi m m') (h1 : sp - 64 ≤ lo) (h2 : hi ≤ sp) : Kp sp m m' := fun k _ b => h k (by omega)
theorem Kp_up {sp k v : Nat} {m m' : Nat → Nat} (h : Kp sp m m') (h1 : 236 ≤ k) (h2 : k < 256) : Kp sp m (up m' k v) := fun i a b => by rw [up_ne (by omega)]; exact h i a b
theorem Kp_rd {sp k : Nat} {m m' : Nat → Nat} (h : Kp sp m m') (hk : ¬ (236 ≤ k ∧ k < 256)) (h2 : k < sp - 64 ∨ sp ≤ k) : rd m' k = rd m k := by unfold rd; rw [h k hk h2]
theorem Kp_wd {sp k : Nat} {m m' : Nat → Nat} (h : Kp sp m m') (hk : k + 1 < 236 ∨ 256 ≤ k) (h2 : k + 1 < sp - 64 ∨ sp ≤ k) : wd m' k = wd m k := by unfold wd; rw [Kp_rd h (by omega) (by omega), Kp_rd h (by omega) (by omega)]
theorem Kp_KM {sp : Nat} {m m' : Nat → Nat} (h : Kp sp m m') (hm : KM m) (h1 : 2000 ≤ sp) : KM m' := fun i hi => by rw [Kp_rd h (by omega) (by omega)]; exact hm i hi
/-- what WriteInt writes -/
def wr (x : Int) (w : Nat) : List Nat := List.replicate (w - (nd x.natAbs + (if x < 0 then 1 else 0))) 32 ++ ((if x < 0 then [45] else []) ++ (List.range (nd x.natAbs)).reverse.map (fun j => 48 + x.natAbs / 10 ^ j % 10))
/-- from the sign's byte on -/
theorem rt_num {G : GE} {a bc v w ix sp s : Nat} {f : Int32} {m : Nat → Nat} {P : PT} (hm : KM m) (hb : bc < 65536) (hv : v < 65536) (hw : w < 8) (hs1 : s < 2) (hs0 : 2200 ≤ sp) (hs : sp < 65530) (hP : P.ou.length + 20 < 1999) (hsg : rd m 243 = s) :
    ∃ a' f' bc' de' m', a' < 256 ∧ bc' < 65536 ∧ de' < 65536 ∧ Kp sp m m' ∧ RL G a f bc w v ix sp 1246 m P = RL G a' f' bc' de' 0 ix (sp + 2) (wd m sp) m' (P.wou (P.ou ++ (List.replicate (w - (nd v + s)) 32 ++ ((if s = 1 then [45] else []) ++ (List.range (nd v)).reverse.map (fun j => 48 + v / 10 ^ j % 10))))) := by
  obtain ⟨M1, hM1⟩ : ∃ M, M = up m 242 w := ⟨_, rfl⟩
  have t1 : Kp sp m M1 := by rw [hM1]; exact Kp_up Kp_r (by omega) (by omega)
  have k1 : KM M1 := Kp_KM t1 hm (by omega)
  have n5 := nd_le (a := v) (by omega)
  have n0 := nd_pos (a := v)
  have w0 : w / 256 = 0 := by omega
  have w1 : w % 256 = w := by omega
  have st : RL G a f bc w v ix sp 1246 m P = RL G w (fMi w 41 0) (0 * 256 + bc % 256) w v ix sp 1262 M1 P := by
    have z : fLo (0 ||| 0) false = fLo 0 false := rfl
    rw [k_1246 hm (by omega), w0, k_1247 hm (by omega), or_self8, k_1248 hm]
    simp only [fLo_Z, not_true, ↓reduceIte]
    rw [k_1251 hm (by omega), w1, k_1252 hm (by omega), k_1254 hm]
    simp only [fMi_C]
    rw [if_neg (by omega), k_1257 hm (by omega), ← hM1, k_1260 k1 hb]
  obtain ⟨a2, f2, d2, M2, h1, h2, h3, h4, h5⟩ := wr_dig v (G := G) (a := w) (B := 0) (C := bc % 256) (de := w) (sp := sp) (f := fMi w 41 0) (ix := ix) (P := P) k1 hv (by omega) (by omega) (by omega) (by omega) hs
  have k2 : KM M2 := Sm_KM h4 k1 (by omega)
  have g3 : rd M2 243 = s := by rw [Sm_rd h4 (by omega), hM1, rd_ne (by omega), hsg]
  have g2 : rd M2 242 = w := by rw [Sm_rd h4 (by omega), hM1, rd_eq]; omega
  have t2 : Kp sp m M2 := Kp_t t1 (Kp_Sm h4 (by omega) (by omega))
  obtain ⟨n, hn⟩ : ∃ n, n = nd v - 1 := ⟨_, rfl⟩
  have hn1 : nd v = n + 1 := by omega
  have bcx : ((0 + nd v) * 256 + bc % 256) / 256 = nd v := by omega
  -- C := the letters that are needed; A := the width less them
  have st2 : RL G a f bc w v ix sp 1246 m P = if w < s + nd v then RL G ((w + 256 - (s + nd v)) % 256) (fMi w (s + nd v) 0) (nd v * 256 + (s + nd v)) d2 0 ix (sp - 2 * nd v) 1300 M2 P else
      if w = s + nd v then RL G ((w + 256 - (s + nd v)) % 256) (fMi w (s + nd v) 0) (nd v * 256 + (s + nd v)) d2 0 ix (sp - 2 * nd v) 1300 M2 P else RL G ((w + 256 - (s + nd v)) % 256) (fMi w (s + nd v) 0) (nd v * 256 + (s + nd v)) d2 0 ix (sp - 2 * nd v) 1292 M2 P := by
    rw [st, h5, k_1279 k2, g3, k_1282 k2 (by omega) (by omega), bcx, show (s + nd v) % 256 = s + nd v by omega, k_1283 k2 (by omega) (by omega), bcx, k_1284 k2, g2, k_1287 k2 (by omega) (by omega),
      show (nd v * 256 + (s + nd v)) % 256 = s + nd v by omega, k_1288 k2, k_1290 k2]
    simp only [fMi_C, fMi_Z, Nat.add_zero]
    simp only [show ((w + 512 - (s + nd v) - 0) % 256 = 0) = (w = s + nd v) from propext (by omega)]
  have pads : ∃ a3 f3 C3, a3 < 256 ∧ C3 < 256 ∧ RL G a f bc w v ix sp 1246 m P = RL G a3 f3 (nd v * 256 + C3) d2 0 ix (sp - 2 * nd v) 1300 M2 (P.wou (P.ou ++ List.replicate (w - (nd v + s)) 32)) := by
    by_cases c1 : w < s + nd v
    · refine ⟨_, _, s + nd v, ?_, by omega, by rw [st2, if_pos c1, show w - (nd v + s) = 0 by omega, List.replicate_zero, List.append_nil, wou_s]⟩
      omega
    · by_cases c2 : w = s + nd v
      · refine ⟨_, _, s + nd v, ?_, by omega, by rw [st2, if_neg c1, if_pos c2, show w - (nd v + s) = 0 by omega, List.replicate_zero, List.append_nil, wou_s]⟩
        omega
      · obtain ⟨c, hc⟩ : ∃ c, c = w - (nd v + s) - 1 := ⟨_, rfl⟩
        obtain ⟨a3, f3, C3, q1, q2, q3⟩ := wr_pad (G := G) (ix := ix) (de := d2) (hl := 0) (sp := sp - 2 * nd v) (B := nd v) k2 (by omega) c (a := (w + 256 - (s + nd v)) % 256) (f := fMi w (s + nd v) 0) (P := P) (by omega) (by omega)
        refine ⟨a3, f3, C3, q1, q2, ?_⟩
        rw [st2, if_neg c1, if_neg c2, k_1292 k2 (by omega) (by omega), show (nd v * 256 + (s + nd v)) / 256 * 256 + (w + 256 - (s + nd v)) % 256 = nd v * 256 + (c + 1) by omega, q3, show w - (nd v + s) = c + 1 by omega]
  obtain ⟨a3, f3, C3, q1, q2, q3⟩ := pads
  have len : ((P.wou (P.ou ++ List.replicate (w - (nd v + s)) 32)) : PT).ou.length + 10 < 1999 := by
    show (P.ou ++ _).length + 10 < 1999
    rw [List.length_append, List.length_replicate]; omega
  obtain ⟨P3, hP3⟩ : ∃ p : PT, p = (P.wou (P.ou ++ List.replicate (w - (nd v + s)) 32)) := ⟨_, rfl⟩
  rw [← hP3] at q3 len
  have sgn : ∃ a4 f4, a4 < 256 ∧ RL G a f bc w v ix sp 1246 m P = RL G a4 f4 (nd v * 256 + C3) d2 0 ix (sp - 2 * nd v) 1310 M2 (P3.wou (P3.ou ++ (if s = 1 then [45] else []))) := by
    rw [q3, k_1300 k2, g3, k_1303 k2 (by omega), or_self8, k_1304 k2]
    simp only [fLo_Z]
    by_cases z : s = 0
    · rw [if_pos z, if_neg (by omega)]
      exact ⟨s, fLo s false, by omega, by rw [List.append_nil, wou_s]⟩
    · rw [if_neg z, if_pos (by omega), k_1306 k2, k_1308 k2 (by omega) (by omega)]
      exact ⟨45, _, by omega, rfl⟩
  obtain ⟨a4, f4, q4, q5⟩ := sgn
  obtain ⟨P4, hP4⟩ : ∃ p : PT, p = (P3.wou (P3.ou ++ (if s = 1 then [45] else []))) := ⟨_, rfl⟩
  rw [← hP4] at q5
  have len4 : P4.ou.length + n < 1999 := by
    rw [hP4]
    show (P3.ou ++ _).length + n < 1999
    rw [List.length_append]
    split <;> simp <;> omega
  obtain ⟨a5, f5, q6, q7⟩ := wr_dgs (G := G) (ix := ix) (de := d2) (hl := 0) (C := C3) k2 q2 (fun j => v / 10 ^ j % 10) (fun j => Nat.mod_lt _ (by decide)) n (a := a4) (sp := sp) (f := f4) (P := P4) (by omega) (by omega) hs len4 (fun j hj => h3 j (by omega))
  refine ⟨a5, f5, C3, d2, M2, q6, by omega, h2, t2, ?_⟩
  rw [q5, hn1, q7, Kp_wd t2 (by omega) (by omega), hP4, hP3]
  simp only [wou_ou, wou_wou, List.append_assoc, ← hn1]
def pw (m : Nat → Nat) (k v : Nat) : Nat → Nat := up (up m k v) (k + 1) (v / 256)
theorem pw_wd {m : Nat → Nat} {k v : Nat} (hv : v < 65536) : wd (pw m k v) k = v := by
  unfold wd pw
  rw [rd_ne (by omega), rd_eq, rd_eq]
  omega
theorem pw_Sm {m : Nat → Nat} {k v : Nat} : Sm k (k + 2) m (pw m k v) := Sm_up (Sm_up Sm_r (by omega) (by omega)) (by omega) (by omega)
theorem rt_wri {G : GE} {a bc w hl ix sp : Nat} {f : Int32} {m : Nat → Nat} {P : PT} (hm : KM m) (ha : a < 256) (hb : bc < 65536) (hhl : hl < 65536) (hw : w < 8) (hs0 : 2300 ≤ sp) (hs : sp < 65530) (hP : P.ou.length + 20 < 1999) :
    ∃ a' f' bc' de' hl' m', a' < 256 ∧ bc' < 65536 ∧ de' < 65536 ∧ hl' < 65536 ∧ Kp sp m m' ∧ RL G a f bc w hl ix sp 1318 m P = RL G a' f' bc' de' hl' ix (sp + 2) (wd m sp) m' (P.wou (P.ou ++ wr (sg hl) w)) := by
  have x0 : a ^^^ a = 0 := Nat.xor_self a
  by_cases c : hl < 32768
  · obtain ⟨M1, hM1⟩ : ∃ M, M = up m 243 0 := ⟨_, rfl⟩
    have t1 : Kp sp m M1 := by rw [hM1]; exact Kp_up Kp_r (by omega) (by omega)
    have k1 : KM M1 := Kp_KM t1 hm (by omega)
    have s3 : rd M1 243 = 0 := by rw [hM1, rd_eq]
    obtain ⟨a', f', bc', de', m', h1, h2, h3, h4, h5⟩ := rt_num (G := G) (a := 0) (bc := bc) (v := hl) (w := w) (ix := ix) (sp := sp) (s := 0) (f := fBit (fLo 0 false) (hl / 256)) (P := P) k1 hb hhl hw (by omega) (by omega) hs hP s3
    refine ⟨a', f', bc', de', 0, m', h1, h2, h3, by omega, Kp_t t1 h4, ?_⟩
    have e : wr (sg hl) w = List.replicate (w - (nd hl + 0)) 32 ++ ((if (0 : Nat) = 1 then [45] else []) ++ (List.range (nd hl)).reverse.map (fun j => 48 + hl / 10 ^ j % 10)) := by
      have : sg hl = (hl : Int) := by unfold sg; rw [if_pos c]
      unfold wr
      rw [this, Int.natAbs_natCast, if_neg (by omega), if_neg (by omega), if_neg (by omega)]
    rw [k_1318 hm ha, x0, k_1319 hm hhl, k_1321 hm]
    simp only [fBit_Z]
    rw [if_pos (by omega), k_1330 hm (by omega), ← hM1, k_1333 k1, h5, Kp_wd t1 (by omega) (by omega), e]
  · obtain ⟨v, hv⟩ : ∃ v, v = 65536 - hl := ⟨_, rfl⟩
    obtain ⟨M1, hM1⟩ : ∃ M, M = pu m sp w := ⟨_, rfl⟩
    have t1 : Sm (sp - 2) sp m M1 := by rw [hM1]; exact pu_Sm (by omega)
    have k1 : KM M1 := Sm_KM t1 hm (by omega)
    have w1 : wd M1 (sp - 2) = w := by rw [hM1]; exact pu_wd (by omega) (by omega)
    obtain ⟨M2, hM2⟩ : ∃ M, M = pu M1 (sp - 2) 1327 := ⟨_, rfl⟩
    have t2 : Sm (sp - 4) (sp - 2) M1 M2 := by rw [hM2]; exact Sm_w (pu_Sm (by omega)) (by omega) (by omega)
    have k2 : KM M2 := Sm_KM t2 k1 (by omega)
    have w2 : wd M2 (sp - 2 - 2) = 1327 := by rw [hM2]; exact pu_wd (by omega) (by omega)
    have w3 : wd M2 (sp - 2) = w := by rw [Sm_wd t2 (by omega), w1]
    obtain ⟨a1, f1, b1, e1⟩ := rt_abs (G := G) (a := 0) (bc := bc) (de := w) (hl := hl) (ix := ix) (sp := sp - 2 - 2) (f := fBit (fLo 0 false) (hl / 256)) (P := P) k2 (by omega) hhl (by omega)
    rw [w2, show sp - 2 - 2 + 2 = sp - 2 by omega, if_neg c, ← hv] at e1
    obtain ⟨M3, hM3⟩ : ∃ M, M = up M2 243 1 := ⟨_, rfl⟩
    have t3 : Kp sp m M3 := by rw [hM3]; exact Kp_up (Kp_t (Kp_Sm t1 (by omega) (by omega)) (Kp_Sm t2 (by omega) (by omega))) (by omega) (by omega)
    have k3 : KM M3 := Kp_KM t3 hm (by omega)
    have s3 : rd M3 243 = 1 := by rw [hM3, rd_eq]
    obtain ⟨a', f', bc', de', m', h1, h2, h3, h4, h5⟩ := rt_num (G := G) (a := 1) (bc := bc) (v := v) (w := w) (ix := ix) (sp := sp) (s := 1) (f := f1) (P := P) k3 hb (by omega) hw (by omega) (by omega) hs hP s3
    refine ⟨a', f', bc', de', 0, m', h1, h2, h3, by omega, Kp_t t3 h4, ?_⟩
    have e : wr (sg hl) w = List.replicate (w - (nd v + 1)) 32 ++ ((if (1 : Nat) = 1 then [45] else []) ++ (List.range (nd v)).reverse.map (fun j => 48 + v / 10 ^ j % 10)) := by
      have : (sg hl).natAbs = v := by unfold sg; rw [if_neg c]; omega
      have n : sg hl < 0 := by unfold sg; rw [if_neg c]; omega
      unfold wr
      rw [this, if_pos n, if_pos n, if_pos rfl]
    rw [k_1318 hm ha, x0, k_1319 hm hhl, k_1321 hm]
    simp only [fBit_Z]
    rw [if_neg (by omega), k_1323 hm (by omega) (by omega) (by omega), show up (up m (sp - 1) (w / 256)) (sp - 2) w = M1 from hM1.symm, k_1324 k1 (by omega) (by omega), show up (up M1 (sp - 2 - 1) 5) (sp - 2 - 2) 1327 = M2 from hM2.symm, e1,
      k_1327 k2 (by omega), w3, show sp - 2 + 2 = sp by omega, k_1328 k2, k_1330 k2 (by omega), ← hM3, k_1333 k3, h5, Kp_wd t3 (by omega) (by omega), e]
/-- an index of e: 0 to 3, or trap 2 -/
theorem rt_ix {G : GE} {a bc de hl ix sp RA : Nat} {f : Int32} {m : Nat → Nat} {P : PT} (hm : KM m) (ha : a < 256) (hb : bc < 65536) (hd : de < 65536) (hhl : hl < 65536) (hs0 : 2300 ≤ sp) (hs : sp < 65530) (hRA : wd m sp = RA) (hR0 : 1900 ≤ RA) (hR1 : RA + 70 < sp) (c0 : rd m RA = 0) (c1 : rd m (RA + 1) = 0) (c2 : rd m (RA + 2) = 3) (c3 : rd m (RA + 3) = 0) :
    if hl < 4 then ∃ a' f' bc' de' m', a' < 256 ∧ bc' < 65536 ∧ de' < 65536 ∧ Kp (sp + 2) m m' ∧ RL G a f bc de hl ix sp 1540 m P = RL G a' f' bc' de' hl ix (sp + 2) (RA + 4) m' P
    else ∃ a' f' bc' de' hl' sp' m', KM m' ∧ Kp (sp + 2) m m' ∧ RL G a f bc de hl ix sp 1540 m P = RL G a' f' bc' de' hl' ix sp' 70 m' P := by
  by_cases c : hl < 32768
  · obtain ⟨M1, hM1⟩ : ∃ M, M = pw m sp hl := ⟨_, rfl⟩
    have t1 : Sm sp (sp + 2) m M1 := by rw [hM1]; exact pw_Sm
    have k1 : KM M1 := Sm_KM t1 hm (by omega)
    have w1 : wd M1 sp = hl := by rw [hM1]; exact pw_wd hhl
    obtain ⟨M2, hM2⟩ : ∃ M, M = pw M1 sp (RA + 4) := ⟨_, rfl⟩
    have t2 : Sm sp (sp + 2) M1 M2 := by rw [hM2]; exact pw_Sm
    have k2 : KM M2 := Sm_KM t2 k1 (by omega)
    have w2 : wd M2 sp = RA + 4 := by rw [hM2]; exact pw_wd (by omega)
    obtain ⟨M3, hM3⟩ : ∃ M, M = pu M2 sp hl := ⟨_, rfl⟩
    have t3 : Sm (sp - 2) sp M2 M3 := by rw [hM3]; exact pu_Sm (by omega)
    have k3 : KM M3 := Sm_KM t3 k2 (by omega)
    have w3 : wd M3 (sp - 2) = hl := by rw [hM3]; exact pu_wd (by omega) (by omega)
    have w4 : wd M3 sp = RA + 4 := by rw [Sm_wd t3 (by omega), w2]
    have t13 : Kp (sp + 2) m M3 := Kp_t (Kp_Sm t1 (by omega) (by omega)) (Kp_t (Kp_Sm t2 (by omega) (by omega)) (Kp_Sm t3 (by omega) (by omega)))
    have d0 : rd M1 RA = 0 := by rw [Sm_rd t1 (by omega), c0]
    have d1 : rd M1 (RA + 1) = 0 := by rw [Sm_rd t1 (by omega), c1]
    have d2 : rd M1 (RA + 2) = 3 := by rw [Sm_rd t1 (by omega), c2]
    have d3 : rd M1 (RA + 3) = 0 := by rw [Sm_rd t1 (by omega), c3]
    have x1 : (RA + 1) % 65536 = RA + 1 := by omega
    have x2 : (RA + 1 + 1) % 65536 = RA + 2 := by omega
    have x3 : (RA + 2 + 1) % 65536 = RA + 3 := by omega
    have x4 : (RA + 3 + 1) % 65536 = RA + 4 := by omega
    have st : RL G a f bc de hl ix sp 1540 m P = RL G a (fLo a false) 3 0 hl ix sp 370 M2 P := by
      rw [k_1540 hm hhl, k_1542 hm]
      simp only [fBit_Z]
      rw [if_pos (by omega), k_91 hm, k_359 hm hhl (by omega), hRA, show up (up m sp hl) (sp + 1) (hl / 256) = M1 from hM1.symm, k_360 k1 (by omega) hd, d0, k_361 k1 (by omega), x1, k_362 k1 (by omega) (by omega), d1, k_363 k1 (by omega), x2,
        k_364 k1 (by omega) hb, d2, k_365 k1 (by omega), x3, k_366 k1 (by omega) (by omega), d3, k_367 k1 (by omega), x4, k_368 k1 (by omega) (by omega), w1, show up (up M1 sp (RA + 4)) (sp + 1) ((RA + 4) / 256) = M2 from hM2.symm, k_369 k2 ha, or_self8]
      rw [show 0 * 256 + (de / 256 * 256 + 0) % 256 = 0 by omega, show 0 * 256 + (bc / 256 * 256 + 3) % 256 = 3 by omega]
    have st2 : RL G a f bc de hl ix sp 1540 m P = if 3 < hl then RL G a (fWs (fLo a false) 3 hl) 3 hl hl ix sp 70 M3 P else RL G a (fWs (fLo a false) 3 hl) 3 hl hl ix (sp + 2) (RA + 4) M3 P := by
      rw [st, k_370 k2 hhl (by omega), fLo_y, show (hl + 131072 - 0 - 0) % 65536 = hl by omega, k_372 k2 (by omega) (by omega) hhl, show up (up M2 (sp - 1) (hl / 256)) (sp - 2) hl = M3 from hM3.symm,
        k_373 k3 (by omega) (by omega), k_374 k3 (by omega) (by omega), show (3 / 256 * 256 + 0 % 256) / 256 * 256 + 3 % 256 = 3 by omega, k_375 k3 (by omega) (by omega), k_376 k3 ha, or_self8, k_377 k3 (by omega) (by omega), fLo_y, k_379 k3 (by omega), w3, show sp - 2 + 2 = sp by omega, k_380 k3, k_383 k3 (by omega), w4]
      simp only [fWs_C, fLo_y, Nat.add_zero]
    rw [st2]
    by_cases h4 : hl < 4
    · rw [if_pos h4, if_neg (by omega)]
      exact ⟨a, _, 3, hl, M3, ha, by omega, by omega, t13, rfl⟩
    · rw [if_neg h4, if_pos (by omega)]
      exact ⟨a, _, 3, hl, hl, sp, M3, k3, t13, rfl⟩
  · rw [if_neg (by omega), k_1540 hm hhl, k_1542 hm]
    simp only [fBit_Z]
    rw [if_neg (by omega), k_1545 hm]
    exact ⟨_, _, _, _, _, _, m, hm, Kp_r, rfl⟩
/-- the step of FOR: v and 3 more, or C when it is past the bound -/
theorem rt_nxt {G : GE} {a bc b v ix sp RA : Nat} {f : Int32} {m : Nat → Nat} {P : PT} (hm : KM m) (ha : a < 256) (hb : bc < 65536) (hd : b < 65536) (hv : v < 65536) (hs0 : 2300 ≤ sp) (hs : sp < 65530) (hRA : wd m sp = RA) (hR0 : 1900 ≤ RA) (hR1 : RA + 70 < sp) (c0 : rd m RA = 1) (c1 : rd m (RA + 1) = 3) (c2 : rd m (RA + 2) = 0) :
    ∃ a' f' bc' de' hl' m', a' < 256 ∧ bc' < 65536 ∧ de' < 65536 ∧ hl' < 65536 ∧ Kp (sp + 2) m m' ∧ RL G a f bc b v ix sp 1454 m P = RL G a' f' bc' de' hl' ix (sp + 2) (RA + 3) m' P ∧
      (cC f' = (sg b < sg v + 3)) ∧ (¬ sg b < sg v + 3 → hl' = us (sg v + 3)) := by
  obtain ⟨M1, hM1⟩ : ∃ M, M = pu m sp 1457 := ⟨_, rfl⟩
  have t1 : Sm (sp - 2) sp m M1 := by rw [hM1]; exact pu_Sm (by omega)
  have k1 : KM M1 := Sm_KM t1 hm (by omega)
  have w1 : wd M1 (sp - 2) = 1457 := by rw [hM1]; exact pu_wd (by omega) (by omega)
  obtain ⟨M2, hM2⟩ : ∃ M, M = pw M1 250 b := ⟨_, rfl⟩
  have t2 : Sm 250 252 M1 M2 := by rw [hM2]; exact pw_Sm
  have u2 : wd M2 250 = b := by rw [hM2]; exact pw_wd hd
  have k2 : KM M2 := by rw [hM2]; exact KM_up (KM_up k1 (by omega) (by omega)) (by omega) (by omega)
  obtain ⟨M3, hM3⟩ : ∃ M, M = pw M2 252 v := ⟨_, rfl⟩
  have t3 : Sm 252 254 M2 M3 := by rw [hM3]; exact pw_Sm
  have u3 : wd M3 252 = v := by rw [hM3]; exact pw_wd hv
  have k3 : KM M3 := by rw [hM3]; exact KM_up (KM_up k2 (by omega) (by omega)) (by omega) (by omega)
  have x3 : wd M3 (sp - 2) = 1457 := by rw [Sm_wd t3 (by omega), Sm_wd t2 (by omega), w1]
  have y3 : wd M3 sp = RA := by rw [Sm_wd t3 (by omega), Sm_wd t2 (by omega), Sm_wd t1 (by omega), hRA]
  have d0 : rd M3 RA = 1 := by rw [Sm_rd t3 (by omega), Sm_rd t2 (by omega), Sm_rd t1 (by omega), c0]
  have d1 : rd M3 (RA + 1) = 3 := by rw [Sm_rd t3 (by omega), Sm_rd t2 (by omega), Sm_rd t1 (by omega), c1]
  have d2 : rd M3 (RA + 2) = 0 := by rw [Sm_rd t3 (by omega), Sm_rd t2 (by omega), Sm_rd t1 (by omega), c2]
  have v3 : wd M3 250 = b := by rw [Sm_wd t3 (by omega), u2]
  obtain ⟨M4, hM4⟩ : ∃ M, M = pu M3 (sp + 2) (RA + 3) := ⟨_, rfl⟩
  have t4 : Sm sp (sp + 2) M3 M4 := by rw [hM4]; exact Sm_w (pu_Sm (by omega)) (by omega) (by omega)
  have k4 : KM M4 := Sm_KM t4 k3 (by omega)
  have w4 : wd M4 sp = RA + 3 := by rw [hM4]; exact pu_wd (sp := sp + 2) (by omega) (by omega)
  obtain ⟨M5, hM5⟩ : ∃ M, M = pu M4 sp 3 := ⟨_, rfl⟩
  have t5 : Sm (sp - 2) sp M4 M5 := by rw [hM5]; exact pu_Sm (by omega)
  have k5 : KM M5 := Sm_KM t5 k4 (by omega)
  have w5 : wd M5 (sp - 2) = 3 := by rw [hM5]; exact pu_wd (by omega) (by omega)
  obtain ⟨M6, hM6⟩ : ∃ M, M = pu M5 (sp - 2) 1457 := ⟨_, rfl⟩
  have t6 : Sm (sp - 4) (sp - 2) M5 M6 := by rw [hM6]; exact Sm_w (pu_Sm (by omega)) (by omega) (by omega)
  have k6 : KM M6 := Sm_KM t6 k5 (by omega)
  have w6 : wd M6 (sp - 2 - 2) = 1457 := by rw [hM6]; exact pu_wd (by omega) (by omega)
  have t46 : Sm (sp - 4) (sp + 2) M3 M6 := Sm_t (Sm_w t4 (by omega) (by omega)) (Sm_t (Sm_w t5 (by omega) (by omega)) (Sm_w t6 (by omega) (by omega)))
  have z1 : wd M6 252 = v := by rw [Sm_wd t46 (by omega), u3]
  have z2 : wd M6 250 = b := by rw [Sm_wd t46 (by omega), v3]
  obtain ⟨M7, hM7⟩ : ∃ M, M = pu M6 (sp - 2) b := ⟨_, rfl⟩
  have t7 : Sm (sp - 4) (sp - 2) M6 M7 := by rw [hM7]; exact Sm_w (pu_Sm (by omega)) (by omega) (by omega)
  have k7 : KM M7 := Sm_KM t7 k6 (by omega)
  have w7 : wd M7 (sp - 2 - 2) = b := by rw [hM7]; exact pu_wd (by omega) (by omega)
  obtain ⟨M8, hM8⟩ : ∃ M, M = pu M7 (sp - 2 - 2) v := ⟨_, rfl⟩
  have t8 : Sm (sp - 6) (sp - 4) M7 M8 := by rw [hM8]; exact Sm_w (pu_Sm (by omega)) (by omega) (by omega)
  have k8 : KM M8 := Sm_KM t8 k7 (by omega)
  have w8 : wd M8 (sp - 2 - 2 - 2) = v := by rw [hM8]; exact pu_wd (by omega) (by omega)
  obtain ⟨M9, hM9⟩ : ∃ M, M = pu M8 (sp - 2 - 2 - 2) 1472 := ⟨_, rfl⟩
  have t9 : Sm (sp - 8) (sp - 6) M8 M9 := by rw [hM9]; exact Sm_w (pu_Sm (by omega)) (by omega) (by omega)
  have k9 : KM M9 := Sm_KM t9 k8 (by omega)
  have w9 : wd M9 (sp - 2 - 2 - 2 - 2) = 1472 := by rw [hM9]; exact pu_wd (by omega) (by omega)
  have q1 : wd M9 (sp - 2 - 2 - 2) = v := by rw [Sm_wd t9 (by omega), w8]
  have q2 : wd M9 (sp - 2 - 2) = b := by rw [Sm_wd t9 (by omega), Sm_wd t8 (by omega), w7]
  have q3 : wd M9 (sp - 2) = 3 := by rw [Sm_wd t9 (by omega), Sm_wd t8 (by omega), Sm_wd t7 (by omega), Sm_wd t6 (by omega), w5]
  have q4 : wd M9 sp = RA + 3 := by rw [Sm_wd t9 (by omega), Sm_wd t8 (by omega), Sm_wd t7 (by omega), Sm_wd t6 (by omega), Sm_wd t5 (by omega), w4]
  have tK : Kp (sp + 2) m M9 := by
    have e1 : Kp (sp + 2) m M1 := Kp_Sm t1 (by omega) (by omega)
    have e3 : Kp (sp + 2) m M3 := by rw [hM3, hM2]; exact Kp_up (Kp_up (Kp_up (Kp_up e1 (by omega) (by omega)) (by omega) (by omega)) (by omega) (by omega)) (by omega) (by omega)
    exact Kp_t e3 (Kp_t (Kp_Sm t46 (by omega) (by omega)) (Kp_t (Kp_Sm t7 (by omega) (by omega)) (Kp_t (Kp_Sm t8 (by omega) (by omega)) (Kp_Sm t9 (by omega) (by omega)))))
  obtain ⟨a2, f2, d2', h2', e2, g1, g2, g3, g4⟩ := rt_cmp (G := G) (a := 1) (bc := 1457) (de := v) (hl := b) (ix := ix) (sp := sp - 2 - 2 - 2 - 2) (f := fLo 1 false) (P := P) k9 hd hv (by omega)
  rw [w9, show sp - 2 - 2 - 2 - 2 + 2 = sp - 2 - 2 - 2 by omega] at e2
  have st : RL G a f bc b v ix sp 1454 m P = RL G a2 f2 3 v b ix sp 1482 M9 P := by
    rw [k_1454 hm (by omega) (by omega), show up (up m (sp - 1) 5) (sp - 2) 1457 = M1 from hM1.symm, k_1684 k1 hd, show up (up M1 250 b) 251 (b / 256) = M2 from hM2.symm, k_1688 k2 hv, show up (up M2 252 v) 253 (v / 256) = M3 from hM3.symm,
      k_1691 k3 (by omega), x3, show sp - 2 + 2 = sp by omega, k_1692 k3 (by omega), y3, k_1693 k3 (by omega), d0, k_1694 k3 (by omega), show (RA + 1) % 65536 = RA + 1 by omega, k_1695 k3 (by omega) hd, d1, k_1696 k3 (by omega), show (RA + 1 + 1) % 65536 = RA + 2 by omega,
      k_1697 k3 (by omega) (by omega), d2, show 0 * 256 + (b / 256 * 256 + 3) % 256 = 3 by omega, k_1698 k3 (by omega), show (RA + 2 + 1) % 65536 = RA + 3 by omega, k_1699 k3 (by omega) (by omega) (by omega),
      show up (up M3 (sp + 2 - 1) ((RA + 3) / 256)) (sp + 2 - 2) (RA + 3) = M4 from hM4.symm, show sp + 2 - 2 = sp by omega, k_1700 k4 (by omega) (by omega) (by omega), show up (up M4 (sp - 1) (3 / 256)) (sp - 2) 3 = M5 from hM5.symm,
      k_1701 k5 (by omega) (by omega) (by omega), show up (up M5 (sp - 2 - 1) (1457 / 256)) (sp - 2 - 2) 1457 = M6 from hM6.symm, k_1702 k6 (by omega), w6, show sp - 2 - 2 + 2 = sp - 2 by omega,
      k_1457 k6, z1, k_1461 k6, z2, k_1464 k6 (by omega), or_self8, k_1465 k6]
    simp only [fLo_Z]
    rw [if_neg (by omega), k_1467 k6 (by omega) (by omega) hd, show up (up M6 (sp - 2 - 1) (b / 256)) (sp - 2 - 2) b = M7 from hM7.symm, k_1468 k7 (by omega) (by omega) hv, show up (up M7 (sp - 2 - 2 - 1) (v / 256)) (sp - 2 - 2 - 2) v = M8 from hM8.symm,
      k_1469 k8 (by omega) (by omega), show up (up M8 (sp - 2 - 2 - 2 - 1) 5) (sp - 2 - 2 - 2 - 2) 1472 = M9 from hM9.symm, k_103 k9, e2, k_1472 k9 (by omega), q1, show sp - 2 - 2 - 2 + 2 = sp - 2 - 2 by omega, k_1473 k9 (by omega), q2,
      show sp - 2 - 2 + 2 = sp - 2 by omega, k_1474 k9, k_1481 k9 (by omega), q3, show sp - 2 + 2 = sp by omega]
  by_cases c : sg b < sg v
  · refine ⟨a2, f2, 3, v, b, M9, g1, by omega, hv, hd, tK, ?_, ?_, ?_⟩
    · rw [st, k_1482 k9]
      simp only [g4]
      rw [if_pos c, k_1494 k9 (by omega), q4]
    · rw [g4]; apply propext; omega
    · intro h; omega
  · have cy : cyn f2 = 0 := by unfold cyn; simp only [g4]; rw [if_neg c]
    obtain ⟨t, ht⟩ : ∃ t, t = (b + 131072 - v - 0) % 65536 := ⟨_, rfl⟩
    have htv : (t : Int) = sg b - sg v := by
      have sb1 : sg b = b ∨ sg b = (b : Int) - 65536 := by unfold sg; split <;> omega
      have sv1 : sg v = v ∨ sg v = (v : Int) - 65536 := by unfold sg; split <;> omega
      have b2 : -32768 ≤ sg b ∧ sg b ≤ 32767 := by unfold sg; split <;> omega
      have v2 : -32768 ≤ sg v ∧ sg v ≤ 32767 := by unfold sg; split <;> omega
      rcases sb1 with s1 | s1 <;> rcases sv1 with s2 | s2 <;> omega
    have st2 : RL G a f bc b v ix sp 1454 m P = if t < 3 then RL G a2 (fWs (fLo a2 false) t 3) 3 v ((t + 131072 - 3 - 0) % 65536) ix (sp + 2) (RA + 3) M9 P else RL G a2 (fLo a2 false) 3 ((t + 131072 - 3 - 0) % 65536) ((v + 3) % 65536) ix (sp + 2) (RA + 3) M9 P := by
      rw [st, k_1482 k9]
      simp only [g4]
      rw [if_neg c, k_1484 k9 hd hv, cy, ← ht, k_1486 k9 g1, or_self8, k_1487 k9 (by omega) (by omega), fLo_y, k_1489 k9, k_1491 k9 (by omega) hv, k_1492 k9 hv (by omega), k_1493 k9 g1, or_self8, k_1494 k9 (by omega), q4, k_1494 k9 (by omega), q4]
      simp only [fWs_C, fLo_y, Nat.add_zero]
    by_cases h3 : t < 3
    · refine ⟨a2, _, 3, v, _, M9, g1, by omega, hv, ?_, tK, by rw [st2, if_pos h3], ?_, ?_⟩
      · omega
      · rw [fWs_C, fLo_y]; apply propext; omega
      · intro h; omega
    · refine ⟨a2, _, 3, _, _, M9, g1, by omega, ?_, ?_, tK, by rw [st2, if_neg h3], ?_, ?_⟩
      · omega
      · omega
      · rw [fLo_C]; apply propext; constructor
        · intro h; exact h.elim
        · intro h; omega
      · intro h
        have sv1 : sg v = v ∨ sg v = (v : Int) - 65536 := by unfold sg; split <;> omega
        unfold us
        omega
theorem ldir {G : GE} {a ix sp : Nat} {P : PT} : ∀ (c : Nat) {de hl : Nat} {f : Int32} {m : Nat → Nat}, KM m → c < 1000 → 2000 ≤ de → de + c + 1 < 65536 → hl + c + 1 < 65536 →
    ∃ f' m', Sm de (de + c + 1) m m' ∧ RL G a f (c + 1) de hl ix sp 773 m P = RL G a f' 0 (de + c + 1) (hl + c + 1) ix sp 775 m' P := by
  intro c
  induction c with
  | zero =>
    intro de hl f m hm hc hd h1 h2
    refine ⟨fBlk f 0, up m de (rd m hl), Sm_up Sm_r (by omega) (by omega), ?_⟩
    rw [k_773 hm (by omega) (by omega) (by omega), if_neg (by omega), show (0 + 1 + 65535) % 65536 = 0 by omega, show (de + 1) % 65536 = de + 0 + 1 by omega, show (hl + 1) % 65536 = hl + 0 + 1 by omega]
  | succ c ih =>
    intro de hl f m hm hc hd h1 h2
    have t : Sm de (de + 1) m (up m de (rd m hl)) := Sm_up Sm_r (by omega) (by omega)
    obtain ⟨f', m', s, e⟩ := ih (de := de + 1) (hl := hl + 1) (f := fBlk f (c + 1)) (m := up m de (rd m hl)) (Sm_KM t hm (by omega)) (by omega) (by omega) (by omega) (by omega)
    refine ⟨f', m', Sm_t (Sm_w t (by omega) (by omega)) (Sm_w s (by omega) (by omega)), ?_⟩
    rw [k_773 hm (by omega) (by omega) (by omega), if_pos (by omega), show (c + 1 + 1 + 65535) % 65536 = c + 1 by omega, show (de + 1) % 65536 = de + 1 by omega, show (hl + 1) % 65536 = hl + 1 by omega, e,
      show de + 1 + c + 1 = de + (c + 1) + 1 by omega, show hl + 1 + c + 1 = hl + (c + 1) + 1 by omega]
theorem Sm_ne {lo hi : Nat} {m m' : Nat → Nat} (h : Sm lo hi m m') {k : Nat} (hk : k < lo ∨ hi ≤ k) : m' k = m k := h k hk
theorem rt_ent {G : GE} {a bc de hl ix sp RA s ac : Nat} {f : Int32} {m : Nat → Nat} {P : PT} (hm : KM m) (ha : a < 256) (hb : bc < 65536) (hd : de < 65536) (hix : ix < 65536) (hs0 : 2300 ≤ sp) (hs : sp < 65530) (hRA : wd m sp = RA) (hR0 : 1900 ≤ RA) (hR1 : RA + 70 < sp) (c0 : rd m RA = 200) (c1 : rd m (RA + 1) = 0) (c2 : rd m (RA + 2) = 64) (c3 : rd m (RA + 3) = 0)
    (hS : wd m 226 = s) (hs2 : 200 ≤ s) (hA : wd m 228 = ac) (hac : ac < 60000) :
    ∃ a' f' bc' de' hl' m', a' < 256 ∧ bc' < 65536 ∧ de' < 65536 ∧ hl' < 65536 ∧ KM m' ∧ (∀ k, ¬ (226 ≤ k ∧ k < 230) → ¬ (236 ≤ k ∧ k < 256) → (k < sp - 64 ∨ sp + 2 ≤ k) → m' k = m k) ∧ wd m' 226 = s - 200 ∧ wd m' 228 = ac + 1 ∧ wd m' sp = ix ∧ wd m' (sp - 2) = 200 ∧
      RL G a f bc de hl ix sp 717 m P = RL G a' f' bc' de' hl' sp (sp - 64) (RA + 4) m' P := by
  have lS : s < 65536 := by rw [← hS]; exact wd_lt
  obtain ⟨M1, hM1⟩ : ∃ M, M = pw m 236 (RA + 4) := ⟨_, rfl⟩
  have t1 : Sm 236 238 m M1 := by rw [hM1]; exact pw_Sm
  have k1 : KM M1 := by rw [hM1]; exact KM_up (KM_up hm (by omega) (by omega)) (by omega) (by omega)
  have u1 : wd M1 236 = RA + 4 := by rw [hM1]; exact pw_wd (by omega)
  have v1 : wd M1 226 = s := by rw [Sm_wd t1 (by omega), hS]
  obtain ⟨M2, hM2⟩ : ∃ M, M = pw M1 226 (s - 200) := ⟨_, rfl⟩
  have t2 : Sm 226 228 M1 M2 := by rw [hM2]; exact pw_Sm
  have k2 : KM M2 := by rw [hM2]; exact KM_up (KM_up k1 (by omega) (by omega)) (by omega) (by omega)
  have u2 : wd M2 226 = s - 200 := by rw [hM2]; exact pw_wd (by omega)
  have v2 : wd M2 228 = ac := by rw [Sm_wd t2 (by omega), Sm_wd t1 (by omega), hA]
  obtain ⟨M3, hM3⟩ : ∃ M, M = pw M2 228 (ac + 1) := ⟨_, rfl⟩
  have t3 : Sm 228 230 M2 M3 := by rw [hM3]; exact pw_Sm
  have k3 : KM M3 := by rw [hM3]; exact KM_up (KM_up k2 (by omega) (by omega)) (by omega) (by omega)
  have u3 : wd M3 228 = ac + 1 := by rw [hM3]; exact pw_wd (by omega)
  obtain ⟨M4, hM4⟩ : ∃ M, M = pu M3 (sp + 2) ix := ⟨_, rfl⟩
  have t4 : Sm sp (sp + 2) M3 M4 := by rw [hM4]; exact Sm_w (pu_Sm (by omega)) (by omega) (by omega)
  have k4 : KM M4 := Sm_KM t4 k3 (by omega)
  have u4 : wd M4 sp = ix := by rw [hM4]; exact pu_wd (sp := sp + 2) (by omega) (by omega)
  obtain ⟨M5, hM5⟩ : ∃ M, M = pu M4 sp 200 := ⟨_, rfl⟩
  have t5 : Sm (sp - 2) sp M4 M5 := by rw [hM5]; exact pu_Sm (by omega)
  have k5 : KM M5 := Sm_KM t5 k4 (by omega)
  have u5 : wd M5 (sp - 2) = 200 := by rw [hM5]; exact pu_wd (by omega) (by omega)
  obtain ⟨M6, hM6⟩ : ∃ M, M = up M5 (sp - 64) 0 := ⟨_, rfl⟩
  have t6 : Sm (sp - 64) (sp - 63) M5 M6 := by rw [hM6]; exact Sm_up Sm_r (by omega) (by omega)
  have k6 : KM M6 := Sm_KM t6 k5 (by omega)
  obtain ⟨f7, M7, t7, e7⟩ := ldir (G := G) (a := a) (ix := sp) (sp := sp - 64) (P := P) 60 (de := sp - 63) (hl := sp - 64) (f := fAdd (fWs (fLo a false) 0 62) 65474 (sp - 2)) k6 (by omega) (by omega) (by omega) (by omega)
  have k7 : KM M7 := Sm_KM t7 k6 (by omega)
  have t57 : Sm (sp - 64) (sp - 2) M5 M7 := Sm_t (Sm_w t6 (by omega) (by omega)) (Sm_w t7 (by omega) (by omega))
  refine ⟨a, f7, 0, sp - 63 + 60 + 1, RA + 4, M7, ha, by omega, by omega, by omega, k7, ?_, ?_, ?_, ?_, ?_, ?_⟩
  · intro k h1 h2 h3
    rw [t57 k (by omega), t5 k (by omega), t4 k (by omega), t3 k (by omega), t2 k (by omega), t1 k (by omega)]
  · rw [Sm_wd t57 (by omega), Sm_wd t5 (by omega), Sm_wd t4 (by omega), Sm_wd t3 (by omega), u2]
  · rw [Sm_wd t57 (by omega), Sm_wd t5 (by omega), Sm_wd t4 (by omega), u3]
  · rw [Sm_wd t57 (by omega), Sm_wd t5 (by omega), u4]
  · rw [Sm_wd t57 (by omega), u5]
  · rw [k_717 hm (by omega), hRA, k_718 hm (by omega) hd, c0, k_719 hm (by omega), show (RA + 1) % 65536 = RA + 1 by omega, k_720 hm (by omega) (by omega), c1, k_721 hm (by omega), show (RA + 1 + 1) % 65536 = RA + 2 by omega, k_722 hm (by omega) hb, c2, k_723 hm (by omega), show (RA + 2 + 1) % 65536 = RA + 3 by omega,
      k_724 hm (by omega) (by omega), c3, k_725 hm (by omega), show (RA + 3 + 1) % 65536 = RA + 4 by omega, show 0 * 256 + (de / 256 * 256 + 200) % 256 = 200 by omega, show 0 * 256 + (bc / 256 * 256 + 64) % 256 = 64 by omega,
      k_726 hm (by omega), show up (up m 236 (RA + 4)) 237 ((RA + 4) / 256) = M1 from hM1.symm, k_729 k1, v1, k_732 k1 ha, or_self8, k_733 k1 lS (by omega), fLo_y, show (s + 131072 - 200 - 0) % 65536 = s - 200 by omega, k_735 k1]
    simp only [fWs_C, fLo_y]
    rw [if_neg (by omega), k_738 k1 (by omega), show up (up M1 226 (s - 200)) 227 ((s - 200) / 256) = M2 from hM2.symm, k_741 k2, v2, k_744 k2 (by omega), show (ac + 1) % 65536 = ac + 1 by omega, k_745 k2 (by omega), show up (up M2 228 (ac + 1)) 229 ((ac + 1) / 256) = M3 from hM3.symm,
      k_748 k3 (by omega) (by omega) hix, show up (up M3 (sp + 2 - 1) (ix / 256)) (sp + 2 - 2) ix = M4 from hM4.symm, show sp + 2 - 2 = sp by omega, k_750 k4, k_754 k4 (by omega) (by omega), show (0 + sp) % 65536 = sp by omega, k_756 k4 (by omega) (by omega) (by omega), show up (up M4 (sp - 1) (200 / 256)) (sp - 2) 200 = M5 from hM5.symm,
      k_757 k5 (by omega), show (64 + 65535) % 65536 = 63 from rfl, k_758 k5 (by omega), show (63 + 65535) % 65536 = 62 from rfl, k_759 k5, k_762 k5 ha, or_self8, k_763 k5 (by omega) (by omega), fLo_y, show (0 + 131072 - 62 - 0) % 65536 = 65474 from rfl, k_765 k5 (by omega) (by omega), show (65474 + (sp - 2)) % 65536 = sp - 64 by omega,
      k_766 k5 (by omega), k_767 k5 (by omega), ← hM6, k_769 k6 (by omega) (by omega), k_770 k6 (by omega) (by omega), show (sp - 64) / 256 * 256 + 200 % 256 = (sp - 64) / 256 * 256 + 200 from rfl, show ((sp - 64) / 256 * 256 + 200) / 256 * 256 + (sp - 64) % 256 = sp - 64 by omega, k_771 k6 (by omega), show (sp - 64 + 1) % 65536 = sp - 63 by omega, k_772 k6 (by omega), show (62 + 65535) % 65536 = 60 + 1 from rfl, e7,
      k_775 k7, show wd M7 236 = RA + 4 by rw [Sm_wd t57 (by omega), Sm_wd t5 (by omega), Sm_wd t4 (by omega), Sm_wd t3 (by omega), Sm_wd t2 (by omega), u1], k_778 k7 (by omega)]
theorem rt_lev {G : GE} {a de hl ix sp s ac ret : Nat} {f : Int32} {m : Nat → Nat} {P : PT} (hm : KM m) (ha : a < 256) (hd : de < 65536) (hhl : hl < 65536) (hi0 : 2300 ≤ ix) (hi1 : ix < 65500) (hS : wd m 226 = s) (hs2 : s + 200 < 65536) (hA : wd m 228 = ac) (ha0 : 0 < ac) (h2 : wd m (ix - 2) = 200) (hr : wd m (ix + 2) = ret) :
    ∃ a' f' bc' de' hl' ix' m', a' < 256 ∧ bc' < 65536 ∧ de' < 65536 ∧ hl' < 65536 ∧ ix' < 65536 ∧ KM m' ∧ (∀ k, ¬ (226 ≤ k ∧ k < 230) → ¬ (236 ≤ k ∧ k < 256) → ¬ (ix + 2 ≤ k ∧ k < ix + 4) → m' k = m k) ∧ wd m' 226 = s + 200 ∧ wd m' 228 = ac - 1 ∧
      RL G a f 0 de hl ix sp 779 m P = RL G a' f' bc' de' hl' ix' (ix + 4) ret m' P := by
  have lA : ac < 65536 := by rw [← hA]; exact wd_lt
  have lr : ret < 65536 := by rw [← hr]; exact wd_lt
  have li : wd m ix < 65536 := wd_lt
  obtain ⟨M1, hM1⟩ : ∃ M, M = pw m 238 hl := ⟨_, rfl⟩
  have t1 : Sm 238 240 m M1 := by rw [hM1]; exact pw_Sm
  have k1 : KM M1 := by rw [hM1]; exact KM_up (KM_up hm (by omega) (by omega)) (by omega) (by omega)
  have u1 : wd M1 238 = hl := by rw [hM1]; exact pw_wd hhl
  have j1 : jr ix 254 = ix - 2 := by unfold jr; simp; omega
  have j2 : jr ix 255 = ix - 1 := by unfold jr; simp; omega
  have r12 : rd m (ix - 2) = 200 ∧ rd m (ix - 1) = 0 := by
    unfold wd at h2
    rw [show ix - 2 + 1 = ix - 1 by omega] at h2
    have := @rd_lt m (ix - 2)
    have := @rd_lt m (ix - 1)
    omega
  have r1 : rd M1 (ix - 2) = 200 := by rw [Sm_rd t1 (by omega), r12.1]
  have r2 : rd M1 (ix - 1) = 0 := by rw [Sm_rd t1 (by omega), r12.2]
  have v1 : wd M1 226 = s := by rw [Sm_wd t1 (by omega), hS]
  obtain ⟨M2, hM2⟩ : ∃ M, M = pw M1 226 (s + 200) := ⟨_, rfl⟩
  have t2 : Sm 226 228 M1 M2 := by rw [hM2]; exact pw_Sm
  have k2 : KM M2 := by rw [hM2]; exact KM_up (KM_up k1 (by omega) (by omega)) (by omega) (by omega)
  have u2 : wd M2 226 = s + 200 := by rw [hM2]; exact pw_wd (by omega)
  have v2 : wd M2 228 = ac := by rw [Sm_wd t2 (by omega), Sm_wd t1 (by omega), hA]
  obtain ⟨M3, hM3⟩ : ∃ M, M = pw M2 228 (ac - 1) := ⟨_, rfl⟩
  have t3 : Sm 228 230 M2 M3 := by rw [hM3]; exact pw_Sm
  have k3 : KM M3 := by rw [hM3]; exact KM_up (KM_up k2 (by omega) (by omega)) (by omega) (by omega)
  have u3 : wd M3 228 = ac - 1 := by rw [hM3]; exact pw_wd (by omega)
  have w1 : wd M3 ix = wd m ix := by rw [Sm_wd t3 (by omega), Sm_wd t2 (by omega), Sm_wd t1 (by omega)]
  have w2 : wd M3 (ix + 2) = ret := by rw [Sm_wd t3 (by omega), Sm_wd t2 (by omega), Sm_wd t1 (by omega), hr]
  obtain ⟨M4, hM4⟩ : ∃ M, M = pu M3 (ix + 4) ret := ⟨_, rfl⟩
  have t4 : Sm (ix + 2) (ix + 4) M3 M4 := by rw [hM4]; exact Sm_w (pu_Sm (by omega)) (by omega) (by omega)
  have k4 : KM M4 := Sm_KM t4 k3 (by omega)
  have w4 : wd M4 (ix + 4 - 2) = ret := by rw [hM4]; exact pu_wd (by omega) (by omega)
  have w5 : wd M4 238 = hl := by rw [Sm_wd t4 (by omega), Sm_wd t3 (by omega), Sm_wd t2 (by omega), u1]
  refine ⟨a, fAdd (fAdd (fAdd f s 200) 0 (ix + 4)) (ix + 4) 0, 0, ret, hl, wd m ix, M4, ha, by omega, lr, hhl, li, k4, ?_, ?_, ?_, ?_⟩
  · intro k h1 h2 h3
    rw [t4 k (by omega), t3 k (by omega), t2 k (by omega), t1 k (by omega)]
  · rw [Sm_wd t4 (by omega), Sm_wd t3 (by omega), u2]
  · rw [Sm_wd t4 (by omega), u3]
  · rw [k_779 hm hhl, show up (up m 238 hl) 239 (hl / 256) = M1 from hM1.symm, k_782 k1 (by omega) hd, j1, r1, k_785 k1 (by omega) (by omega), j2, r2, show 0 * 256 + (de / 256 * 256 + 200) % 256 = 200 by omega, k_788 k1, v1, k_791 k1 (by omega) (by omega), show (s + 200) % 65536 = s + 200 by omega, k_792 k1 (by omega), show up (up M1 226 (s + 200)) 227 ((s + 200) / 256) = M2 from hM2.symm,
      k_795 k2, v2, k_798 k2 (by omega), show (ac + 65535) % 65536 = ac - 1 by omega, k_799 k2 (by omega), show up (up M2 228 (ac - 1)) 229 ((ac - 1) / 256) = M3 from hM3.symm, k_802 k3 (by omega), k_804 k3 (by omega), w1, k_806 k3 (by omega), w2, show ix + 2 + 2 = ix + 4 by omega, k_807 k3, k_810 k3 (by omega) (by omega), show (0 + (ix + 4)) % 65536 = ix + 4 by omega, k_811 k3 (by omega) (by omega), show (ix + 4 + 0) % 65536 = ix + 4 by omega,
      k_812 k3 (by omega), k_813 k3 (by omega) (by omega) lr, show up (up M3 (ix + 4 - 1) (ret / 256)) (ix + 4 - 2) ret = M4 from hM4.symm, k_814 k4, w5, k_817 k4 (by omega), w4, show ix + 4 - 2 + 2 = ix + 4 by omega]
