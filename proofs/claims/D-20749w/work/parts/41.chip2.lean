/-! The chip: what reckons (printed by gen/chip2.py) -/
set_option maxRecDepth 100000
set_option maxHeartbeats 4000000
theorem a128 : ∀ {v : Nat}, v < 256 → Int32.ofNat v &&& 128 = if 128 ≤ v then 128 else 0 := by
  have : ∀ v : Fin 256, Int32.ofNat v.val &&& 128 = if 128 ≤ v.val then 128 else 0 := by decide
  intro v h; exact this ⟨v, h⟩
def sgV (v : Nat) : Int32 := (if 128 ≤ v then 128 else 0) ||| (if v = 0 then 64 else 0)
theorem i_z0 : (Int32.ofNat 0 = 0) = True := by simp
theorem i_z1 : (Int32.ofNat 1 = 0) = False := by simp
theorem and1 {f : Int32} : f &&& 1 = Int32.ofNat (cyn f) := by
  have h : f &&& 1 = 0 ∨ f &&& 1 = 1 := by
    have e : (f &&& 1).toBitVec.toNat = f.toBitVec.toNat % 2 := by
      show (f.toBitVec &&& 1#32).toNat = _
      rw [BitVec.toNat_and]
      exact Nat.and_two_pow_sub_one_eq_mod _ 1
    rcases (show f.toBitVec.toNat % 2 = 0 ∨ f.toBitVec.toNat % 2 = 1 by omega) with z | z
    · left
      apply Int32.toBitVec_inj.mp
      apply BitVec.eq_of_toNat_eq
      rw [e, z]; rfl
    · right
      apply Int32.toBitVec_inj.mp
      apply BitVec.eq_of_toNat_eq
      rw [e, z]; rfl
  unfold cyn cC
  rcases h with h | h <;> rw [h] <;> decide
theorem or_and {x y z : Int32} : (x ||| y) &&& z = (x &&& z) ||| (y &&& z) := by
  apply Int32.toBitVec_inj.mp
  show (x.toBitVec ||| y.toBitVec) &&& z.toBitVec = (x.toBitVec &&& z.toBitVec) ||| (y.toBitVec &&& z.toBitVec)
  apply BitVec.eq_of_getLsbD_eq
  intro i _
  simp only [BitVec.getLsbD_or, BitVec.getLsbD_and]
  cases x.toBitVec.getLsbD i <;> cases y.toBitVec.getLsbD i <;> cases z.toBitVec.getLsbD i <;> rfl
theorem and_k {f : Int32} {a b : Int32} : (f &&& a) &&& b = f &&& (a &&& b) := Int32.and_assoc f a b
theorem and_0 {f : Int32} : f &&& 0 = 0 := by
  apply Int32.toBitVec_inj.mp
  show f.toBitVec &&& 0#32 = 0#32
  simp
/-- bit 15 -/
theorem b15 {x : Nat} (h : x < 65536) : x &&& 32768 = if 32768 ≤ x then 32768 else 0 := by
  apply Nat.eq_of_testBit_eq
  intro i
  rw [Nat.testBit_and, show (32768 : Nat) = 2 ^ 15 from rfl, Nat.testBit_two_pow]
  by_cases e : 15 = i
  · subst e
    rw [Nat.testBit_eq_decide_div_mod_eq]
    by_cases c : 2 ^ 15 ≤ x
    · rw [if_pos c, show x / 2 ^ 15 % 2 = 1 by omega]; decide
    · rw [if_neg c, show x / 2 ^ 15 % 2 = 0 by omega]; decide
  · rw [decide_eq_false e, Bool.and_false]
    split
    · rw [Nat.testBit_two_pow, decide_eq_false e]
    · rw [Nat.zero_testBit]
theorem tb15 {x : Nat} (h : x < 65536) : x.testBit 15 = decide (32768 ≤ x) := by
  rw [Nat.testBit_eq_decide_div_mod_eq]
  by_cases c : 32768 ≤ x
  · rw [show x / 2 ^ 15 % 2 = 1 by omega]; simp [c]
  · rw [show x / 2 ^ 15 % 2 = 0 by omega]; simp [c]
theorem n_and32768 {x : Nat} (h : x < 65536) : (Int32.ofNat x &&& 32768 = 0) = (x.testBit 15 = false) := by
  have e : Int32.ofNat x &&& 32768 = Int32.ofNat (x &&& 32768) := n_andn (by omega) (by decide)
  rw [e, b15 h, tb15 h]
  by_cases c : 32768 ≤ x
  · rw [if_pos c]; simp [c]
  · rw [if_neg c]; simp [c]
theorem not_ff {x : Nat} (h : x < 65536) : (Int32.ofNat x ^^^ (-1)) &&& 65535 = Int32.ofNat (65535 - x) := by
  apply n_eq
  show (((Int32.ofNat x).toBitVec ^^^ (4294967295#32)) &&& 65535#32).toNat = _
  rw [BitVec.toNat_and, BitVec.toNat_xor, nb (by omega)]
  show (x ^^^ 4294967295) &&& (2 ^ 16 - 1) = _
  rw [Nat.and_two_pow_sub_one_eq_mod]
  have e : (x ^^^ 4294967295) % 2 ^ 16 = (x % 2 ^ 16) ^^^ (4294967295 % 2 ^ 16) := Nat.xor_mod_two_pow
  rw [e, show x % 2 ^ 16 = x by omega]
  show x ^^^ (2 ^ 16 - 1) = _
  have : x ^^^ (2 ^ 16 - 1) = 2 ^ 16 - 1 - x := by
    apply Nat.eq_of_testBit_eq
    intro i
    rw [Nat.testBit_xor, Nat.testBit_two_pow_sub_one]
    by_cases hi : i < 16
    · rw [show 2 ^ 16 - 1 - x = 2 ^ 16 - (x + 1) by omega, Nat.testBit_two_pow_sub_succ (by omega : x < 2 ^ 16)]
      simp [hi]
    · have hx : x.testBit i = false := Nat.testBit_lt_two_pow (Nat.lt_of_lt_of_le h (by have := Nat.pow_le_pow_right (show 1 ≤ 2 by omega) (Nat.le_of_not_lt hi); exact this))
      have hy : (2 ^ 16 - 1 - x).testBit i = false := Nat.testBit_lt_two_pow (Nat.lt_of_lt_of_le (show 2 ^ 16 - 1 - x < 65536 by omega) (by have := Nat.pow_le_pow_right (show 1 ≤ 2 by omega) (Nat.le_of_not_lt hi); exact this))
      rw [hx, hy]; simp [hi]
  rw [this]
  omega
theorem xs15 {a v : Nat} (ha : a < 65536) (hv : v < 65536) : (a ^^^ v).testBit 15 = (decide (32768 ≤ a) != decide (32768 ≤ v)) := by
  rw [Nat.testBit_xor, tb15 ha, tb15 hv]
theorem ovs_b {a v c : Nat} (ha : a < 65536) (hv : v < 65536) (hc : c < 2) : ((Int32.ofNat a ^^^ Int32.ofNat v) &&& (Int32.ofNat a ^^^ Int32.ofNat ((a + 131072 - v - c) % 65536)) &&& 32768 = 0) = (ovs a v c = false) := by
  obtain ⟨w, hw⟩ : ∃ w, w = (a + 131072 - v - c) % 65536 := ⟨_, rfl⟩
  have lw : w < 65536 := by omega
  have l1 : a ^^^ v < 65536 := Nat.xor_lt_two_pow (n := 16) ha hv
  have l2 : a ^^^ w < 65536 := Nat.xor_lt_two_pow (n := 16) ha lw
  have l3 : (a ^^^ v) &&& (a ^^^ w) < 65536 := Nat.lt_of_le_of_lt Nat.and_le_left l1
  rw [← hw, n_xor (by omega) (by omega), n_xor (by omega) (by omega), n_andn (by omega) (by omega), n_and32768 l3, Nat.testBit_and, xs15 ha hv, xs15 ha lw]
  unfold ovs sg
  apply propext
  by_cases p : 32768 ≤ a <;> by_cases q : 32768 ≤ v <;> by_cases r : 32768 ≤ w <;> simp [p, q, r, Nat.not_lt.mpr, show ¬ (a < 32768) ↔ 32768 ≤ a from Nat.not_lt] <;> (try simp only [Nat.not_le] at p q r) <;> (try rw [if_pos (by omega)]) <;> (try rw [if_neg (by omega)]) <;> (try rw [if_pos (by omega)]) <;> (try rw [if_neg (by omega)]) <;> (try omega)
theorem ova_b {a v c : Nat} (ha : a < 65536) (hv : v < 65536) (hc : c < 2) : (((Int32.ofNat a ^^^ Int32.ofNat v) ^^^ (-1)) &&& (Int32.ofNat a ^^^ Int32.ofNat ((a + v + c) % 65536)) &&& 32768 = 0) = (ova a v c = false) := by
  obtain ⟨w, hw⟩ : ∃ w, w = (a + v + c) % 65536 := ⟨_, rfl⟩
  have lw : w < 65536 := by omega
  have l1 : a ^^^ v < 65536 := Nat.xor_lt_two_pow (n := 16) ha hv
  have l2 : a ^^^ w < 65536 := Nat.xor_lt_two_pow (n := 16) ha lw
  have e : (Int32.ofNat (a ^^^ v) ^^^ (-1)) &&& Int32.ofNat (a ^^^ w) = Int32.ofNat (65535 - (a ^^^ v)) &&& Int32.ofNat (a ^^^ w) := by
    have e2 : Int32.ofNat (a ^^^ w) = 65535 &&& Int32.ofNat (a ^^^ w) := by
      rw [Int32.and_comm, n_and65535 (by omega), Nat.mod_eq_of_lt l2]
    conv => lhs; rw [e2]
    rw [← Int32.and_assoc, not_ff l1]
  have l3 : (65535 - (a ^^^ v)) &&& (a ^^^ w) < 65536 := Nat.lt_of_le_of_lt Nat.and_le_right l2
  have t : (65535 - (a ^^^ v)).testBit 15 = !((a ^^^ v).testBit 15) := by
    rw [tb15 (by omega), tb15 l1]
    by_cases z : 32768 ≤ a ^^^ v
    · simp [z]; omega
    · simp [z]; omega
  rw [← hw, n_xor (by omega) (by omega), n_xor (by omega) (by omega), e, n_andn (by omega) (by omega), n_and32768 l3, Nat.testBit_and, t, xs15 ha hv, xs15 ha lw]
  unfold ova sg
  apply propext
  by_cases p : 32768 ≤ a <;> by_cases q : 32768 ≤ v <;> by_cases r : 32768 ≤ w <;> simp [p, q, r] <;> (try simp only [Nat.not_le] at p q r) <;> (try rw [if_pos (by omega)]) <;> (try rw [if_neg (by omega)]) <;> (try rw [if_pos (by omega)]) <;> (try rw [if_neg (by omega)]) <;> (try omega)
-- what instructions leave in F
def fMi (a v c : Nat) : Int32 := fl (decide (128 ≤ (a + 512 - v - c) % 256)) (decide ((a + 512 - v - c) % 256 = 0)) (decide (a % 16 < v % 16 + c)) (decide (¬ ((Int32.ofNat a ^^^ Int32.ofNat v) &&& (Int32.ofNat a ^^^ Int32.ofNat ((a + 512 - v - c) % 256)) &&& 128 = 0))) true (decide (a < v + c))
def fPl (a v c : Nat) : Int32 := fl (decide (128 ≤ (a + v + c) % 256)) (decide ((a + v + c) % 256 = 0)) (decide (15 < a % 16 + v % 16 + c)) (decide (¬ (((Int32.ofNat a ^^^ Int32.ofNat v) ^^^ (-1)) &&& (Int32.ofNat a ^^^ Int32.ofNat ((a + v + c) % 256)) &&& 128 = 0))) false (decide (255 < a + v + c))
def fLo (w : Nat) (h : Bool) : Int32 := sgV w ||| (if even8 w then 4 else 0) ||| (if h then 16 else 0)
def fRot (w : Nat) (b : Bool) : Int32 := sgV w ||| (if even8 w then 4 else 0) ||| (if b then 1 else 0)
def fWs (f : Int32) (x y : Nat) : Int32 := fl (decide (32768 ≤ (x + 131072 - y - cyn f) % 65536)) (decide ((x + 131072 - y - cyn f) % 65536 = 0)) (decide (x % 4096 < y % 4096 + cyn f)) (ovs x y (cyn f)) true (decide (x < y + cyn f))
def fWa (f : Int32) (x y : Nat) : Int32 := fl (decide (32768 ≤ (x + y + cyn f) % 65536)) (decide ((x + y + cyn f) % 65536 = 0)) (decide (4095 < x % 4096 + y % 4096 + cyn f)) (ova x y (cyn f)) false (decide (65535 < x + y + cyn f))
def fAdd (f : Int32) (x y : Nat) : Int32 := (f &&& 196) ||| (if 4095 < x % 4096 + y % 4096 then 16 else 0) ||| (if 65535 < x + y then 1 else 0)
def fInc (f : Int32) (v : Nat) : Int32 := (f &&& 1) ||| sgV ((v + 1) % 256) ||| (if v % 16 = 15 then 16 else 0) ||| (if (v + 1) % 256 = 128 then 4 else 0)
def fDec (f : Int32) (v : Nat) : Int32 := (f &&& 1) ||| sgV ((v + 255) % 256) ||| (if v % 16 = 0 then 16 else 0) ||| (if (v + 255) % 256 = 127 then 4 else 0) ||| 2
def fBit (f : Int32) (h : Nat) : Int32 := (f &&& 1) ||| 16 ||| (if h < 128 then 68 else 0)
def fBlk (f : Int32) (b : Nat) : Int32 := (f &&& 193) ||| (if b ≠ 0 then 4 else 0)
theorem fMi_C {a v c : Nat} : cC (fMi a v c) = (a < v + c) := by unfold fMi; rw [fl_C]; simp
theorem fMi_Z {a v c : Nat} : cZ (fMi a v c) = ((a + 512 - v - c) % 256 = 0) := by unfold fMi; rw [fl_Z]; simp
theorem fMi_S {a v c : Nat} : cS (fMi a v c) = (128 ≤ (a + 512 - v - c) % 256) := by unfold fMi; rw [fl_S]; simp
theorem fPl_C {a v c : Nat} : cC (fPl a v c) = (255 < a + v + c) := by unfold fPl; rw [fl_C]; simp
theorem lo4 : ∀ {p q r t : Bool}, (cC ((if p then (128 : Int32) else 0) ||| (if q then 64 else 0) ||| (if r then 4 else 0) ||| (if t then 16 else 0)) = False) ∧ (cZ ((if p then (128 : Int32) else 0) ||| (if q then 64 else 0) ||| (if r then 4 else 0) ||| (if t then 16 else 0)) = (q = true)) ∧ (cS ((if p then (128 : Int32) else 0) ||| (if q then 64 else 0) ||| (if r then 4 else 0) ||| (if t then 16 else 0)) = (p = true)) := by
  intro p q r t
  refine ⟨?_, ?_, ?_⟩ <;> apply propext <;> revert p q r t <;> decide
theorem fLo_eq {w : Nat} {h : Bool} : fLo w h = (if decide (128 ≤ w) then (128 : Int32) else 0) ||| (if decide (w = 0) then 64 else 0) ||| (if even8 w then 4 else 0) ||| (if h then 16 else 0) := by unfold fLo sgV; simp only [decide_eq_true_eq]
theorem fLo_C {w : Nat} {h : Bool} : cC (fLo w h) = False := by rw [fLo_eq]; exact lo4.1
theorem fLo_Z {w : Nat} {h : Bool} : cZ (fLo w h) = (w = 0) := by rw [fLo_eq, lo4.2.1]; simp
theorem fLo_S {w : Nat} {h : Bool} : cS (fLo w h) = (128 ≤ w) := by rw [fLo_eq, lo4.2.2]; simp
theorem fLo_y {w : Nat} {h : Bool} : cyn (fLo w h) = 0 := by unfold cyn; simp only [fLo_C, if_false]
theorem ro4 : ∀ {p q r t : Bool}, cC ((if p then (128 : Int32) else 0) ||| (if q then 64 else 0) ||| (if r then 4 else 0) ||| (if t then 1 else 0)) = (t = true) := by intro p q r t; apply propext; revert p q r t; decide
theorem fRot_eq {w : Nat} {b : Bool} : fRot w b = (if decide (128 ≤ w) then (128 : Int32) else 0) ||| (if decide (w = 0) then 64 else 0) ||| (if even8 w then 4 else 0) ||| (if b then 1 else 0) := by unfold fRot sgV; simp only [decide_eq_true_eq]
theorem fRot_C {w : Nat} {b : Bool} : cC (fRot w b) = (b = true) := by rw [fRot_eq]; exact ro4
theorem fRot_y {w : Nat} {b : Bool} : cyn (fRot w b) = if b then 1 else 0 := by unfold cyn; simp only [fRot_C]
theorem fWs_C {f : Int32} {x y : Nat} : cC (fWs f x y) = (x < y + cyn f) := by unfold fWs; rw [fl_C]; simp
theorem fWs_Z {f : Int32} {x y : Nat} : cZ (fWs f x y) = ((x + 131072 - y - cyn f) % 65536 = 0) := by unfold fWs; rw [fl_Z]; simp
theorem fWs_P {f : Int32} {x y : Nat} : cP (fWs f x y) = (ovs x y (cyn f) = true) := by unfold fWs; rw [fl_P]
theorem fWa_P {f : Int32} {x y : Nat} : cP (fWa f x y) = (ova x y (cyn f) = true) := by unfold fWa; rw [fl_P]
theorem fWs_y {f : Int32} {x y : Nat} : cyn (fWs f x y) = if x < y + cyn f then 1 else 0 := by unfold fWs; rw [cyn_fl]; simp
theorem fWa_C {f : Int32} {x y : Nat} : cC (fWa f x y) = (65535 < x + y + cyn f) := by unfold fWa; rw [fl_C]; simp
theorem fWa_y {f : Int32} {x y : Nat} : cyn (fWa f x y) = if 65535 < x + y + cyn f then 1 else 0 := by unfold fWa; rw [cyn_fl]; simp
theorem fAdd_1 {f : Int32} {x y : Nat} : fAdd f x y &&& 1 = if 65535 < x + y then 1 else 0 := by
  unfold fAdd
  rw [or_and, or_and, and_k, show (196 : Int32) &&& 1 = 0 from rfl, and_0]
  split <;> split <;> rfl
theorem fAdd_C {f : Int32} {x y : Nat} : cC (fAdd f x y) = (65535 < x + y) := by
  unfold cC
  rw [fAdd_1]
  by_cases c : 65535 < x + y <;> simp [c]
theorem fAdd_y {f : Int32} {x y : Nat} : cyn (fAdd f x y) = if 65535 < x + y then 1 else 0 := by unfold cyn; simp only [fAdd_C]
theorem sg64 : ∀ {p q : Bool}, ((if p then (128 : Int32) else 0) ||| (if q then 64 else 0)) &&& 64 = if q then 64 else 0 := by decide
theorem sgV_e {w : Nat} : sgV w = (if decide (128 ≤ w) then (128 : Int32) else 0) ||| (if decide (w = 0) then 64 else 0) := by unfold sgV; simp only [decide_eq_true_eq]
theorem fDec_Z {f : Int32} {v : Nat} : cZ (fDec f v) = ((v + 255) % 256 = 0) := by
  have e : fDec f v &&& 64 = if decide ((v + 255) % 256 = 0) then 64 else 0 := by
    unfold fDec
    rw [or_and, or_and, or_and, or_and, and_k, show (1 : Int32) &&& 64 = 0 from rfl, and_0, sgV_e, sg64]
    split <;> split <;> split <;> rfl
  unfold cZ
  rw [e]
  by_cases c : (v + 255) % 256 = 0 <;> simp [c]
theorem fBit_Z {f : Int32} {h : Nat} : cZ (fBit f h) = (h < 128) := by
  have e : fBit f h &&& 64 = if h < 128 then 64 else 0 := by
    unfold fBit
    rw [or_and, or_and, and_k, show (1 : Int32) &&& 64 = 0 from rfl, and_0]
    split <;> rfl
  unfold cZ
  rw [e]
  by_cases c : h < 128 <;> simp [c]
theorem s_pair {n : Nat} (hn : n < 65536) : Int32.ofNat n &&& 65535 = Int32.ofNat n := by rw [n_and65535 (by omega), Nat.mod_eq_of_lt hn]
theorem bt_f : (true = false) = False := by simp
theorem or_0 {x : Int32} : x ||| 0 = x := Int32.or_zero
theorem n_sub3ge {a v c : Nat} (ha : a < 65536) (hv : v < 65536) (hc : c < 2) : (0 ≤ Int32.ofNat a - Int32.ofNat v - Int32.ofNat c) = ¬ (a < v + c) := by
  rw [ci_le, n_sub3i ha hv hc]
  show ((0 : Int) ≤ (a : Int) - v - c) = _
  apply propext; omega
theorem n_le {n k : Nat} (h : n < 2147483648) (hk : k < 2147483648) : (Int32.ofNat n ≤ Int32.ofNat k) = ¬ (k < n) := by rw [ci_le, ti_of h, ti_of hk]; apply propext; omega
theorem n_le15 {n : Nat} (h : n < 2147483648) : (Int32.ofNat n ≤ 15) = ¬ (15 < n) := n_le h (by decide)
theorem n_le255 {n : Nat} (h : n < 2147483648) : (Int32.ofNat n ≤ 255) = ¬ (255 < n) := n_le h (by decide)
theorem n_le4095 {n : Nat} (h : n < 2147483648) : (Int32.ofNat n ≤ 4095) = ¬ (4095 < n) := n_le h (by decide)
theorem n_le65535 {n : Nat} (h : n < 2147483648) : (Int32.ofNat n ≤ 65535) = ¬ (65535 < n) := n_le h (by decide)
theorem n_ge0 {n : Nat} (h : n < 2147483648) : (0 ≤ Int32.ofNat n) = True := by rw [ci_le, ti_of h]; apply eq_true; show (0 : Int) ≤ (n : Int); omega
theorem n_sub3le {a v c k : Nat} (ha : a < 65536) (hv : v < 65536) (hc : c < 2) (hk : a ≤ k) (hk2 : k < 2147483648) : (Int32.ofNat a - Int32.ofNat v - Int32.ofNat c ≤ Int32.ofNat k) = True := by
  rw [ci_le, n_sub3i ha hv hc, ti_of hk2]; apply eq_true; omega
theorem n_sub3l4 {a v c : Nat} (ha : a < 4096) (hv : v < 65536) (hc : c < 2) : (Int32.ofNat a - Int32.ofNat v - Int32.ofNat c ≤ 4095) = True := n_sub3le (k := 4095) (by omega) hv hc (by omega) (by decide)
theorem n_sub3l6 {a v c : Nat} (ha : a < 65536) (hv : v < 65536) (hc : c < 2) : (Int32.ofNat a - Int32.ofNat v - Int32.ofNat c ≤ 65535) = True := n_sub3le (k := 65535) ha hv hc (by omega) (by decide)
theorem n_sub3_8 {a v c : Nat} (ha : a < 256) (hv : v < 256) (hc : c < 2) : (Int32.ofNat a - Int32.ofNat v - Int32.ofNat c) &&& 255 = Int32.ofNat ((a + 512 - v - c) % 256) := by
  have := n_sub3 (k := 8) (by decide) (show a < 65536 by omega) (show v < 65536 by omega) hc
  refine this.trans ?_
  congr 1
  show (a + 131072 - v - c) % 256 = _
  omega
theorem n_sub3_16 {a v c : Nat} (ha : a < 65536) (hv : v < 65536) (hc : c < 2) : (Int32.ofNat a - Int32.ofNat v - Int32.ofNat c) &&& 65535 = Int32.ofNat ((a + 131072 - v - c) % 65536) := n_sub3 (k := 16) (by decide) ha hv hc
theorem n_lt0 {n : Nat} (h : n < 2147483648) : (Int32.ofNat n < 0) = False := by rw [ci_lt, ti_of h]; simp; try (show (0 : Int) ≤ (n : Int); omega)
theorem n_gt {n k : Nat} (h : n < 2147483648) (hk : k < 2147483648) : (Int32.ofNat k < Int32.ofNat n) = (k < n) := by rw [ci_lt, ti_of h, ti_of hk]; apply propext; omega
theorem n_gt15 {n : Nat} (h : n < 2147483648) : (15 < Int32.ofNat n) = (15 < n) := n_gt h (by decide)
theorem n_gt255 {n : Nat} (h : n < 2147483648) : (255 < Int32.ofNat n) = (255 < n) := n_gt h (by decide)
theorem n_gt4095 {n : Nat} (h : n < 2147483648) : (4095 < Int32.ofNat n) = (4095 < n) := n_gt h (by decide)
theorem n_gt65535 {n : Nat} (h : n < 2147483648) : (65535 < Int32.ofNat n) = (65535 < n) := n_gt h (by decide)
theorem n_sub3g {a v c k : Nat} (ha : a < 65536) (hv : v < 65536) (hc : c < 2) (hk : a ≤ k) (hk2 : k < 2147483648) : (Int32.ofNat k < Int32.ofNat a - Int32.ofNat v - Int32.ofNat c) = False := by
  rw [ci_lt, n_sub3i ha hv hc, ti_of hk2]; apply eq_false; omega
theorem n_sub3g4 {a v c : Nat} (ha : a < 4096) (hv : v < 65536) (hc : c < 2) : (4095 < Int32.ofNat a - Int32.ofNat v - Int32.ofNat c) = False := n_sub3g (k := 4095) (by omega) hv hc (by omega) (by decide)
theorem n_sub3g6 {a v c : Nat} (ha : a < 65536) (hv : v < 65536) (hc : c < 2) : (65535 < Int32.ofNat a - Int32.ofNat v - Int32.ofNat c) = False := n_sub3g (k := 65535) ha hv hc (by omega) (by decide)
theorem n_z {n : Nat} (h : n < 2147483648) : (Int32.ofNat n = 0) = (n = 0) := by rw [ci_eq, ti_of h]; apply propext; constructor <;> intro q <;> (first | (subst q; rfl) | (have q2 : (n : Int) = 0 := q; omega))
theorem n_eq15 {n : Nat} (h : n < 2147483648) : (Int32.ofNat n = 15) = (n = 15) := by rw [ci_eq, ti_of h]; apply propext; constructor <;> intro q <;> (first | (subst q; rfl) | (have q2 : (n : Int) = 15 := q; omega))
theorem n_eq127 {n : Nat} (h : n < 2147483648) : (Int32.ofNat n = 127) = (n = 127) := by rw [ci_eq, ti_of h]; apply propext; constructor <;> intro q <;> (first | (subst q; rfl) | (have q2 : (n : Int) = 127 := q; omega))
theorem n_eq128 {n : Nat} (h : n < 2147483648) : (Int32.ofNat n = 128) = (n = 128) := by rw [ci_eq, ti_of h]; apply propext; constructor <;> intro q <;> (first | (subst q; rfl) | (have q2 : (n : Int) = 128 := q; omega))
theorem ch_signs {d : Nat} {g : Nat → Nat → Value} {c0 s0 : Nat} {r0 : Int32} {r1 : Int32} {r2 : Int32} {r3 : Int32} {r4 : Int32} {r5 : Int32} {r6 : Int32} {r7 : Int32} {ix : Nat} {sp : Nat} {pc : Nat} {mm : Nat → Int32} {st : Nat} {lim : Nat} {pl : Int32} {mo : Int32} {on : Nat} {oa : Nat → Int32} {sta : Int32} {trp : Int32} {stp : Int32} {pr : Int32} {pc2 : Int32} {v : Nat} (hv : v < 256) : am_M (d + 1) 228 [.int (Int32.ofNat v)] (HR g c0 s0 r0 r1 r2 r3 r4 r5 r6 r7 ix sp pc mm st lim pl mo on oa sta trp stp pr pc2) = some (some (.int (sgV v)), HR g c0 s0 r0 r1 r2 r3 r4 r5 r6 r7 ix sp pc mm st lim pl mo on oa sta trp stp pr pc2) := by
  rw [e228]
  by_cases z : v = 0 <;> simp (disch := (refine id ?_; first | with_unfolding_all exact rfl | assumption | with_unfolding_all exact Nat.le_of_ble_eq_true rfl | (simp only [am_cat_nil, am_cat_int, am_cat_ref, am_cat_null, am_cat_long, Nat.reduceAdd, Nat.reduceLeDiff]; done) | exact rd_lt | exact rd_l | exact wd_lt | exact wd_l | omega | (have := @rd_lt; have := @wd_lt; omega) | exact i_nel (by omega) (by omega) (by omega) | exact i_bnd2 (by simp only [am_n, Nat.reduceDiv, Nat.reduceMod, Nat.reduceMul, Nat.reduceAdd]; omega) | decide | fail)) only [z228_0, z228_1, z228_4, z228_5, z228_6, z228_9, z228_11, z228_14, z228_15, z228_16, HR_r0, HR_r1, HR_r2, HR_r3, HR_r4, HR_r5, HR_r6, HR_r7, HR_r8, HR_r9, HR_r10, HR_r11, HR_r12, HR_r13, HR_r14, HR_r15, HR_r16, HR_r17, HR_r18, HR_r19, HR_r20, HR_r21, HR_r22, HR_r23, HR_r24, HR_r25, HR_r26, HR_r27, HR_r28, HR_r29, HR_a0, HR_a1, HR_w4, HR_w5, HR_w6, HR_w7, HR_w8, HR_w9, HR_w10, HR_w16, HR_w17, HR_w18, HR_w19, HR_w20, HR_w21, HR_w22, HR_w23, HR_w24, HR_w25, HR_w26, HR_w27, HR_w28, HR_w29, HR_b0, HR_b1, ↓reduceIte, Int32.reduceAdd, ad2, Nat.reduceAdd, i_10, i_00, i_m1, i_m3, i_m6, i_m7, i_m8, i_m12, i_m15, n_and65535, n_and255, n_and4095, n_and15, n_and1, n_shr8, n_shr7, n_shr1, n_shl8, n_shl1, n_shl7, n_or8, n_or8', mF_rd, mF_up, i8_8, hl_id, wd_e, a128, sgV, z, n_z, i_eqll, i_lell, i_ltll, Nat.reduceEqDiff, Nat.reduceLeDiff, Nat.reduceLT, am_then_some, am_tl1, am_tl0, i_addl, i_sub1, tn_of, tn_lit]
theorem ch_bitCount {d : Nat} {g : Nat → Nat → Value} {c0 s0 : Nat} {r0 : Int32} {r1 : Int32} {r2 : Int32} {r3 : Int32} {r4 : Int32} {r5 : Int32} {r6 : Int32} {r7 : Int32} {ix : Nat} {sp : Nat} {pc : Nat} {mm : Nat → Int32} {st : Nat} {lim : Nat} {pl : Int32} {mo : Int32} {on : Nat} {oa : Nat → Int32} {sta : Int32} {trp : Int32} {stp : Int32} {pr : Int32} {pc2 : Int32} {x : Int32} : am_M (d + 1) 295 [.int x] (HR g c0 s0 r0 r1 r2 r3 r4 r5 r6 r7 ix sp pc mm st lim pl mo on oa sta trp stp pr pc2) = some (some (.int (bcE x)), HR g c0 s0 r0 r1 r2 r3 r4 r5 r6 r7 ix sp pc mm st lim pl mo on oa sta trp stp pr pc2) := by
  rw [e295]
  simp (disch := (refine id ?_; first | with_unfolding_all exact rfl | assumption | with_unfolding_all exact Nat.le_of_ble_eq_true rfl | (simp only [am_cat_nil, am_cat_int, am_cat_ref, am_cat_null, am_cat_long, Nat.reduceAdd, Nat.reduceLeDiff]; done) | exact rd_lt | exact rd_l | exact wd_lt | exact wd_l | omega | (have := @rd_lt; have := @wd_lt; omega) | exact i_nel (by omega) (by omega) (by omega) | exact i_bnd2 (by simp only [am_n, Nat.reduceDiv, Nat.reduceMod, Nat.reduceMul, Nat.reduceAdd]; omega) | decide | fail)) only [z295_0, z295_1, z295_2, z295_3, z295_4, z295_7, z295_8, z295_9, z295_10, z295_11, z295_14, z295_15, z295_16, z295_17, z295_18, z295_21, z295_22, z295_23, z295_24, z295_25, z295_26, z295_27, z295_28, z295_29, z295_32, z295_33, z295_34, z295_35, z295_36, z295_38, z295_39, z295_40, z295_41, z295_42, z295_43, z295_45, z295_46, z295_47, z295_48, z295_49, z295_51, z295_52, HR_r0, HR_r1, HR_r2, HR_r3, HR_r4, HR_r5, HR_r6, HR_r7, HR_r8, HR_r9, HR_r10, HR_r11, HR_r12, HR_r13, HR_r14, HR_r15, HR_r16, HR_r17, HR_r18, HR_r19, HR_r20, HR_r21, HR_r22, HR_r23, HR_r24, HR_r25, HR_r26, HR_r27, HR_r28, HR_r29, HR_a0, HR_a1, HR_w4, HR_w5, HR_w6, HR_w7, HR_w8, HR_w9, HR_w10, HR_w16, HR_w17, HR_w18, HR_w19, HR_w20, HR_w21, HR_w22, HR_w23, HR_w24, HR_w25, HR_w26, HR_w27, HR_w28, HR_w29, HR_b0, HR_b1, ↓reduceIte, Int32.reduceAdd, ad2, Nat.reduceAdd, i_10, i_00, i_m1, i_m3, i_m6, i_m7, i_m8, i_m12, i_m15, n_and65535, n_and255, n_and4095, n_and15, n_and1, n_shr8, n_shr7, n_shr1, n_shl8, n_shl1, n_shl7, n_or8, n_or8', mF_rd, mF_up, i8_8, hl_id, wd_e, i_eqll, i_lell, i_ltll, Nat.reduceEqDiff, Nat.reduceLeDiff, Nat.reduceLT, am_then_some, am_tl1, am_tl0, i_addl, i_sub1, tn_of, tn_lit]
  rfl
theorem ch_even {d : Nat} {g : Nat → Nat → Value} {c0 s0 : Nat} {r0 : Int32} {r1 : Int32} {r2 : Int32} {r3 : Int32} {r4 : Int32} {r5 : Int32} {r6 : Int32} {r7 : Int32} {ix : Nat} {sp : Nat} {pc : Nat} {mm : Nat → Int32} {st : Nat} {lim : Nat} {pl : Int32} {mo : Int32} {on : Nat} {oa : Nat → Int32} {sta : Int32} {trp : Int32} {stp : Int32} {pr : Int32} {pc2 : Int32} {v : Nat} : am_M (d + 2) 229 [.int (Int32.ofNat v)] (HR g c0 s0 r0 r1 r2 r3 r4 r5 r6 r7 ix sp pc mm st lim pl mo on oa sta trp stp pr pc2) = some (some (.int (if even8 v then 4 else 0)), HR g c0 s0 r0 r1 r2 r3 r4 r5 r6 r7 ix sp pc mm st lim pl mo on oa sta trp stp pr pc2) := by
  rw [e229]
  by_cases z : bcE (Int32.ofNat v &&& 255) - bcE (Int32.ofNat v &&& 255) / 2 * 2 = 0 <;> simp (disch := (refine id ?_; first | with_unfolding_all exact rfl | assumption | with_unfolding_all exact Nat.le_of_ble_eq_true rfl | (simp only [am_cat_nil, am_cat_int, am_cat_ref, am_cat_null, am_cat_long, Nat.reduceAdd, Nat.reduceLeDiff]; done) | exact rd_lt | exact rd_l | exact wd_lt | exact wd_l | omega | (have := @rd_lt; have := @wd_lt; omega) | exact i_nel (by omega) (by omega) (by omega) | exact i_bnd2 (by simp only [am_n, Nat.reduceDiv, Nat.reduceMod, Nat.reduceMul, Nat.reduceAdd]; omega) | decide | fail)) only [z229_0, z229_1, z229_4, z229_5, z229_8, z229_9, z229_10, z229_13, z229_14, z229_17, z229_18, HR_r0, HR_r1, HR_r2, HR_r3, HR_r4, HR_r5, HR_r6, HR_r7, HR_r8, HR_r9, HR_r10, HR_r11, HR_r12, HR_r13, HR_r14, HR_r15, HR_r16, HR_r17, HR_r18, HR_r19, HR_r20, HR_r21, HR_r22, HR_r23, HR_r24, HR_r25, HR_r26, HR_r27, HR_r28, HR_r29, HR_a0, HR_a1, HR_w4, HR_w5, HR_w6, HR_w7, HR_w8, HR_w9, HR_w10, HR_w16, HR_w17, HR_w18, HR_w19, HR_w20, HR_w21, HR_w22, HR_w23, HR_w24, HR_w25, HR_w26, HR_w27, HR_w28, HR_w29, HR_b0, HR_b1, ↓reduceIte, Int32.reduceAdd, ad2, Nat.reduceAdd, i_10, i_00, i_m1, i_m3, i_m6, i_m7, i_m8, i_m12, i_m15, n_and65535, n_and4095, n_and15, n_and1, n_shr8, n_shr7, n_shr1, n_shl8, n_shl1, n_shl7, n_or8, n_or8', mF_rd, mF_up, i8_8, hl_id, wd_e, ch_bitCount, even8, z, decide_true, decide_false, Bool.false_eq_true, i_eqll, i_lell, i_ltll, Nat.reduceEqDiff, Nat.reduceLeDiff, Nat.reduceLT, am_then_some, am_tl1, am_tl0, i_addl, i_sub1, tn_of, tn_lit]
theorem ch_minus {d : Nat} {g : Nat → Nat → Value} {c0 s0 : Nat} {r0 : Int32} {r1 : Int32} {r2 : Int32} {r3 : Int32} {r4 : Int32} {r5 : Int32} {r6 : Int32} {r7 : Int32} {ix : Nat} {sp : Nat} {pc : Nat} {mm : Nat → Int32} {st : Nat} {lim : Nat} {pl : Int32} {mo : Int32} {on : Nat} {oa : Nat → Int32} {sta : Int32} {trp : Int32} {stp : Int32} {pr : Int32} {pc2 : Int32} {a v c : Nat} (ha : a < 256) (hv : v < 256) (hc : c < 2) : am_M (d + 2) 250 [.ref 124302393357, .int (Int32.ofNat a), .int (Int32.ofNat v), .int (Int32.ofNat c)] (HR g c0 s0 r0 r1 r2 r3 r4 r5 r6 r7 ix sp pc mm st lim pl mo on oa sta trp stp pr pc2) = some (some (.int (Int32.ofNat ((a + 512 - v - c) % 256))), HR g c0 s0 r0 r1 r2 r3 r4 r5 (fMi a v c) r7 ix sp pc mm st lim pl mo on oa sta trp stp pr pc2) := by
  rw [e250]
  by_cases c1 : a % 16 < v % 16 + c <;> by_cases c2 : (Int32.ofNat a ^^^ Int32.ofNat v) &&& (Int32.ofNat a ^^^ Int32.ofNat ((a + 512 - v - c) % 256)) &&& 128 = 0 <;> by_cases c3 : a < v + c <;> simp (disch := (refine id ?_; first | with_unfolding_all exact rfl | assumption | with_unfolding_all exact Nat.le_of_ble_eq_true rfl | (simp only [am_cat_nil, am_cat_int, am_cat_ref, am_cat_null, am_cat_long, Nat.reduceAdd, Nat.reduceLeDiff]; done) | exact rd_lt | exact rd_l | exact wd_lt | exact wd_l | omega | (have := @rd_lt; have := @wd_lt; omega) | exact i_nel (by omega) (by omega) (by omega) | exact i_bnd2 (by simp only [am_n, Nat.reduceDiv, Nat.reduceMod, Nat.reduceMul, Nat.reduceAdd]; omega) | decide | fail)) only [z250_0, z250_1, z250_2, z250_3, z250_4, z250_5, z250_7, z250_9, z250_12, z250_13, z250_15, z250_16, z250_19, z250_21, z250_23, z250_26, z250_27, z250_29, z250_30, z250_31, z250_33, z250_34, z250_35, z250_36, z250_37, z250_40, z250_42, z250_45, z250_46, z250_47, z250_48, z250_49, z250_50, z250_51, z250_53, z250_54, z250_55, z250_58, z250_59, z250_62, z250_63, z250_66, z250_67, z250_68, z250_69, z250_70, z250_72, z250_75, z250_76, z250_79, z250_80, z250_81, z250_82, z250_84, HR_r0, HR_r1, HR_r2, HR_r3, HR_r4, HR_r5, HR_r6, HR_r7, HR_r8, HR_r9, HR_r10, HR_r11, HR_r12, HR_r13, HR_r14, HR_r15, HR_r16, HR_r17, HR_r18, HR_r19, HR_r20, HR_r21, HR_r22, HR_r23, HR_r24, HR_r25, HR_r26, HR_r27, HR_r28, HR_r29, HR_a0, HR_a1, HR_w4, HR_w5, HR_w6, HR_w7, HR_w8, HR_w9, HR_w10, HR_w16, HR_w17, HR_w18, HR_w19, HR_w20, HR_w21, HR_w22, HR_w23, HR_w24, HR_w25, HR_w26, HR_w27, HR_w28, HR_w29, HR_b0, HR_b1, ↓reduceIte, Int32.reduceAdd, ad2, Nat.reduceAdd, i_10, i_00, i_m1, i_m3, i_m6, i_m7, i_m8, i_m12, i_m15, n_and65535, n_and255, n_and4095, n_and15, n_and1, n_shr8, n_shr7, n_shr1, n_shl8, n_shl1, n_shl7, n_or8, n_or8', mF_rd, mF_up, i8_8, hl_id, wd_e, n_sub3_8, n_sub3l, n_sub3ge, ch_signs, c1, c2, c3, fMi, fl, sgV, or_0, decide_true, decide_false, Bool.false_eq_true, not_true_eq_false, not_false_eq_true, decide_eq_true_eq, i_eqll, i_lell, i_ltll, Nat.reduceEqDiff, Nat.reduceLeDiff, Nat.reduceLT, am_then_some, am_tl1, am_tl0, i_addl, i_sub1, tn_of, tn_lit]
theorem ch_plus {d : Nat} {g : Nat → Nat → Value} {c0 s0 : Nat} {r0 : Int32} {r1 : Int32} {r2 : Int32} {r3 : Int32} {r4 : Int32} {r5 : Int32} {r6 : Int32} {r7 : Int32} {ix : Nat} {sp : Nat} {pc : Nat} {mm : Nat → Int32} {st : Nat} {lim : Nat} {pl : Int32} {mo : Int32} {on : Nat} {oa : Nat → Int32} {sta : Int32} {trp : Int32} {stp : Int32} {pr : Int32} {pc2 : Int32} {a v c : Nat} (ha : a < 256) (hv : v < 256) (hc : c < 2) : am_M (d + 2) 249 [.ref 124302393357, .int (Int32.ofNat a), .int (Int32.ofNat v), .int (Int32.ofNat c)] (HR g c0 s0 r0 r1 r2 r3 r4 r5 r6 r7 ix sp pc mm st lim pl mo on oa sta trp stp pr pc2) = some (some (.int (Int32.ofNat ((a + v + c) % 256))), HR g c0 s0 r0 r1 r2 r3 r4 r5 (fPl a v c) r7 ix sp pc mm st lim pl mo on oa sta trp stp pr pc2) := by
  rw [e249]
  by_cases c1 : 15 < a % 16 + v % 16 + c <;> by_cases c2 : ((Int32.ofNat a ^^^ Int32.ofNat v) ^^^ (-1)) &&& (Int32.ofNat a ^^^ Int32.ofNat ((a + v + c) % 256)) &&& 128 = 0 <;> by_cases c3 : 255 < a + v + c <;> simp (disch := (refine id ?_; first | with_unfolding_all exact rfl | assumption | with_unfolding_all exact Nat.le_of_ble_eq_true rfl | (simp only [am_cat_nil, am_cat_int, am_cat_ref, am_cat_null, am_cat_long, Nat.reduceAdd, Nat.reduceLeDiff]; done) | exact rd_lt | exact rd_l | exact wd_lt | exact wd_l | omega | (have := @rd_lt; have := @wd_lt; omega) | exact i_nel (by omega) (by omega) (by omega) | exact i_bnd2 (by simp only [am_n, Nat.reduceDiv, Nat.reduceMod, Nat.reduceMul, Nat.reduceAdd]; omega) | decide | fail)) only [z249_0, z249_1, z249_2, z249_3, z249_4, z249_5, z249_7, z249_9, z249_12, z249_13, z249_15, z249_16, z249_19, z249_21, z249_23, z249_26, z249_27, z249_29, z249_30, z249_31, z249_33, z249_34, z249_35, z249_36, z249_37, z249_39, z249_42, z249_44, z249_47, z249_48, z249_49, z249_50, z249_51, z249_52, z249_53, z249_54, z249_55, z249_57, z249_58, z249_59, z249_62, z249_63, z249_66, z249_67, z249_70, z249_71, z249_72, z249_74, z249_77, z249_80, z249_81, z249_84, z249_85, z249_86, z249_87, z249_89, HR_r0, HR_r1, HR_r2, HR_r3, HR_r4, HR_r5, HR_r6, HR_r7, HR_r8, HR_r9, HR_r10, HR_r11, HR_r12, HR_r13, HR_r14, HR_r15, HR_r16, HR_r17, HR_r18, HR_r19, HR_r20, HR_r21, HR_r22, HR_r23, HR_r24, HR_r25, HR_r26, HR_r27, HR_r28, HR_r29, HR_a0, HR_a1, HR_w4, HR_w5, HR_w6, HR_w7, HR_w8, HR_w9, HR_w10, HR_w16, HR_w17, HR_w18, HR_w19, HR_w20, HR_w21, HR_w22, HR_w23, HR_w24, HR_w25, HR_w26, HR_w27, HR_w28, HR_w29, HR_b0, HR_b1, ↓reduceIte, Int32.reduceAdd, ad2, Nat.reduceAdd, i_10, i_00, i_m1, i_m3, i_m6, i_m7, i_m8, i_m12, i_m15, n_and65535, n_and255, n_and4095, n_and15, n_and1, n_shr8, n_shr7, n_shr1, n_shl8, n_shl1, n_shl7, n_or8, n_or8', mF_rd, mF_up, i8_8, hl_id, wd_e, n_add, n_gt15, n_gt255, n_le15, n_le255, ch_signs, c1, c2, c3, fPl, fl, sgV, or_0, decide_true, decide_false, Bool.false_eq_true, not_true_eq_false, not_false_eq_true, decide_eq_true_eq, i_eqll, i_lell, i_ltll, Nat.reduceEqDiff, Nat.reduceLeDiff, Nat.reduceLT, am_then_some, am_tl1, am_tl0, i_addl, i_sub1, tn_of, tn_lit]
theorem ch_oneMore {d : Nat} {g : Nat → Nat → Value} {c0 s0 : Nat} {r0 : Int32} {r1 : Int32} {r2 : Int32} {r3 : Int32} {r4 : Int32} {r5 : Int32} {r6 : Int32} {r7 : Int32} {ix : Nat} {sp : Nat} {pc : Nat} {mm : Nat → Int32} {st : Nat} {lim : Nat} {pl : Int32} {mo : Int32} {on : Nat} {oa : Nat → Int32} {sta : Int32} {trp : Int32} {stp : Int32} {pr : Int32} {pc2 : Int32} {v : Nat} (hv : v < 256) : am_M (d + 2) 245 [.ref 124302393357, .int (Int32.ofNat v)] (HR g c0 s0 r0 r1 r2 r3 r4 r5 r6 r7 ix sp pc mm st lim pl mo on oa sta trp stp pr pc2) = some (some (.int (Int32.ofNat ((v + 1) % 256))), HR g c0 s0 r0 r1 r2 r3 r4 r5 (fInc r6 v) r7 ix sp pc mm st lim pl mo on oa sta trp stp pr pc2) := by
  rw [e245]
  by_cases c1 : v % 16 = 15 <;> by_cases c2 : (v + 1) % 256 = 128 <;> simp (disch := (refine id ?_; first | with_unfolding_all exact rfl | assumption | with_unfolding_all exact Nat.le_of_ble_eq_true rfl | (simp only [am_cat_nil, am_cat_int, am_cat_ref, am_cat_null, am_cat_long, Nat.reduceAdd, Nat.reduceLeDiff]; done) | exact rd_lt | exact rd_l | exact wd_lt | exact wd_l | omega | (have := @rd_lt; have := @wd_lt; omega) | exact i_nel (by omega) (by omega) (by omega) | exact i_bnd2 (by simp only [am_n, Nat.reduceDiv, Nat.reduceMod, Nat.reduceMul, Nat.reduceAdd]; omega) | decide | fail)) only [z245_0, z245_1, z245_2, z245_3, z245_6, z245_7, z245_8, z245_9, z245_12, z245_14, z245_15, z245_18, z245_19, z245_20, z245_21, z245_24, z245_25, z245_26, z245_28, z245_29, z245_31, z245_34, z245_36, z245_39, z245_40, z245_41, z245_42, z245_45, z245_48, z245_49, z245_52, z245_53, z245_54, z245_55, z245_56, HR_r0, HR_r1, HR_r2, HR_r3, HR_r4, HR_r5, HR_r6, HR_r7, HR_r8, HR_r9, HR_r10, HR_r11, HR_r12, HR_r13, HR_r14, HR_r15, HR_r16, HR_r17, HR_r18, HR_r19, HR_r20, HR_r21, HR_r22, HR_r23, HR_r24, HR_r25, HR_r26, HR_r27, HR_r28, HR_r29, HR_a0, HR_a1, HR_w4, HR_w5, HR_w6, HR_w7, HR_w8, HR_w9, HR_w10, HR_w16, HR_w17, HR_w18, HR_w19, HR_w20, HR_w21, HR_w22, HR_w23, HR_w24, HR_w25, HR_w26, HR_w27, HR_w28, HR_w29, HR_b0, HR_b1, ↓reduceIte, Int32.reduceAdd, ad2, Nat.reduceAdd, i_10, i_00, i_m1, i_m3, i_m6, i_m7, i_m8, i_m12, i_m15, n_and65535, n_and255, n_and4095, n_and15, n_and1, n_shr8, n_shr7, n_shr1, n_shl8, n_shl1, n_shl7, n_or8, n_or8', mF_rd, mF_up, i8_8, hl_id, wd_e, ch_f, ch_signs, n_eq15, n_eq128, c1, c2, fInc, i_eqll, i_lell, i_ltll, Nat.reduceEqDiff, Nat.reduceLeDiff, Nat.reduceLT, am_then_some, am_tl1, am_tl0, i_addl, i_sub1, tn_of, tn_lit]
theorem n_m1 {v : Nat} (hv : v < 256) : (Int32.ofNat v - 1) &&& 255 = Int32.ofNat ((v + 255) % 256) := by
  have h := n_sub3_8 (a := v) (v := 1) (c := 0) hv (by decide) (by decide)
  have e : Int32.ofNat v - 1 = Int32.ofNat v - Int32.ofNat 1 - Int32.ofNat 0 := (Int32.sub_zero _).symm
  rw [e, h]
  congr 1
  omega
theorem n_m1w {v : Nat} (hv : v < 65536) : (Int32.ofNat v - 1) &&& 65535 = Int32.ofNat ((v + 65535) % 65536) := by
  have h := n_sub3_16 (a := v) (v := 1) (c := 0) hv (by decide) (by decide)
  have e : Int32.ofNat v - 1 = Int32.ofNat v - Int32.ofNat 1 - Int32.ofNat 0 := (Int32.sub_zero _).symm
  rw [e, h]
  congr 1
  omega
theorem ch_oneLess {d : Nat} {g : Nat → Nat → Value} {c0 s0 : Nat} {r0 : Int32} {r1 : Int32} {r2 : Int32} {r3 : Int32} {r4 : Int32} {r5 : Int32} {r6 : Int32} {r7 : Int32} {ix : Nat} {sp : Nat} {pc : Nat} {mm : Nat → Int32} {st : Nat} {lim : Nat} {pl : Int32} {mo : Int32} {on : Nat} {oa : Nat → Int32} {sta : Int32} {trp : Int32} {stp : Int32} {pr : Int32} {pc2 : Int32} {v : Nat} (hv : v < 256) : am_M (d + 2) 246 [.ref 124302393357, .int (Int32.ofNat v)] (HR g c0 s0 r0 r1 r2 r3 r4 r5 r6 r7 ix sp pc mm st lim pl mo on oa sta trp stp pr pc2) = some (some (.int (Int32.ofNat ((v + 255) % 256))), HR g c0 s0 r0 r1 r2 r3 r4 r5 (fDec r6 v) r7 ix sp pc mm st lim pl mo on oa sta trp stp pr pc2) := by
  rw [e246]
  by_cases c1 : v % 16 = 0 <;> by_cases c2 : (v + 255) % 256 = 127 <;> simp (disch := (refine id ?_; first | with_unfolding_all exact rfl | assumption | with_unfolding_all exact Nat.le_of_ble_eq_true rfl | (simp only [am_cat_nil, am_cat_int, am_cat_ref, am_cat_null, am_cat_long, Nat.reduceAdd, Nat.reduceLeDiff]; done) | exact rd_lt | exact rd_l | exact wd_lt | exact wd_l | omega | (have := @rd_lt; have := @wd_lt; omega) | exact i_nel (by omega) (by omega) (by omega) | exact i_bnd2 (by simp only [am_n, Nat.reduceDiv, Nat.reduceMod, Nat.reduceMul, Nat.reduceAdd]; omega) | decide | fail)) only [z246_0, z246_1, z246_2, z246_3, z246_6, z246_7, z246_8, z246_9, z246_12, z246_14, z246_15, z246_18, z246_19, z246_20, z246_21, z246_24, z246_25, z246_26, z246_28, z246_29, z246_32, z246_34, z246_37, z246_38, z246_39, z246_40, z246_42, z246_45, z246_46, z246_49, z246_50, z246_51, z246_52, z246_53, z246_54, z246_55, HR_r0, HR_r1, HR_r2, HR_r3, HR_r4, HR_r5, HR_r6, HR_r7, HR_r8, HR_r9, HR_r10, HR_r11, HR_r12, HR_r13, HR_r14, HR_r15, HR_r16, HR_r17, HR_r18, HR_r19, HR_r20, HR_r21, HR_r22, HR_r23, HR_r24, HR_r25, HR_r26, HR_r27, HR_r28, HR_r29, HR_a0, HR_a1, HR_w4, HR_w5, HR_w6, HR_w7, HR_w8, HR_w9, HR_w10, HR_w16, HR_w17, HR_w18, HR_w19, HR_w20, HR_w21, HR_w22, HR_w23, HR_w24, HR_w25, HR_w26, HR_w27, HR_w28, HR_w29, HR_b0, HR_b1, ↓reduceIte, Int32.reduceAdd, ad2, Nat.reduceAdd, i_10, i_00, i_m1, i_m3, i_m6, i_m7, i_m8, i_m12, i_m15, n_and65535, n_and255, n_and4095, n_and15, n_and1, n_shr8, n_shr7, n_shr1, n_shl8, n_shl1, n_shl7, n_or8, n_or8', mF_rd, mF_up, i8_8, hl_id, wd_e, ch_f, ch_signs, n_m1, n_z, n_eq127, c1, c2, fDec, i_eqll, i_lell, i_ltll, Nat.reduceEqDiff, Nat.reduceLeDiff, Nat.reduceLT, am_then_some, am_tl1, am_tl0, i_addl, i_sub1, tn_of, tn_lit]
theorem ch_addPair0 {d : Nat} {g : Nat → Nat → Value} {c0 s0 : Nat} {r0 : Int32} {r1 : Int32} {r2 : Int32} {r3 : Int32} {r6 : Int32} {r7 : Int32} {ix : Nat} {sp : Nat} {pc : Nat} {mm : Nat → Int32} {st : Nat} {lim : Nat} {pl : Int32} {mo : Int32} {on : Nat} {oa : Nat → Int32} {sta : Int32} {trp : Int32} {stp : Int32} {pc2 : Int32} {v h l : Nat} (hh : h < 256) (hl : l < 256) (hv : v < 65536) : am_M (d + 3) 238 [.ref 124302393357, .int (Int32.ofNat v)] (HR g c0 s0 r0 r1 r2 r3 (Int32.ofNat h) (Int32.ofNat l) r6 r7 ix sp pc mm st lim pl mo on oa sta trp stp 0 pc2) = some (none, HR g c0 s0 r0 r1 r2 r3 (Int32.ofNat (((h * 256 + l) + v) / 256 % 256)) (Int32.ofNat (((h * 256 + l) + v) % 256)) (fAdd r6 (h * 256 + l) v) r7 ix sp pc mm st lim pl mo on oa sta trp stp 0 pc2) := by
  rw [e238]
  by_cases c1 : 4095 < (h * 256 + l) % 4096 + v % 4096 <;> by_cases c2 : 65535 < (h * 256 + l) + v <;> simp (disch := (refine id ?_; first | with_unfolding_all exact rfl | assumption | with_unfolding_all exact Nat.le_of_ble_eq_true rfl | (simp only [am_cat_nil, am_cat_int, am_cat_ref, am_cat_null, am_cat_long, Nat.reduceAdd, Nat.reduceLeDiff]; done) | exact rd_lt | exact rd_l | exact wd_lt | exact wd_l | omega | (have := @rd_lt; have := @wd_lt; omega) | exact i_nel (by omega) (by omega) (by omega) | exact i_bnd2 (by simp only [am_n, Nat.reduceDiv, Nat.reduceMod, Nat.reduceMul, Nat.reduceAdd]; omega) | decide | fail)) only [z238_0, z238_1, z238_4, z238_5, z238_6, z238_7, z238_8, z238_9, z238_10, z238_13, z238_15, z238_16, z238_19, z238_22, z238_23, z238_24, z238_27, z238_28, z238_29, z238_32, z238_33, z238_34, z238_37, z238_40, z238_42, z238_45, z238_46, z238_47, z238_48, z238_50, z238_53, z238_54, z238_57, z238_58, z238_59, z238_60, z238_61, z238_62, z238_65, HR_r0, HR_r1, HR_r2, HR_r3, HR_r4, HR_r5, HR_r6, HR_r7, HR_r8, HR_r9, HR_r10, HR_r11, HR_r12, HR_r13, HR_r14, HR_r15, HR_r16, HR_r17, HR_r18, HR_r19, HR_r20, HR_r21, HR_r22, HR_r23, HR_r24, HR_r25, HR_r26, HR_r27, HR_r28, HR_r29, HR_a0, HR_a1, HR_w4, HR_w5, HR_w6, HR_w7, HR_w8, HR_w9, HR_w10, HR_w16, HR_w17, HR_w18, HR_w19, HR_w20, HR_w21, HR_w22, HR_w23, HR_w24, HR_w25, HR_w26, HR_w27, HR_w28, HR_w29, HR_b0, HR_b1, ↓reduceIte, Int32.reduceAdd, ad2, Nat.reduceAdd, i_10, i_00, i_m1, i_m3, i_m6, i_m7, i_m8, i_m12, i_m15, n_and65535, n_and255, n_and4095, n_and15, n_and1, n_shr8, n_shr7, n_shr1, n_shl8, n_shl1, n_shl7, n_or8, n_or8', mF_rd, mF_up, i8_8, hl_id, wd_e, ch_main0, ch_f, n_add, n_gt4095, n_gt65535, n_le4095, n_le65535, not_true_eq_false, not_false_eq_true, ch_setMain0, c1, c2, fAdd, i_eqll, i_lell, i_ltll, Nat.reduceEqDiff, Nat.reduceLeDiff, Nat.reduceLT, am_then_some, am_tl1, am_tl0, i_addl, i_sub1, tn_of, tn_lit]
theorem ch_addPair1 {d : Nat} {g : Nat → Nat → Value} {c0 s0 : Nat} {r0 : Int32} {r1 : Int32} {r2 : Int32} {r3 : Int32} {r4 : Int32} {r5 : Int32} {r6 : Int32} {r7 : Int32} {ix : Nat} {sp : Nat} {pc : Nat} {mm : Nat → Int32} {st : Nat} {lim : Nat} {pl : Int32} {mo : Int32} {on : Nat} {oa : Nat → Int32} {sta : Int32} {trp : Int32} {stp : Int32} {pc2 : Int32} {v : Nat} (hx : ix < 65536) (hv : v < 65536) : am_M (d + 3) 238 [.ref 124302393357, .int (Int32.ofNat v)] (HR g c0 s0 r0 r1 r2 r3 r4 r5 r6 r7 ix sp pc mm st lim pl mo on oa sta trp stp 1 pc2) = some (none, HR g c0 s0 r0 r1 r2 r3 r4 r5 (fAdd r6 ix v) r7 ((ix + v) % 65536) sp pc mm st lim pl mo on oa sta trp stp 1 pc2) := by
  rw [e238]
  by_cases c1 : 4095 < ix % 4096 + v % 4096 <;> by_cases c2 : 65535 < ix + v <;> simp (disch := (refine id ?_; first | with_unfolding_all exact rfl | assumption | with_unfolding_all exact Nat.le_of_ble_eq_true rfl | (simp only [am_cat_nil, am_cat_int, am_cat_ref, am_cat_null, am_cat_long, Nat.reduceAdd, Nat.reduceLeDiff]; done) | exact rd_lt | exact rd_l | exact wd_lt | exact wd_l | omega | (have := @rd_lt; have := @wd_lt; omega) | exact i_nel (by omega) (by omega) (by omega) | exact i_bnd2 (by simp only [am_n, Nat.reduceDiv, Nat.reduceMod, Nat.reduceMul, Nat.reduceAdd]; omega) | decide | fail)) only [z238_0, z238_1, z238_4, z238_5, z238_6, z238_7, z238_8, z238_9, z238_10, z238_13, z238_15, z238_16, z238_19, z238_22, z238_23, z238_24, z238_27, z238_28, z238_29, z238_32, z238_33, z238_34, z238_37, z238_40, z238_42, z238_45, z238_46, z238_47, z238_48, z238_50, z238_53, z238_54, z238_57, z238_58, z238_59, z238_60, z238_61, z238_62, z238_65, HR_r0, HR_r1, HR_r2, HR_r3, HR_r4, HR_r5, HR_r6, HR_r7, HR_r8, HR_r9, HR_r10, HR_r11, HR_r12, HR_r13, HR_r14, HR_r15, HR_r16, HR_r17, HR_r18, HR_r19, HR_r20, HR_r21, HR_r22, HR_r23, HR_r24, HR_r25, HR_r26, HR_r27, HR_r28, HR_r29, HR_a0, HR_a1, HR_w4, HR_w5, HR_w6, HR_w7, HR_w8, HR_w9, HR_w10, HR_w16, HR_w17, HR_w18, HR_w19, HR_w20, HR_w21, HR_w22, HR_w23, HR_w24, HR_w25, HR_w26, HR_w27, HR_w28, HR_w29, HR_b0, HR_b1, ↓reduceIte, Int32.reduceAdd, ad2, Nat.reduceAdd, i_10, i_00, i_m1, i_m3, i_m6, i_m7, i_m8, i_m12, i_m15, n_and65535, n_and255, n_and4095, n_and15, n_and1, n_shr8, n_shr7, n_shr1, n_shl8, n_shl1, n_shl7, n_or8, n_or8', mF_rd, mF_up, i8_8, hl_id, wd_e, ch_main1, ch_f, n_add, n_gt4095, n_gt65535, n_le4095, n_le65535, not_true_eq_false, not_false_eq_true, ch_setMain1, c1, c2, fAdd, i_eqll, i_lell, i_ltll, Nat.reduceEqDiff, Nat.reduceLeDiff, Nat.reduceLT, am_then_some, am_tl1, am_tl0, i_addl, i_sub1, tn_of, tn_lit]
theorem a128w {w : Nat} (h : w < 65536) : Int32.ofNat (w / 256) &&& 128 = if 32768 ≤ w then 128 else 0 := by
  rw [a128 (by omega)]
  by_cases c : 32768 ≤ w
  · rw [if_pos c, if_pos (by omega)]
  · rw [if_neg c, if_neg (by omega)]
theorem ch_wide_s {d : Nat} {g : Nat → Nat → Value} {c0 s0 : Nat} {r0 : Int32} {r1 : Int32} {r2 : Int32} {r3 : Int32} {r6 : Int32} {r7 : Int32} {ix : Nat} {sp : Nat} {pc : Nat} {mm : Nat → Int32} {st : Nat} {lim : Nat} {pl : Int32} {mo : Int32} {on : Nat} {oa : Nat → Int32} {sta : Int32} {trp : Int32} {stp : Int32} {pr : Int32} {pc2 : Int32} {v h l : Nat} (hh : h < 256) (hl : l < 256) (hv : v < 65536) : am_M (d + 2) 260 [.ref 124302393357, .int 0, .int (Int32.ofNat v)] (HR g c0 s0 r0 r1 r2 r3 (Int32.ofNat h) (Int32.ofNat l) r6 r7 ix sp pc mm st lim pl mo on oa sta trp stp pr pc2) = some (none, HR g c0 s0 r0 r1 r2 r3 (Int32.ofNat ((((h * 256 + l) + 131072 - v - cyn r6) % 65536) / 256 % 256)) (Int32.ofNat ((((h * 256 + l) + 131072 - v - cyn r6) % 65536) % 256)) (fWs r6 (h * 256 + l) v) r7 ix sp pc mm st lim pl mo on oa sta trp stp pr pc2) := by
  have hcy := @cyn_lt r6
  have hw : (h * 256 + l) < 65536 := by omega
  have hov := ovs_b (a := (h * 256 + l)) (v := v) (c := cyn r6) hw hv hcy
  have hsb := @n_sub3_16 (h * 256 + l) v (cyn r6) hw hv hcy
  have had : Int32.ofNat ((h * 256 + l) + v + cyn r6) &&& 65535 = Int32.ofNat (((h * 256 + l) + v + cyn r6) % 65536) := n_and65535 (by omega)
  have hf : fWs r6 (h * 256 + l) v = fl (decide (32768 ≤ (((h * 256 + l) + 131072 - v - cyn r6) % 65536))) (decide ((((h * 256 + l) + 131072 - v - cyn r6) % 65536) = 0)) (decide ((h * 256 + l) % 4096 < v % 4096 + cyn r6)) (ovs (h * 256 + l) v (cyn r6)) true (decide ((h * 256 + l) < v + cyn r6)) := rfl
  rw [hf]
  generalize hW : (((h * 256 + l) + 131072 - v - cyn r6) % 65536) = W at *
  have lW : W < 65536 := by omega
  rw [e260]
  rcases (show (W = 0) = True ∨ (W = 0) = False from (Classical.em (W = 0)).elim (fun c => Or.inl (eq_true c)) (fun c => Or.inr (eq_false c))) with c4 | c4 <;> by_cases c1 : (h * 256 + l) % 4096 < v % 4096 + cyn r6 <;> by_cases c2 : ovs (h * 256 + l) v (cyn r6) = false <;> by_cases c3 : (h * 256 + l) < v + cyn r6 <;> simp (disch := (refine id ?_; first | with_unfolding_all exact rfl | assumption | with_unfolding_all exact Nat.le_of_ble_eq_true rfl | (simp only [am_cat_nil, am_cat_int, am_cat_ref, am_cat_null, am_cat_long, Nat.reduceAdd, Nat.reduceLeDiff]; done) | exact rd_lt | exact rd_l | exact wd_lt | exact wd_l | omega | (have := @rd_lt; have := @wd_lt; omega) | exact i_nel (by omega) (by omega) (by omega) | exact i_bnd2 (by simp only [am_n, Nat.reduceDiv, Nat.reduceMod, Nat.reduceMul, Nat.reduceAdd]; omega) | decide | fail)) only [z260_0, z260_1, z260_4, z260_5, z260_6, z260_9, z260_10, z260_11, z260_13, z260_14, z260_17, z260_18, z260_19, z260_20, z260_22, z260_23, z260_26, z260_27, z260_28, z260_29, z260_31, z260_32, z260_34, z260_36, z260_38, z260_39, z260_41, z260_42, z260_45, z260_46, z260_49, z260_50, z260_51, z260_54, z260_55, z260_56, z260_58, z260_59, z260_62, z260_63, z260_66, z260_67, z260_68, z260_71, z260_72, z260_73, z260_75, z260_76, z260_78, z260_79, z260_82, z260_83, z260_84, z260_85, z260_86, z260_87, z260_88, z260_90, z260_91, z260_92, z260_95, z260_96, z260_97, z260_98, z260_99, z260_101, z260_102, z260_103, z260_105, z260_106, z260_109, z260_111, z260_113, z260_115, z260_116, z260_119, z260_120, z260_122, z260_125, z260_127, z260_130, z260_131, z260_132, z260_134, z260_137, z260_139, z260_142, z260_145, z260_147, z260_150, z260_151, z260_152, z260_154, z260_156, z260_157, z260_160, z260_161, z260_164, z260_165, z260_166, z260_167, z260_170, z260_171, z260_174, z260_175, z260_176, z260_178, z260_181, z260_183, z260_185, z260_188, z260_189, z260_192, z260_193, z260_194, z260_195, z260_196, z260_197, z260_199, z260_202, HR_r0, HR_r1, HR_r2, HR_r3, HR_r4, HR_r5, HR_r6, HR_r7, HR_r8, HR_r9, HR_r10, HR_r11, HR_r12, HR_r13, HR_r14, HR_r15, HR_r16, HR_r17, HR_r18, HR_r19, HR_r20, HR_r21, HR_r22, HR_r23, HR_r24, HR_r25, HR_r26, HR_r27, HR_r28, HR_r29, HR_a0, HR_a1, HR_w4, HR_w5, HR_w6, HR_w7, HR_w8, HR_w9, HR_w10, HR_w16, HR_w17, HR_w18, HR_w19, HR_w20, HR_w21, HR_w22, HR_w23, HR_w24, HR_w25, HR_w26, HR_w27, HR_w28, HR_w29, HR_b0, HR_b1, ↓reduceIte, Int32.reduceAdd, ad2, Nat.reduceAdd, i_10, i_00, i_m1, i_m3, i_m6, i_m7, i_m8, i_m12, i_m15, n_and255, n_and4095, n_and15, n_and1, n_shr8, n_shr7, n_shr1, n_shl8, n_shl1, n_shl7, n_or8, n_or8', mF_rd, mF_up, i8_8, hl_id, wd_e, ch_hl, ch_f, and1, hsb, had, n_sub3l, n_sub3ge, n_sub3g4, n_sub3g6, n_sub3l4, n_sub3l6, n_add, n_gt4095, n_gt65535, n_le4095, n_le65535, n_lt0, n_ge0, n_z, hov, a128w, ch_setPair4, c1, c2, c3, c4, fl, bt_f, or_0, decide_true, decide_false, Bool.false_eq_true, not_true_eq_false, not_false_eq_true, decide_eq_true_eq, i_eqll, i_lell, i_ltll, Nat.reduceEqDiff, Nat.reduceLeDiff, Nat.reduceLT, am_then_some, am_tl1, am_tl0, i_addl, i_sub1, tn_of, tn_lit]
theorem ch_wide_a {d : Nat} {g : Nat → Nat → Value} {c0 s0 : Nat} {r0 : Int32} {r1 : Int32} {r2 : Int32} {r3 : Int32} {r6 : Int32} {r7 : Int32} {ix : Nat} {sp : Nat} {pc : Nat} {mm : Nat → Int32} {st : Nat} {lim : Nat} {pl : Int32} {mo : Int32} {on : Nat} {oa : Nat → Int32} {sta : Int32} {trp : Int32} {stp : Int32} {pr : Int32} {pc2 : Int32} {v h l : Nat} (hh : h < 256) (hl : l < 256) (hv : v < 65536) : am_M (d + 2) 260 [.ref 124302393357, .int 1, .int (Int32.ofNat v)] (HR g c0 s0 r0 r1 r2 r3 (Int32.ofNat h) (Int32.ofNat l) r6 r7 ix sp pc mm st lim pl mo on oa sta trp stp pr pc2) = some (none, HR g c0 s0 r0 r1 r2 r3 (Int32.ofNat ((((h * 256 + l) + v + cyn r6) % 65536) / 256 % 256)) (Int32.ofNat ((((h * 256 + l) + v + cyn r6) % 65536) % 256)) (fWa r6 (h * 256 + l) v) r7 ix sp pc mm st lim pl mo on oa sta trp stp pr pc2) := by
  have hcy := @cyn_lt r6
  have hw : (h * 256 + l) < 65536 := by omega
  have hov := ova_b (a := (h * 256 + l)) (v := v) (c := cyn r6) hw hv hcy
  have hsb := @n_sub3_16 (h * 256 + l) v (cyn r6) hw hv hcy
  have had : Int32.ofNat ((h * 256 + l) + v + cyn r6) &&& 65535 = Int32.ofNat (((h * 256 + l) + v + cyn r6) % 65536) := n_and65535 (by omega)
  have hf : fWa r6 (h * 256 + l) v = fl (decide (32768 ≤ (((h * 256 + l) + v + cyn r6) % 65536))) (decide ((((h * 256 + l) + v + cyn r6) % 65536) = 0)) (decide (4095 < (h * 256 + l) % 4096 + v % 4096 + cyn r6)) (ova (h * 256 + l) v (cyn r6)) false (decide (65535 < (h * 256 + l) + v + cyn r6)) := rfl
  rw [hf]
  generalize hW : (((h * 256 + l) + v + cyn r6) % 65536) = W at *
  have lW : W < 65536 := by omega
  rw [e260]
  rcases (show (W = 0) = True ∨ (W = 0) = False from (Classical.em (W = 0)).elim (fun c => Or.inl (eq_true c)) (fun c => Or.inr (eq_false c))) with c4 | c4 <;> by_cases c1 : 4095 < (h * 256 + l) % 4096 + v % 4096 + cyn r6 <;> by_cases c2 : ova (h * 256 + l) v (cyn r6) = false <;> by_cases c3 : 65535 < (h * 256 + l) + v + cyn r6 <;> simp (disch := (refine id ?_; first | with_unfolding_all exact rfl | assumption | with_unfolding_all exact Nat.le_of_ble_eq_true rfl | (simp only [am_cat_nil, am_cat_int, am_cat_ref, am_cat_null, am_cat_long, Nat.reduceAdd, Nat.reduceLeDiff]; done) | exact rd_lt | exact rd_l | exact wd_lt | exact wd_l | omega | (have := @rd_lt; have := @wd_lt; omega) | exact i_nel (by omega) (by omega) (by omega) | exact i_bnd2 (by simp only [am_n, Nat.reduceDiv, Nat.reduceMod, Nat.reduceMul, Nat.reduceAdd]; omega) | decide | fail)) only [z260_0, z260_1, z260_4, z260_5, z260_6, z260_9, z260_10, z260_11, z260_13, z260_14, z260_17, z260_18, z260_19, z260_20, z260_22, z260_23, z260_26, z260_27, z260_28, z260_29, z260_31, z260_32, z260_34, z260_36, z260_38, z260_39, z260_41, z260_42, z260_45, z260_46, z260_49, z260_50, z260_51, z260_54, z260_55, z260_56, z260_58, z260_59, z260_62, z260_63, z260_66, z260_67, z260_68, z260_71, z260_72, z260_73, z260_75, z260_76, z260_78, z260_79, z260_82, z260_83, z260_84, z260_85, z260_86, z260_87, z260_88, z260_90, z260_91, z260_92, z260_95, z260_96, z260_97, z260_98, z260_99, z260_101, z260_102, z260_103, z260_105, z260_106, z260_109, z260_111, z260_113, z260_115, z260_116, z260_119, z260_120, z260_122, z260_125, z260_127, z260_130, z260_131, z260_132, z260_134, z260_137, z260_139, z260_142, z260_145, z260_147, z260_150, z260_151, z260_152, z260_154, z260_156, z260_157, z260_160, z260_161, z260_164, z260_165, z260_166, z260_167, z260_170, z260_171, z260_174, z260_175, z260_176, z260_178, z260_181, z260_183, z260_185, z260_188, z260_189, z260_192, z260_193, z260_194, z260_195, z260_196, z260_197, z260_199, z260_202, HR_r0, HR_r1, HR_r2, HR_r3, HR_r4, HR_r5, HR_r6, HR_r7, HR_r8, HR_r9, HR_r10, HR_r11, HR_r12, HR_r13, HR_r14, HR_r15, HR_r16, HR_r17, HR_r18, HR_r19, HR_r20, HR_r21, HR_r22, HR_r23, HR_r24, HR_r25, HR_r26, HR_r27, HR_r28, HR_r29, HR_a0, HR_a1, HR_w4, HR_w5, HR_w6, HR_w7, HR_w8, HR_w9, HR_w10, HR_w16, HR_w17, HR_w18, HR_w19, HR_w20, HR_w21, HR_w22, HR_w23, HR_w24, HR_w25, HR_w26, HR_w27, HR_w28, HR_w29, HR_b0, HR_b1, ↓reduceIte, Int32.reduceAdd, ad2, Nat.reduceAdd, i_10, i_00, i_m1, i_m3, i_m6, i_m7, i_m8, i_m12, i_m15, n_and255, n_and4095, n_and15, n_and1, n_shr8, n_shr7, n_shr1, n_shl8, n_shl1, n_shl7, n_or8, n_or8', mF_rd, mF_up, i8_8, hl_id, wd_e, ch_hl, ch_f, and1, hsb, had, n_sub3l, n_sub3ge, n_sub3g4, n_sub3g6, n_sub3l4, n_sub3l6, n_add, n_gt4095, n_gt65535, n_le4095, n_le65535, n_lt0, n_ge0, n_z, hov, a128w, ch_setPair4, c1, c2, c3, c4, fl, bt_f, or_0, decide_true, decide_false, Bool.false_eq_true, not_true_eq_false, not_false_eq_true, decide_eq_true_eq, i_eqll, i_lell, i_ltll, Nat.reduceEqDiff, Nat.reduceLeDiff, Nat.reduceLT, am_then_some, am_tl1, am_tl0, i_addl, i_sub1, tn_of, tn_lit]
