/-! numbers of the machine, by Nat -/
theorem ti_of {n : Nat} (h : n < 2147483648) : (Int32.ofNat n).toInt = (n : Int) := Int32.toInt_ofNat_of_lt (by omega)
theorem ti_lit {k : Nat} (h : k < 2147483648) : (OfNat.ofNat k : Int32).toInt = (k : Int) := ti_of h
theorem ci_lt {x y : Int32} : (x < y) = (x.toInt < y.toInt) := propext Int32.lt_iff_toInt_lt
theorem ci_le {x y : Int32} : (x ≤ y) = (x.toInt ≤ y.toInt) := propext Int32.le_iff_toInt_le
theorem ci_eq {x y : Int32} : (x = y) = (x.toInt = y.toInt) := propext Int32.toInt_inj.symm
theorem i_add (n m : Nat) : Int32.ofNat n + Int32.ofNat m = Int32.ofNat (n + m) := (Int32.ofNat_add n m).symm
theorem i_addl (n k : Nat) : Int32.ofNat n + (no_index (OfNat.ofNat k)) = Int32.ofNat (n + OfNat.ofNat k) := (Int32.ofNat_add n k).symm
theorem i_lit (k : Nat) : (no_index (OfNat.ofNat k) : Int32) = Int32.ofNat k := rfl
theorem i_sub1 (n : Nat) : Int32.ofNat (n + 1) - 1 = Int32.ofNat n := by rw [Int32.ofNat_add]; exact Int32.add_sub_cancel _ _
theorem tn_of {n : Nat} (h : n < 2147483648) : (Int32.ofNat n).toNatClampNeg = n := by rw [Int32.toNatClampNeg, ti_of h]; rfl
theorem tn_lit {k : Nat} (h : (OfNat.ofNat k : Nat) < 2147483648) : (no_index (OfNat.ofNat k) : Int32).toNatClampNeg = OfNat.ofNat k := tn_of h
theorem i_ne {n k : Nat} (h : n ≠ k) (hn : n < 2147483648) (hk : k < 2147483648) : ¬ (Int32.ofNat n = Int32.ofNat k) := fun e => h (by have := congrArg Int32.toInt e; rw [ti_of hn, ti_of hk] at this; omega)
theorem i_nel {n k : Nat} (h : n ≠ OfNat.ofNat k) (hn : n < 2147483648) (hk : (OfNat.ofNat k : Nat) < 2147483648) : ¬ (Int32.ofNat n = (no_index (OfNat.ofNat k))) := i_ne h hn hk
theorem i_bnd {n a : Nat} (N : Nat) (ha : Nat.beq (am_n a) N = true) (h : n < N) (hN : N < 2147483648) : ¬ (Int32.ofNat n < 0 ∨ am_n a ≤ (Int32.ofNat n).toNatClampNeg) := by
  have hb : am_n a = N := Nat.eq_of_beq_eq_true ha
  rw [ci_lt, ti_of (by omega), tn_of (by omega), hb]
  show ¬ ((n : Int) < (0 : Int32).toInt ∨ N ≤ n)
  have : (0 : Int32).toInt = 0 := rfl
  omega
theorem i_bnd2 {n a : Nat} (h : n < am_n a) : ¬ (Int32.ofNat n < 0 ∨ am_n a ≤ (Int32.ofNat n).toNatClampNeg) := by
  have hq : am_n a < 262144 := Nat.mod_lt _ (by decide)
  exact i_bnd (am_n a) (Nat.beq_refl _) h (by omega)
theorem i_10 : ((1 : Int32) = 0) = False := by simp
theorem i_00 : ((0 : Int32) = 0) = True := by simp
theorem i_eqll {a b : Nat} (ha : (OfNat.ofNat a : Nat) < 2147483648) (hb : (OfNat.ofNat b : Nat) < 2147483648) : ((no_index (OfNat.ofNat a) : Int32) = (no_index (OfNat.ofNat b))) = ((OfNat.ofNat a : Nat) = OfNat.ofNat b) := by
  rw [ci_eq]
  show ((Int32.ofNat a).toInt = (Int32.ofNat b).toInt) = (a = b)
  rw [ti_of (n := a) ha, ti_of (n := b) hb]
  exact propext ⟨fun h => by omega, fun h => by omega⟩
theorem i_lell {a b : Nat} (ha : (OfNat.ofNat a : Nat) < 2147483648) (hb : (OfNat.ofNat b : Nat) < 2147483648) : ((no_index (OfNat.ofNat a) : Int32) ≤ (no_index (OfNat.ofNat b))) = ((OfNat.ofNat a : Nat) ≤ OfNat.ofNat b) := by
  rw [ci_le]
  show ((Int32.ofNat a).toInt ≤ (Int32.ofNat b).toInt) = (a ≤ b)
  rw [ti_of (n := a) ha, ti_of (n := b) hb]
  exact propext ⟨fun h => by omega, fun h => by omega⟩
theorem i_ltll {a b : Nat} (ha : (OfNat.ofNat a : Nat) < 2147483648) (hb : (OfNat.ofNat b : Nat) < 2147483648) : ((no_index (OfNat.ofNat a) : Int32) < (no_index (OfNat.ofNat b))) = ((OfNat.ofNat a : Nat) < OfNat.ofNat b) := by
  rw [ci_lt]
  show ((Int32.ofNat a).toInt < (Int32.ofNat b).toInt) = (a < b)
  rw [ti_of (n := a) ha, ti_of (n := b) hb]
  exact propext ⟨fun h => by omega, fun h => by omega⟩
theorem ad2 (n a b : Nat) : n + (no_index (OfNat.ofNat a)) + (no_index (OfNat.ofNat b)) = n + (OfNat.ofNat a + OfNat.ofNat b) := Nat.add_assoc _ _ _
def up {α : Type} (f : Nat → α) (j : Nat) (x : α) : Nat → α := fun i => if i = j then x else f i
theorem up_eq {α : Type} {f : Nat → α} {j : Nat} {x : α} : up f j x j = x := if_pos rfl
theorem up_ne {α : Type} {f : Nat → α} {i j : Nat} {x : α} (h : i ≠ j) : up f j x i = f i := if_neg h
theorem am_gp {h : am_H} {a k : Nat} {v : Value} : am_g (am_p h a k v) a k = v := by simp [am_g, am_p]
/-- kinds of tokens from a place on -/
def TK (tk : Nat → Int32) : Nat → List Int32 → Prop
  | _, [] => True
  | n, x :: l => tk n = x ∧ TK tk (n + 1) l
theorem TK_c {tk : Nat → Int32} {n : Nat} {x : Int32} {l : List Int32} : TK tk n (x :: l) = (tk n = x ∧ TK tk (n + 1) l) := rfl
theorem TK_0 {tk : Nat → Int32} {n : Nat} : TK tk n [] = True := rfl
theorem i_m1 : ((1 : Int32) &&& 31) = 1 := by decide
theorem i_m2 : ((2 : Int32) &&& 31) = 2 := by decide
theorem i_m3 : ((3 : Int32) &&& 31) = 3 := by decide
theorem i_m4 : ((4 : Int32) &&& 31) = 4 := by decide
theorem i_m5 : ((5 : Int32) &&& 31) = 5 := by decide
theorem i_m6 : ((6 : Int32) &&& 31) = 6 := by decide
theorem i_m7 : ((7 : Int32) &&& 31) = 7 := by decide
theorem i_m8 : ((8 : Int32) &&& 31) = 8 := by decide
theorem i_m9 : ((9 : Int32) &&& 31) = 9 := by decide
theorem i_m10 : ((10 : Int32) &&& 31) = 10 := by decide
theorem i_m11 : ((11 : Int32) &&& 31) = 11 := by decide
theorem i_m12 : ((12 : Int32) &&& 31) = 12 := by decide
theorem i_m13 : ((13 : Int32) &&& 31) = 13 := by decide
theorem i_m14 : ((14 : Int32) &&& 31) = 14 := by decide
theorem i_m15 : ((15 : Int32) &&& 31) = 15 := by decide
theorem i_m16 : ((16 : Int32) &&& 31) = 16 := by decide
theorem i_m17 : ((17 : Int32) &&& 31) = 17 := by decide
theorem i_m18 : ((18 : Int32) &&& 31) = 18 := by decide
theorem i_m19 : ((19 : Int32) &&& 31) = 19 := by decide
theorem i_m20 : ((20 : Int32) &&& 31) = 20 := by decide
theorem i_m21 : ((21 : Int32) &&& 31) = 21 := by decide
theorem i_m22 : ((22 : Int32) &&& 31) = 22 := by decide
theorem i_m23 : ((23 : Int32) &&& 31) = 23 := by decide
theorem i_m24 : ((24 : Int32) &&& 31) = 24 := by decide
theorem i_m25 : ((25 : Int32) &&& 31) = 25 := by decide
theorem i_m26 : ((26 : Int32) &&& 31) = 26 := by decide
theorem i_m27 : ((27 : Int32) &&& 31) = 27 := by decide
theorem i_m28 : ((28 : Int32) &&& 31) = 28 := by decide
theorem i_m29 : ((29 : Int32) &&& 31) = 29 := by decide
theorem i_m30 : ((30 : Int32) &&& 31) = 30 := by decide
theorem i_m31 : ((31 : Int32) &&& 31) = 31 := by decide
theorem j_m1 : ((1 : Int64) &&& 63) = 1 := by decide
theorem j_m2 : ((2 : Int64) &&& 63) = 2 := by decide
theorem j_m3 : ((3 : Int64) &&& 63) = 3 := by decide
theorem j_m4 : ((4 : Int64) &&& 63) = 4 := by decide
theorem j_m5 : ((5 : Int64) &&& 63) = 5 := by decide
theorem j_m6 : ((6 : Int64) &&& 63) = 6 := by decide
theorem j_m7 : ((7 : Int64) &&& 63) = 7 := by decide
theorem j_m8 : ((8 : Int64) &&& 63) = 8 := by decide
theorem j_m9 : ((9 : Int64) &&& 63) = 9 := by decide
theorem j_m10 : ((10 : Int64) &&& 63) = 10 := by decide
theorem j_m11 : ((11 : Int64) &&& 63) = 11 := by decide
theorem j_m12 : ((12 : Int64) &&& 63) = 12 := by decide
theorem j_m13 : ((13 : Int64) &&& 63) = 13 := by decide
theorem j_m14 : ((14 : Int64) &&& 63) = 14 := by decide
theorem j_m15 : ((15 : Int64) &&& 63) = 15 := by decide
theorem j_m16 : ((16 : Int64) &&& 63) = 16 := by decide
theorem j_m17 : ((17 : Int64) &&& 63) = 17 := by decide
theorem j_m18 : ((18 : Int64) &&& 63) = 18 := by decide
theorem j_m19 : ((19 : Int64) &&& 63) = 19 := by decide
theorem j_m20 : ((20 : Int64) &&& 63) = 20 := by decide
theorem j_m21 : ((21 : Int64) &&& 63) = 21 := by decide
theorem j_m22 : ((22 : Int64) &&& 63) = 22 := by decide
theorem j_m23 : ((23 : Int64) &&& 63) = 23 := by decide
theorem j_m24 : ((24 : Int64) &&& 63) = 24 := by decide
theorem j_m25 : ((25 : Int64) &&& 63) = 25 := by decide
theorem j_m26 : ((26 : Int64) &&& 63) = 26 := by decide
theorem j_m27 : ((27 : Int64) &&& 63) = 27 := by decide
theorem j_m28 : ((28 : Int64) &&& 63) = 28 := by decide
theorem j_m29 : ((29 : Int64) &&& 63) = 29 := by decide
theorem j_m30 : ((30 : Int64) &&& 63) = 30 := by decide
theorem j_m31 : ((31 : Int64) &&& 63) = 31 := by decide
theorem j_m32 : ((32 : Int64) &&& 63) = 32 := by decide
theorem j_m33 : ((33 : Int64) &&& 63) = 33 := by decide
theorem j_m34 : ((34 : Int64) &&& 63) = 34 := by decide
theorem j_m35 : ((35 : Int64) &&& 63) = 35 := by decide
theorem j_m36 : ((36 : Int64) &&& 63) = 36 := by decide
theorem j_m37 : ((37 : Int64) &&& 63) = 37 := by decide
theorem j_m38 : ((38 : Int64) &&& 63) = 38 := by decide
theorem j_m39 : ((39 : Int64) &&& 63) = 39 := by decide
theorem j_m40 : ((40 : Int64) &&& 63) = 40 := by decide
theorem j_m41 : ((41 : Int64) &&& 63) = 41 := by decide
theorem j_m42 : ((42 : Int64) &&& 63) = 42 := by decide
theorem j_m43 : ((43 : Int64) &&& 63) = 43 := by decide
theorem j_m44 : ((44 : Int64) &&& 63) = 44 := by decide
theorem j_m45 : ((45 : Int64) &&& 63) = 45 := by decide
theorem j_m46 : ((46 : Int64) &&& 63) = 46 := by decide
theorem j_m47 : ((47 : Int64) &&& 63) = 47 := by decide
theorem j_m48 : ((48 : Int64) &&& 63) = 48 := by decide
theorem j_m49 : ((49 : Int64) &&& 63) = 49 := by decide
theorem j_m50 : ((50 : Int64) &&& 63) = 50 := by decide
theorem j_m51 : ((51 : Int64) &&& 63) = 51 := by decide
theorem j_m52 : ((52 : Int64) &&& 63) = 52 := by decide
theorem j_m53 : ((53 : Int64) &&& 63) = 53 := by decide
theorem j_m54 : ((54 : Int64) &&& 63) = 54 := by decide
theorem j_m55 : ((55 : Int64) &&& 63) = 55 := by decide
theorem j_m56 : ((56 : Int64) &&& 63) = 56 := by decide
theorem j_m57 : ((57 : Int64) &&& 63) = 57 := by decide
theorem j_m58 : ((58 : Int64) &&& 63) = 58 := by decide
theorem j_m59 : ((59 : Int64) &&& 63) = 59 := by decide
theorem j_m60 : ((60 : Int64) &&& 63) = 60 := by decide
theorem j_m61 : ((61 : Int64) &&& 63) = 61 := by decide
theorem j_m62 : ((62 : Int64) &&& 63) = 62 := by decide
theorem j_m63 : ((63 : Int64) &&& 63) = 63 := by decide
