/-! put, word, variable, number (printed by gen/feed2.py) -/
set_option maxRecDepth 100000
set_option maxHeartbeats 400000
theorem n_div {n k : Nat} (h : n < 2147483648) (hk : (OfNat.ofNat k : Nat) < 2147483648) : Int32.ofNat n / (no_index (OfNat.ofNat k)) = Int32.ofNat (n / OfNat.ofNat k) := by
  apply Int32.toInt_inj.mp
  have hq : n / OfNat.ofNat k < 2147483648 := Nat.lt_of_le_of_lt (Nat.div_le_self _ _) h
  have hk2 : (Int32.ofNat k).toInt = (k : Int) := ti_of hk
  rw [Int32.toInt_div, ti_of h, ti_of hq]
  show ((n : Int).tdiv (Int32.ofNat k).toInt).bmod (2 ^ 32) = _
  rw [hk2]
  have e : (n : Int).tdiv (k : Int) = ((n / k : Nat) : Int) := rfl
  rw [e]
  show ((n / k : Nat) : Int).bmod (2 ^ 32) = ((n / k : Nat) : Int)
  have hq' : n / k < 2147483648 := hq
  obtain ⟨q, hq2⟩ : ∃ q, q = n / k := ⟨_, rfl⟩
  rw [← hq2] at hq' ⊢
  exact Int.bmod_eq_of_le_mul_two (y := 4294967296) (by omega) (by omega)
theorem n_mul {a b : Nat} : Int32.ofNat a * Int32.ofNat b = Int32.ofNat (a * b) := (Int32.ofNat_mul a b).symm
theorem n_rem {n k : Nat} (h : n < 2147483648) (hk : (OfNat.ofNat k : Nat) < 2147483648) : Int32.ofNat n - Int32.ofNat n / (no_index (OfNat.ofNat k)) * (no_index (OfNat.ofNat k)) = Int32.ofNat (n % OfNat.ofNat k) := by
  rw [n_div h hk]
  show Int32.ofNat n - Int32.ofNat (n / k) * Int32.ofNat k = Int32.ofNat (n % k)
  have e : n / k * k ≤ n := Nat.div_mul_le_self n k
  rw [n_mul, n_subn _ _ e]
  congr 1
  have := Nat.div_add_mod n k
  rw [Nat.mul_comm] at this
  omega
theorem j_of {n : Nat} (h : n < 9223372036854775808) : (Int64.ofNat n).toInt = (n : Int) := Int64.toInt_ofNat_of_lt (by omega)
theorem j_add {a b : Nat} : Int64.ofNat a + Int64.ofNat b = Int64.ofNat (a + b) := (Int64.ofNat_add a b).symm
theorem j_rem20 {n : Nat} (h : n < 100000) : (Int64.ofNat n - Int64.ofNat n / 20 * 20).toInt32 = Int32.ofNat (n % 20) := by
  have e : Int64.ofNat n / 20 = Int64.ofNat (n / 20) := by
    apply Int64.toInt_inj.mp
    rw [Int64.toInt_div, j_of (by omega), j_of (by omega)]
    show ((n : Int).tdiv ((20 : Nat) : Int)).bmod (2 ^ 64) = _
    have e : (n : Int).tdiv ((20 : Nat) : Int) = ((n / 20 : Nat) : Int) := rfl
    rw [e]
    exact Int.bmod_eq_of_le_mul_two (y := 18446744073709551616) (by omega) (by omega)
  have e2 : Int64.ofNat (n / 20) * 20 = Int64.ofNat (n / 20 * 20) := (Int64.ofNat_mul (n / 20) 20).symm
  have e3 : Int64.ofNat n - Int64.ofNat (n / 20 * 20) = Int64.ofNat (n % 20) := by
    apply Int64.toInt_inj.mp
    rw [Int64.toInt_sub, j_of (by omega), j_of (by omega), j_of (by omega), show (n : Int) - ((n / 20 * 20 : Nat) : Int) = ((n % 20 : Nat) : Int) by omega]
    exact Int.bmod_eq_of_le_mul_two (y := 18446744073709551616) (by omega) (by omega)
  rw [e, e2, e3, n_6432 (by omega)]
def cl (t : List Nat) : List Nat := t.map (fun b => b % 128)
theorem cl_len {t : List Nat} : (cl t).length = t.length := List.length_map _
theorem cl_app {t u : List Nat} : cl (t ++ u) = cl t ++ cl u := List.map_append
theorem cl_getD {t : List Nat} {k : Nat} : (cl t).getD k 0 < 128 := by
  rw [List.getD_eq_getElem?_getD, cl, List.getElem?_map]
  cases t[k]? with
  | none => exact Nat.le_of_ble_eq_true rfl
  | some x => exact Nat.mod_lt x (by decide)
def bk (t : List Nat) : Nat := 20 * (t.length / 20)
def blk (t : List Nat) : List Nat := (cl t).drop (20 * ((t.length - 1) / 20))
def qR (n : Nat) (r : List Nat) : Nat → Int64 := fun j => if j = 0 then Int64.ofNat n else if j < 6 then Int64.ofNat (pk r (4 * (j - 1))) else 0
def qF (t : List Nat) : Nat → Int64 := qR t.length (blk t)
def HWt (g : Nat → Nat → Value) (c0 s0 : Nat) (t : List Nat) (two : Nat → Int64) : am_H := HW g c0 s0 (bk t) (bF (TF ((cl t).take (bk t)))) (qF t) two
theorem dr_getD {t : List Nat} {i k : Nat} : ((cl t).drop i).getD k 0 < 128 := by
  have h := cl_getD (t := t) (k := i + k)
  rw [List.getD_eq_getElem?_getD] at h ⊢
  rw [List.getElem?_drop]
  exact h
theorem pkb {r : List Nat} (h : ∀ k, r.getD k 0 < 128) (k : Nat) : pk r k < 2147483648 := by
  unfold pk
  have h0 := h k
  have h1 := h (k + 1)
  have h2 := h (k + 2)
  have h3 := h (k + 3)
  omega
theorem blk_app {t : List Nat} {b : Nat} : blk (t ++ [b]) = (cl t).drop (bk t) ++ [b % 128] := by
  unfold blk bk
  rw [List.length_append, List.length_singleton, Nat.add_sub_cancel, cl_app]
  rw [List.drop_append_of_le_length (by rw [cl_len]; omega)]
  rfl
theorem or24 {v b : Nat} (hv : v % 4294967296 = 0) (hb : b < 256) : v ||| b * 16777216 = v + b * 16777216 := or_add (s := 24) hv hb
theorem or16 {v b : Nat} (hv : v % 16777216 = 0) (hb : b < 256) : v ||| b * 65536 = v + b * 65536 := or_add (s := 16) hv hb
theorem or8 {v b : Nat} (hv : v % 65536 = 0) (hb : b < 256) : v ||| b * 256 = v + b * 256 := or_add (s := 8) hv hb
theorem or0 {v b : Nat} (hv : v % 256 = 0) (hb : b < 256) : v ||| b * 1 = v + b * 1 := or_add (s := 0) hv hb
theorem pk_put {r : List Nat} {b i : Nat} (hi : r.length = i) (hb : b < 128) : pk r (4 * (i / 4)) ||| b * 2 ^ (24 - 8 * (i % 4)) = pk (r ++ [b]) (4 * (i / 4)) := by
  have g1 : ∀ j, j < i → (r ++ [b]).getD j 0 = r.getD j 0 := fun j hj => getD_appl (by omega)
  have g2 : (r ++ [b]).getD i 0 = b := by
    have := getD_app (l := r) (r := [b]) (k := 0)
    rw [Nat.add_zero, hi] at this
    exact this
  have g3 : ∀ j, i < j → (r ++ [b]).getD j 0 = 0 := fun j hj => by
    rw [List.getD_eq_getElem?_getD, List.getElem?_eq_none (by rw [List.length_append, List.length_singleton]; omega)]; rfl
  have g4 : ∀ j, i ≤ j → r.getD j 0 = 0 := fun j hj => by
    rw [List.getD_eq_getElem?_getD, List.getElem?_eq_none (by omega)]; rfl
  obtain ⟨c, hc⟩ : ∃ c, c = 4 * (i / 4) := ⟨_, rfl⟩
  have k : i = c ∨ i = c + 1 ∨ i = c + 2 ∨ i = c + 3 := by omega
  rw [← hc]
  unfold pk
  rcases k with k | k | k | k
  · have m : i % 4 = 0 := by omega
    have f0 : (r ++ [b]).getD c 0 = b := by rw [← k]; exact g2
    rw [m, f0, g3 (c + 1) (by omega), g3 (c + 2) (by omega), g3 (c + 3) (by omega), g4 c (by omega), g4 (c + 1) (by omega), g4 (c + 2) (by omega), g4 (c + 3) (by omega)]
    show (0 * 16777216 + 0 * 65536 + 0 * 256 + 0) ||| b * 16777216 = _
    obtain ⟨v, hv⟩ : ∃ v, v = 0 * 16777216 + 0 * 65536 + 0 * 256 + 0 := ⟨_, rfl⟩
    rw [← hv, or24 (v := v) (b := b) (by omega) (by omega)]
    omega
  · have m : i % 4 = 1 := by omega
    have f0 : (r ++ [b]).getD (c + 1) 0 = b := by rw [← k]; exact g2
    rw [m, g1 c (by omega), f0, g3 (c + 2) (by omega), g3 (c + 3) (by omega), g4 (c + 1) (by omega), g4 (c + 2) (by omega), g4 (c + 3) (by omega)]
    show (r.getD c 0 * 16777216 + 0 * 65536 + 0 * 256 + 0) ||| b * 65536 = _
    obtain ⟨v, hv⟩ : ∃ v, v = r.getD c 0 * 16777216 + 0 * 65536 + 0 * 256 + 0 := ⟨_, rfl⟩
    rw [← hv, or16 (v := v) (b := b) (by omega) (by omega)]
    omega
  · have m : i % 4 = 2 := by omega
    have f0 : (r ++ [b]).getD (c + 2) 0 = b := by rw [← k]; exact g2
    rw [m, g1 c (by omega), g1 (c + 1) (by omega), f0, g3 (c + 3) (by omega), g4 (c + 2) (by omega), g4 (c + 3) (by omega)]
    show (r.getD c 0 * 16777216 + r.getD (c + 1) 0 * 65536 + 0 * 256 + 0) ||| b * 256 = _
    obtain ⟨v, hv⟩ : ∃ v, v = r.getD c 0 * 16777216 + r.getD (c + 1) 0 * 65536 + 0 * 256 + 0 := ⟨_, rfl⟩
    rw [← hv, or8 (v := v) (b := b) (by omega) (by omega)]
    omega
  · have m : i % 4 = 3 := by omega
    have f0 : (r ++ [b]).getD (c + 3) 0 = b := by rw [← k]; exact g2
    rw [m, g1 c (by omega), g1 (c + 1) (by omega), g1 (c + 2) (by omega), f0, g4 (c + 3) (by omega)]
    show (r.getD c 0 * 16777216 + r.getD (c + 1) 0 * 65536 + r.getD (c + 2) 0 * 256 + 0) ||| b * 1 = _
    obtain ⟨v, hv⟩ : ∃ v, v = r.getD c 0 * 16777216 + r.getD (c + 1) 0 * 65536 + r.getD (c + 2) 0 * 256 + 0 := ⟨_, rfl⟩
    rw [← hv, or0 (v := v) (b := b) (by omega) (by omega)]
    omega
theorem pk_ne {r : List Nat} {b i j : Nat} (hi : r.length = i) (hj : j ≠ i / 4) : pk (r ++ [b]) (4 * j) = pk r (4 * j) := by
  have g : ∀ k, k ≠ i → (r ++ [b]).getD k 0 = r.getD k 0 := fun k hk => by
    by_cases h : k < i
    · exact getD_appl (by omega)
    · rw [List.getD_eq_getElem?_getD, List.getD_eq_getElem?_getD, List.getElem?_eq_none (by rw [List.length_append, List.length_singleton]; omega), List.getElem?_eq_none (by omega)]
  unfold pk
  rw [g _ (by omega), g _ (by omega), g _ (by omega), g _ (by omega)]
theorem qR_put {n b i : Nat} {r : List Nat} (hi : r.length = i) (h20 : i < 20) : up (up (qR n r) (1 + i / 4) (Int64.ofNat (pk (r ++ [b]) (4 * (i / 4))))) 0 (Int64.ofNat (n + 1)) = qR (n + 1) (r ++ [b]) := by
  funext j
  show (if j = 0 then Int64.ofNat (n + 1) else if j = 1 + i / 4 then Int64.ofNat (pk (r ++ [b]) (4 * (i / 4))) else qR n r j) = qR (n + 1) (r ++ [b]) j
  unfold qR
  by_cases h0 : j = 0
  · simp only [h0, ↓reduceIte]
  · by_cases h1 : j = 1 + i / 4
    · have h6 : j < 6 := by omega
      simp only [h0, h6, ↓reduceIte]
      rw [if_pos h1, show j - 1 = i / 4 by omega]
    · simp only [h0, h1, ↓reduceIte]
      by_cases h6 : j < 6
      · rw [if_pos h6, if_pos h6, pk_ne hi (by omega)]
      · rw [if_neg h6, if_neg h6]
theorem qR_1 {n : Nat} {r : List Nat} : qR n r 1 = Int64.ofNat (pk r 0) := rfl
theorem qR_2 {n : Nat} {r : List Nat} : qR n r 2 = Int64.ofNat (pk r 4) := rfl
theorem qR_3 {n : Nat} {r : List Nat} : qR n r 3 = Int64.ofNat (pk r 8) := rfl
theorem qR_4 {n : Nat} {r : List Nat} : qR n r 4 = Int64.ofNat (pk r 12) := rfl
theorem qR_5 {n : Nat} {r : List Nat} : qR n r 5 = Int64.ofNat (pk r 16) := rfl
theorem qR_0 {n : Nat} {r : List Nat} : qR n r 0 = Int64.ofNat n := rfl
theorem feed_l {g : Nat → Nat → Value} {c0 s0 : Nat} {two : Nat → Int64} {q : Nat → Int64} {m r : List Nat} (hr : r.length = 20) (h8 : ∀ k, r.getD k 0 < 128) (hm : m.length + 20 ≤ 2000) {d : Nat} : am_M (d + 2) 30 [.ref 4798283777, .int (Int32.ofNat (pk r 0)), .int (Int32.ofNat (pk r 4)), .int (Int32.ofNat (pk r 8)), .int (Int32.ofNat (pk r 12)), .int (Int32.ofNat (pk r 16))] (HW g c0 s0 m.length (bF (TF m)) q two) = some (some (.int (Int32.ofNat (m.length + 20))), HW g c0 s0 (m.length + 20) (bF (TF (m ++ r))) q two) := by
  match r, hr, h8 with
  | [b0, b1, b2, b3, b4, b5, b6, b7, b8, b9, b10, b11, b12, b13, b14, b15, b16, b17, b18, b19], _, h8 =>
    exact tp_feed (h8 0) (h8 1) (h8 2) (h8 3) (h8 4) (h8 5) (h8 6) (h8 7) (h8 8) (h8 9) (h8 10) (h8 11) (h8 12) (h8 13) (h8 14) (h8 15) (h8 16) (h8 17) (h8 18) (h8 19) hm
