/-! the assembled run time system is kb (printed by gen/kfin.py) -/
set_option maxRecDepth 100000
set_option maxHeartbeats 4000000
def KTF : Nat → List (List (List Nat))
  | 0 => KT0
  | 1 => KT1
  | _ => KT2
def NLIT : List (List Nat × Nat) := [([117, 112], 424), ([109, 117, 108], 458), ([109, 117, 108, 110, 111], 472), ([109, 117, 108, 110, 101, 103], 500), ([100, 105, 118, 112, 111, 115], 552), ([109, 111, 100, 112, 111, 115], 587), ([105, 110, 117, 112], 614), ([105, 110, 100, 111, 110, 101], 620), ([105, 110, 110, 111], 627), ([101, 108, 110, 101, 120, 116], 667), ([101, 108, 111, 110, 101], 672), ([101, 108, 101, 110, 100], 686), ([99, 111, 112, 105, 101, 100], 910), ([115, 105, 122, 101], 921), ([115, 105, 122, 101, 110, 111], 929), ([99, 111, 112, 121, 110, 111], 957), ([110, 117, 109, 98, 101, 114], 1246), ([100, 105, 103, 105, 116], 1262), ([112, 97, 100], 1293), ([110, 111, 112, 97, 100], 1300), ([100, 105, 103, 105, 116, 115], 1310), ([112, 108, 117, 115], 1330), ([108, 101, 116, 116, 101, 114], 1337), ([117, 112, 112, 108, 97, 105, 110], 1476), ([117, 112, 116, 101, 115, 116], 1481), ([117, 112, 111, 118, 101, 114], 1494), ([100, 110, 112, 108, 97, 105, 110], 1517), ([100, 110, 116, 101, 115, 116], 1522), ([100, 110, 111, 118, 101, 114], 1539), ([116, 114, 97, 112], 1548), ([103, 111, 110, 101], 1551), ([110, 111, 104, 101, 97, 112], 1556), ([101, 110, 100, 101, 100], 1561), ([110, 111, 99, 111, 112, 121], 1566), ([110, 111, 115, 112, 97, 99, 101], 1586), ([97, 98, 115], 1591), ([110, 101, 103], 1594), ([100, 105, 118, 117], 1601), ([100, 105, 118, 117, 112], 1613), ([100, 105, 118, 98, 105, 103], 1628), ([100, 105, 118, 111, 110, 101], 1631), ([100, 105, 118, 110, 101, 120, 116], 1632), ([108, 105, 109, 105, 116, 115], 1636), ([99, 97, 110, 98, 101], 1643), ([98, 105, 116], 1659), ([98, 105, 116, 117, 112], 1665), ([99, 108, 101, 97, 114], 1672), ([99, 108, 101, 97, 114, 117, 112], 1675), ([98, 111, 117, 110, 100, 115], 1684), ([99, 104, 97, 110, 103, 101], 1703), ([99, 104, 49], 1730), ([99, 104, 50], 1747), ([99, 104, 51], 1768), ([99, 104, 52], 1782), ([99, 104, 53], 1809), ([99, 104, 54], 1818), ([99, 104, 55], 1823), ([99, 104, 56], 1834), ([99, 104, 57], 1879), ([99, 104, 49, 48], 1891)]
theorem kto : KTO KTF := ⟨rfl, rfl, rfl, by unfold TOK; decide +kernel, by unfold TOK; decide +kernel, by unfold TOK; decide +kernel⟩
theorem n_t0 : (rC KTF true []).1 = NLIT := by decide +kernel
theorem l_t0 : (rE KTF true []).length = 1639 := by decide +kernel
theorem l_NL : NLIT.length = 60 := by decide +kernel
theorem asG_f {N : List (List Nat × Nat)} : ∀ (ts : List (List Nat)) (h : Nat), (asG false N h ts).1 = N := by
  intro ts
  induction ts with
  | nil => intro h; rfl
  | cons t r ih =>
    intro h
    have e : asN false N h t = N := by unfold asN; split <;> rfl
    show (asG false (asN false N h t) (h + (asE N h t).length) r).1 = N
    rw [e]
    exact ih _
theorem txG_f {N : List (List Nat × Nat)} : ∀ (R : List (List (List Nat))) (h : Nat), (txG false N h R).1 = N := by
  intro R
  induction R with
  | nil => intro h; rfl
  | cons t r ih =>
    intro h
    show (txG false (asG false N h t).1 _ r).1 = N
    rw [asG_f]
    exact ih _
theorem n_t1 : (rC KTF false NLIT).1 = NLIT := by
  unfold rC rB rA
  rw [txG_f, txG_f, txG_f]
theorem e_tb : rT KTF false NLIT = (List.range 153).map (fun j => sb (Int32.ofNat (kb (64 + j)))) := by decide +kernel
theorem e_E : (rE KTF false NLIT).map sb = (List.range 1639).map (fun j => sb (Int32.ofNat (kb (256 + j)))) := by decide +kernel
def kb0 : Nat → Int32 := up (up (up (fun _ => 0) 8 (sb (-45))) 9 (sb 1)) 10 (sb (-55))
theorem e_0 : ∀ i, i < 64 → kb0 i = sb (Int32.ofNat (kb i)) := by decide +kernel
theorem getD_mr {f : Nat → Int32} {n j : Nat} (h : j < n) : ((List.range n).map f).getD j 0 = f j := by
  rw [List.getD_eq_getElem?_getD, List.getElem?_map, List.getElem?_range h]
  rfl
def KBF : Nat → Int32 := lay (lay (lay (lay kb0 64 (rT KTF true [])) 256 ((rE KTF true []).map sb)) 64 (rT KTF false NLIT)) 256 ((rE KTF false NLIT).map sb)
theorem kbf {i : Nat} (hi : i < 217 ∨ (256 ≤ i ∧ i < 1895)) : KBF i = sb (Int32.ofNat (kb i)) := by
  unfold KBF
  rw [e_E, e_tb]
  by_cases q : i < 256
  · rw [lay_out q]
    by_cases q2 : i < 64
    · rw [lay_out q2, lay_out q, lay_out q2]
      exact e_0 i q2
    · obtain ⟨j, ej⟩ : ∃ j, i = 64 + j := ⟨i - 64, by omega⟩
      subst ej
      rw [lay_at (by rw [List.length_map, List.length_range]; omega)]
      exact getD_mr (by omega)
  · obtain ⟨j, ej⟩ : ∃ j, i = 256 + j := ⟨i - 256, by omega⟩
    subst ej
    rw [lay_at (by rw [List.length_map, List.length_range]; omega)]
    exact getD_mr (by omega)
