/-! the run in two parts (printed by gen/run4.py) -/
set_option maxRecDepth 100000
set_option maxHeartbeats 8000000
def P0 : PT := (0, 0, -1, -1, [])
theorem i_sub0 {n : Nat} : Int32.ofNat n - Int32.ofNat 0 = Int32.ofNat n := Int32.sub_zero _
theorem i_add_sub {a b : Int32} : a + (b - a) = b := by rw [Int32.add_comm, Int32.sub_add_cancel]
theorem mr_27 {d n : Nat} {g : Nat → Nat → Value} {c0 s0 : Nat} {r0 r1 r2 r3 r4 r5 r6 r7 : Int32} {ix sp pc st lim on : Nat} {mm oa : Nat → Int32} {pl mo trp stp pr pc2 i : Int32} {h2 : am_H} (hn : n < 20001) (hg : g 4798283777 7 = .ref 124285616140) (hl : am_M d 208 [.ref 124285616140, .int (Int32.ofNat n)] (HR g c0 s0 r0 r1 r2 r3 r4 r5 r6 r7 ix sp pc mm st lim pl mo on oa 1 trp stp pr pc2) = some (some (.int i), h2)) : am_M (d + 1) 27 [.ref 4798283777, .int (Int32.ofNat n)] (HR g c0 s0 r0 r1 r2 r3 r4 r5 r6 r7 ix sp pc mm st lim pl mo on oa 1 trp stp pr pc2) = some (some (.int i), h2) := by
  refine (mw_run_1 hn hg hl).trans ?_
  rw [am_then_some]
  exact z27_33
theorem ouF_nil : ouF [] = fun _ => 0 := by
  funext k
  exact if_neg (Nat.not_lt_zero k)
theorem mo_27_2 {d n : Nat} {g : Nat → Nat → Value} {c0 s0 : Nat} {r0 r1 r2 r3 r4 r5 r6 r7 : Int32} {ix sp pc st lim on : Nat} {mm oa : Nat → Int32} {pl mo trp stp pr pc2 : Int32} (hn : n < 20001) (hg : g 4798283777 7 = .ref 124285616140) : am_M (d + 2) 27 [.ref 4798283777, .int (Int32.ofNat n)] (HR g c0 s0 r0 r1 r2 r3 r4 r5 r6 r7 ix sp pc mm st lim pl mo on oa 2 trp stp pr pc2) = some (some (.int 0), HR g c0 s0 r0 r1 r2 r3 r4 r5 r6 r7 ix sp pc mm st lim pl mo on oa 2 trp stp pr pc2) := by
  refine (mw_run_2 hn hg (pr_over2 (d := d))).trans ?_
  rw [am_then_some]
  exact z27_33
theorem mo_27_4 {d n : Nat} {g : Nat → Nat → Value} {c0 s0 : Nat} {r0 r1 r2 r3 r4 r5 r6 r7 : Int32} {ix sp pc st lim on : Nat} {mm oa : Nat → Int32} {pl mo trp stp pr pc2 : Int32} (hn : n < 20001) (hg : g 4798283777 7 = .ref 124285616140) : am_M (d + 2) 27 [.ref 4798283777, .int (Int32.ofNat n)] (HR g c0 s0 r0 r1 r2 r3 r4 r5 r6 r7 ix sp pc mm st lim pl mo on oa 4 trp stp pr pc2) = some (some (.int 0), HR g c0 s0 r0 r1 r2 r3 r4 r5 r6 r7 ix sp pc mm st lim pl mo on oa 4 trp stp pr pc2) := by
  refine (mw_run_4 hn hg (pr_over4 (d := d))).trans ?_
  rw [am_then_some]
  exact z27_33
theorem law_run {g : Nat → Nat → Value} {c0 s0 d sa n1 B : Nat} {stp pr pc2 : Int32} {l : List (Cmd × Nat × Nat)} {m : Nat → Nat} {l8 l12 l13 : Option Value} (hV : ∀ k, g 124788933419 k = .long (LV 3000 (doR 3000 l (fun _ => 0) P0).2.1 (doR 3000 l (fun _ => 0) P0).2.2 k)) (hO : ∀ k, g 124856169512 k = .int (bF (TF (doR 3000 l (fun _ => 0) P0).2.2.ou) k)) (hg : g 4798283777 7 = .ref 124285616140) (h20 : g 124285616140 20 = .int 0) (hm : MS l m) (ok : okR l) (hl : l.length ≤ 26) (hn : n1 ≤ 1016) (hB : B = 2061 + (codeR 2055 l).length) :
    ∃ h, am_G (d + 14) 0 365 [some (.ref sa), some (.ref 4798283777), some (.ref 124772155947), some (.ref 124788933419), some (.ref 124805713963), some (.ref 124822491179), some (.ref 124839264427), some (.ref 124856169512), l8, some (.int (Int32.ofNat n1)), some (.int 3000), some (.int (Int32.ofNat (doR 3000 l (fun _ => 0) P0).1)), l12, l13] [] (HR g c0 s0 0 0 0 0 0 0 0 0 0 59392 B (mF m) 0 0 (-1) (-1) 0 (fun _ => 0) 1 0 stp pr pc2) = some (some (.int 1), h) ∧ h.1 = c0 ∧ h.2.1 = s0 := by
  have q0 : QI P0 := ⟨Or.inl ⟨rfl, rfl⟩, fun x hx => absurd hx List.not_mem_nil⟩
  have v0 : VRG (fun _ => 0) := fun j hj => by
    show (-32768 : Int) ≤ 0 ∧ (0 : Int) ≤ 32767
    omega
  obtain ⟨VE3, ou3⟩ := doR_VE 3000 l (fun _ => 0) P0 ok v0 q0
  obtain ⟨VE1, ou1⟩ := doR_VE n1 l (fun _ => 0) P0 ok v0 q0
  have lo0 : P0.ou.length = 0 := rfl
  have E1 := ex_prog (G := (g, c0, s0, n1)) (a := 0) (bc := 0) (de := 0) (hl := 0) (ix := 0) (f := 0) (P := P0) ok (by omega) hm (by decide) (by decide) (by decide) (by decide) (by decide) (Nat.zero_le _) rfl hB rfl
  have A1 : RL (g, c0, s0, n1) 0 0 0 0 0 0 59392 B m P0 n1 = RQ (g, c0, s0, 0) 0 0 0 0 0 0 59392 B m (P0.wlim n1) := RL_at (G := (g, c0, s0, n1)) (Nat.le_refl _) (show n1 < 2147483648 by omega)
  have ho3 : (doR 3000 l (fun _ => 0) P0).2.2.ou.length ≤ 520 := by omega
  have hr0 : ouF P0.ou = fun _ => 0 := ouF_nil
  have s1 : ∀ z : (doR n1 l (fun _ => 0) P0).1 ≠ 100, doR 3000 l (fun _ => 0) P0 = doR n1 l (fun _ => 0) P0 := fun z => doR_mono (by omega) l _ P0 (Nat.zero_le _) z
  have t1 : ∀ z : (doR n1 l (fun _ => 0) P0).1 ≠ 100, (doR n1 l (fun _ => 0) P0).2.2.st ≤ n1 := fun z => doR_st n1 l _ P0 (Nat.zero_le _) z
  have t3 : ∀ z : (doR 3000 l (fun _ => 0) P0).1 ≠ 100, (doR 3000 l (fun _ => 0) P0).2.2.st ≤ 3000 := fun z => doR_st 3000 l _ P0 (Nat.zero_le _) z
  have hz : am_g (HR g c0 s0 0 0 0 0 0 0 0 0 0 59392 B (mF m) 0 0 (-1) (-1) 0 (fun _ => 0) 1 0 stp pr pc2) 124788933419 11 = .long (Int64.ofNat (doR 3000 l (fun _ => 0) P0).2.2.ou.length) := hV 11
  have run1 : ∀ {a : Nat} {f : Int32} {bc de hl ix sp pc : Nat} {m' : Nat → Nat} {P' : PT} {sta trp : Int32}, RL (g, c0, s0, n1) 0 0 0 0 0 0 59392 B m P0 n1 = RX (g, c0, s0, n1) a f bc de hl ix sp pc m' P' sta trp → ∃ x y, am_M (d + 14) 27 [.ref 4798283777, .int (Int32.ofNat n1)] (HR g c0 s0 0 0 0 0 0 0 0 0 0 59392 B (mF m) 0 0 (-1) (-1) 0 (fun _ => 0) 1 0 stp pr pc2) = some (some (.int (Int32.ofNat P'.st)), HX g c0 s0 a f bc de hl ix sp pc m' P' sta trp x y) := fun {a f bc de hl ix sp pc m' P' sta trp} e => by
    have e' : RQ (g, c0, s0, 0) 0 0 0 0 0 0 59392 B m (P0.wlim n1) = RX (g, c0, s0, 0) a f bc de hl ix sp pc m' P' sta trp := A1.symm.trans e
    obtain ⟨x, y, M⟩ := pr_run (G := (g, c0, s0, 0)) (d := d) (n := n1) (lim := 0) (stp := stp) (pr := pr) (pc2 := pc2) (st := 0) (by omega) e' rfl (Nat.zero_add _).symm
    rw [i_sub0] at M
    refine ⟨x, y, mr_27 (d := d + 13) (by omega) hg ?_⟩
    have u : am_M (d + 13) 208 [.ref 124285616140, .int (Int32.ofNat n1)] (HR g c0 s0 0 0 0 0 0 0 0 0 0 59392 B (mF m) 0 0 (-1) (-1) 0 (ouF P0.ou) 1 0 stp pr pc2) = _ := M
    rw [hr0] at u
    exact u
  rcases VE1.2.2 with c | c | c | c
  · have z : (doR n1 l (fun _ => 0) P0).1 ≠ 100 := by omega
    obtain ⟨a, f, bc, de, h_, ix, sp, pc, m', w6, w2, e⟩ := E1.1 c n1 (Nat.le_refl _) (show n1 < 2147483648 by omega)
    obtain ⟨x, y, M⟩ := run1 e
    have tt := t1 z
    rw [s1 z] at hV hO hz ho3 VE3 ⊢
    rw [c]
    have k : (3000 : Int32) - Int32.ofNat (doR n1 l (fun _ => 0) P0).2.2.st = Int32.ofNat (3000 - (doR n1 l (fun _ => 0) P0).2.2.st) := n_subn 3000 _ (by omega)
    have M2 : am_M (d + 14) 27 [.ref 4798283777, .int (3000 - Int32.ofNat (doR n1 l (fun _ => 0) P0).2.2.st)] (HX g c0 s0 a f bc de h_ ix sp pc m' ((doR n1 l (fun _ => 0) P0).2.2.wlim n1) 2 0 x y) = some (some (.int 0), HX g c0 s0 a f bc de h_ ix sp pc m' ((doR n1 l (fun _ => 0) P0).2.2.wlim n1) 2 0 x y) := by
      rw [k]
      unfold HX
      exact mo_27_2 (d := d + 12) (by omega) hg
    exact ⟨_, law_cmp2 (d := d + 10) (l9 := none) (l10 := none) (i1 := Int32.ofNat (doR n1 l (fun _ => 0) P0).2.2.st) (i2 := 0) hV hO hg h20 VE3.2.1 (by omega) ho3 w6 w2 (Int32.add_zero _) hz M M2, rfl, rfl⟩
  · have z : (doR n1 l (fun _ => 0) P0).1 ≠ 100 := by omega
    obtain ⟨a, f, bc, de, h_, ix, sp, pc, m', w6, w8, w2, e⟩ := E1.2.2 (show (doR n1 l (fun _ => 0) P0).1 ≠ 0 by omega) z n1 (Nat.le_refl _) (show n1 < 2147483648 by omega)
    have cc : (if (doR n1 l (fun _ => 0) P0).1 = 2 then (2 : Int32) else 3) = 2 := by rw [c]; rfl
    rw [cc] at e
    obtain ⟨x, y, M⟩ := run1 e
    have tt := t1 z
    rw [s1 z] at hV hO hz ho3 VE3 ⊢
    rw [c]
    have k : (3000 : Int32) - Int32.ofNat (doR n1 l (fun _ => 0) P0).2.2.st = Int32.ofNat (3000 - (doR n1 l (fun _ => 0) P0).2.2.st) := n_subn 3000 _ (by omega)
    have M2 : am_M (d + 14) 27 [.ref 4798283777, .int (3000 - Int32.ofNat (doR n1 l (fun _ => 0) P0).2.2.st)] (HX g c0 s0 a f bc de h_ ix sp pc m' ((doR n1 l (fun _ => 0) P0).2.2.wlim n1) 4 2 x y) = some (some (.int 0), HX g c0 s0 a f bc de h_ ix sp pc m' ((doR n1 l (fun _ => 0) P0).2.2.wlim n1) 4 2 x y) := by
      rw [k]
      unfold HX
      exact mo_27_4 (d := d + 12) (by omega) hg
    exact ⟨_, law_cmp4 (d := d + 10) (l9 := none) (l10 := none) (x := 2) (i1 := Int32.ofNat (doR n1 l (fun _ => 0) P0).2.2.st) (i2 := 0) hV hO hg h20 VE3.2.1 (by omega) ho3 w6 w2 w8 (eq_false (by decide)) (eq_false (by decide)) (Int32.add_zero _) hz M M2, rfl, rfl⟩
  · have z : (doR n1 l (fun _ => 0) P0).1 ≠ 100 := by omega
    obtain ⟨a, f, bc, de, h_, ix, sp, pc, m', w6, w8, w2, e⟩ := E1.2.2 (show (doR n1 l (fun _ => 0) P0).1 ≠ 0 by omega) z n1 (Nat.le_refl _) (show n1 < 2147483648 by omega)
    have cc : (if (doR n1 l (fun _ => 0) P0).1 = 2 then (2 : Int32) else 3) = 3 := by rw [c]; rfl
    rw [cc] at e
    obtain ⟨x, y, M⟩ := run1 e
    have tt := t1 z
    rw [s1 z] at hV hO hz ho3 VE3 ⊢
    rw [c]
    have k : (3000 : Int32) - Int32.ofNat (doR n1 l (fun _ => 0) P0).2.2.st = Int32.ofNat (3000 - (doR n1 l (fun _ => 0) P0).2.2.st) := n_subn 3000 _ (by omega)
    have M2 : am_M (d + 14) 27 [.ref 4798283777, .int (3000 - Int32.ofNat (doR n1 l (fun _ => 0) P0).2.2.st)] (HX g c0 s0 a f bc de h_ ix sp pc m' ((doR n1 l (fun _ => 0) P0).2.2.wlim n1) 4 3 x y) = some (some (.int 0), HX g c0 s0 a f bc de h_ ix sp pc m' ((doR n1 l (fun _ => 0) P0).2.2.wlim n1) 4 3 x y) := by
      rw [k]
      unfold HX
      exact mo_27_4 (d := d + 12) (by omega) hg
    exact ⟨_, law_cmp4 (d := d + 10) (l9 := none) (l10 := none) (x := 3) (i1 := Int32.ofNat (doR n1 l (fun _ => 0) P0).2.2.st) (i2 := 0) hV hO hg h20 VE3.2.1 (by omega) ho3 w6 w2 w8 (eq_false (by decide)) (eq_false (by decide)) (Int32.add_zero _) hz M M2, rfl, rfl⟩
  · have PA := E1.2.1 c
    have st1 : (doR n1 l (fun _ => 0) P0).2.2.st = n1 := PA.1
    obtain ⟨a, f, bc, de, h_, ix, sp, m', w6, w8, w2, e, eL⟩ := pause_x PA (show n1 < 2147483648 by omega)
    obtain ⟨x, y, M⟩ := run1 e
    have E3 := ex_prog (G := (g, c0, s0, 3000)) (a := 0) (bc := 0) (de := 0) (hl := 0) (ix := 0) (f := 0) (P := P0) ok (by omega) hm (by decide) (by decide) (by decide) (by decide) (by decide) (Nat.zero_le _) rfl hB rfl
    have A3 : RL (g, c0, s0, 3000) 0 0 0 0 0 0 59392 B m P0 3000 = RQ (g, c0, s0, 0) a f bc de h_ ix sp 8 m' ((doR n1 l (fun _ => 0) P0).2.2.wlim 3000) := by
      have u1 : RL (g, c0, s0, 3000) 0 0 0 0 0 0 59392 B m P0 3000 = RQ (g, c0, s0, 0) 0 0 0 0 0 0 59392 B m (P0.wlim 3000) := RL_at (G := (g, c0, s0, 3000)) (Nat.le_refl _) (show (3000 : Nat) < 2147483648 by decide)
      have u2 : RL (g, c0, s0, n1) 0 0 0 0 0 0 59392 B m P0 3000 = RQ (g, c0, s0, 0) 0 0 0 0 0 0 59392 B m (P0.wlim 3000) := RL_at (G := (g, c0, s0, n1)) (show n1 ≤ 3000 by omega) (by decide)
      exact u1.trans (u2.symm.trans (eL 3000 (show n1 ≤ 3000 by omega) (by decide)))
    have run3 : ∀ {a2 : Nat} {f2 : Int32} {bc2 de2 hl2 ix2 sp2 pc_ : Nat} {m2 : Nat → Nat} {P2 : PT} {sta trp : Int32}, RL (g, c0, s0, 3000) 0 0 0 0 0 0 59392 B m P0 3000 = RX (g, c0, s0, 3000) a2 f2 bc2 de2 hl2 ix2 sp2 pc_ m2 P2 sta trp → ∃ x2 y2, am_M (d + 14) 27 [.ref 4798283777, .int (3000 - Int32.ofNat (doR n1 l (fun _ => 0) P0).2.2.st)] (HX g c0 s0 a f bc de h_ ix sp 8 m' ((doR n1 l (fun _ => 0) P0).2.2.wlim n1) 1 0 x y) = some (some (.int (Int32.ofNat P2.st - Int32.ofNat (doR n1 l (fun _ => 0) P0).2.2.st)), HX g c0 s0 a2 f2 bc2 de2 hl2 ix2 sp2 pc_ m2 P2 sta trp x2 y2) := fun {a2 f2 bc2 de2 hl2 ix2 sp2 pc_ m2 P2 sta trp} e2 => by
      have e' : RQ (g, c0, s0, 0) a f bc de h_ ix sp 8 m' ((doR n1 l (fun _ => 0) P0).2.2.wlim 3000) = RX (g, c0, s0, 0) a2 f2 bc2 de2 hl2 ix2 sp2 pc_ m2 P2 sta trp := A3.symm.trans e2
      obtain ⟨x2, y2, M2⟩ := pr_run (G := (g, c0, s0, 0)) (d := d) (n := 3000 - n1) (lim := n1) (stp := 1) (pr := x) (pc2 := y) (st := n1) (by omega) e' st1 (show 3000 = n1 + (3000 - n1) by omega)
      have k : (3000 : Int32) - Int32.ofNat (doR n1 l (fun _ => 0) P0).2.2.st = Int32.ofNat (3000 - n1) := by rw [st1]; exact n_subn 3000 _ (by omega)
      rw [k, st1]
      refine ⟨x2, y2, ?_⟩
      have u := mr_27 (d := d + 13) (by omega) hg M2
      unfold HX
      have st1' : ((doR n1 l (fun _ => 0) P0).2.2.wlim n1).st = n1 := st1
      rw [st1']
      exact u
    rcases VE3.2.2 with b | b | b | b
    · obtain ⟨a2, f2, bc2, de2, h2_, ix2, sp2, pc_, m2, q6, q2, e2⟩ := E3.1 b 3000 (Nat.le_refl _) (show (3000 : Nat) < 2147483648 by decide)
      obtain ⟨x2, y2, M2⟩ := run3 e2
      have tt := t3 (by omega)
      rw [b]
      exact ⟨_, law_cmp2 (d := d + 10) (l9 := none) (l10 := none) (i1 := Int32.ofNat (doR n1 l (fun _ => 0) P0).2.2.st) hV hO hg h20 VE3.2.1 tt ho3 q6 q2 i_add_sub hz M M2, rfl, rfl⟩
    · obtain ⟨a2, f2, bc2, de2, h2_, ix2, sp2, pc_, m2, q6, q8, q2, e2⟩ := E3.2.2 (show (doR 3000 l (fun _ => 0) P0).1 ≠ 0 by omega) (show (doR 3000 l (fun _ => 0) P0).1 ≠ 100 by omega) 3000 (Nat.le_refl _) (show (3000 : Nat) < 2147483648 by decide)
      have cc : (if (doR 3000 l (fun _ => 0) P0).1 = 2 then (2 : Int32) else 3) = 2 := by rw [b]; rfl
      rw [cc] at e2
      obtain ⟨x2, y2, M2⟩ := run3 e2
      have tt := t3 (by omega)
      rw [b]
      exact ⟨_, law_cmp4 (d := d + 10) (l9 := none) (l10 := none) (x := 2) (i1 := Int32.ofNat (doR n1 l (fun _ => 0) P0).2.2.st) hV hO hg h20 VE3.2.1 tt ho3 q6 q2 q8 (eq_false (by decide)) (eq_false (by decide)) i_add_sub hz M M2, rfl, rfl⟩
    · obtain ⟨a2, f2, bc2, de2, h2_, ix2, sp2, pc_, m2, q6, q8, q2, e2⟩ := E3.2.2 (show (doR 3000 l (fun _ => 0) P0).1 ≠ 0 by omega) (show (doR 3000 l (fun _ => 0) P0).1 ≠ 100 by omega) 3000 (Nat.le_refl _) (show (3000 : Nat) < 2147483648 by decide)
      have cc : (if (doR 3000 l (fun _ => 0) P0).1 = 2 then (2 : Int32) else 3) = 3 := by rw [b]; rfl
      rw [cc] at e2
      obtain ⟨x2, y2, M2⟩ := run3 e2
      have tt := t3 (by omega)
      rw [b]
      exact ⟨_, law_cmp4 (d := d + 10) (l9 := none) (l10 := none) (x := 3) (i1 := Int32.ofNat (doR n1 l (fun _ => 0) P0).2.2.st) hV hO hg h20 VE3.2.1 tt ho3 q6 q2 q8 (eq_false (by decide)) (eq_false (by decide)) i_add_sub hz M M2, rfl, rfl⟩
    · have PB := E3.2.1 b
      have tt : (doR 3000 l (fun _ => 0) P0).2.2.st = 3000 := PB.1
      obtain ⟨a2, f2, bc2, de2, h2_, ix2, sp2, m2, q6, q8, q2, e2, -⟩ := pause_x PB (show (3000 : Nat) < 2147483648 by decide)
      obtain ⟨x2, y2, M2⟩ := run3 e2
      rw [b]
      exact ⟨_, law_cmp1 (d := d + 10) (l9 := none) (l10 := none) (i1 := Int32.ofNat (doR n1 l (fun _ => 0) P0).2.2.st) hV hO hg h20 VE3.2.1 (by omega) ho3 q6 q2 q8 i_add_sub hz M M2, rfl, rfl⟩
