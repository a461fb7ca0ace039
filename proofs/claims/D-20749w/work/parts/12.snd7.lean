/-! SOUNDNESS: constants of the pool, statics; arrays -/
theorem sn_ldcw0 {p : Program} {l : Launch} {e : Env} {R : Room} {s : State} {m : MethodId} {args : Array Value} {below : List Frame} {meth : Method} {c : Code} {T : State} {locs : List Loc} {cells slots : Nat}
    (X : Stand p l e R s m args below meth c T locs cells slots) (hexec : p.tables.exec = Jvm.exec) {own text : String} {index : Nat} {a : Addr} (hown : s.vm.findClass own = some m.cls)
    (hconst : (Cond.stringRef own index text).before args s = true) (hev : (Term.string own index).eval args s none [] s = some (.ref a)) {g : JFrame} (hg : g.method = m) (hdg : decode c.code g.pc = .ok (.ldc_w index, 3)) :
    ∀ target, Steps p.tables e below (T.setTop { g with pc := g.pc + 3, stack := .ref a :: g.stack }) target → Steps p.tables e below (T.setTop g) target := by
  obtain ⟨k, cf, i, a', hk, hcf, hcp, -, hr, hev'⟩ := Cond.stringRef_spec hown hconst
  cases hev.symm.trans hev'
  obtain ⟨k', hk', he⟩ := X.warmed.alike.2.2 _ _ hk
  have hr' : k'.resolved[index]? = some (some (.string a)) := by
    rcases X.warmed.entry hk hk' index with h | ⟨h, -⟩
    · rw [h]; exact hr
    · rw [hr] at h; cases h
  intro target hrest
  subst hg
  jvm_step X.here [hexec, hdg, ldc_w.wp_string (e := e) (s := T) (f := g) X.here.top hk' (by rw [he]; exact hcf) hcp hr']
  exact hrest
theorem sn_ldcwS {p : Program} {l : Launch} {e : Env} {R : Room} {s : State} {m : MethodId} {args : Array Value} {below : List Frame} {meth : Method} {c : Code} {H : Heap} {locs : List Loc} {cells slots : Nat} {Q : State → Prop} {cc : ByteArray} {pc : Nat} {ls : Array Slot} {rest : List Value} (hexec : p.tables.exec = Jvm.exec) (hb : c.code = cc) {own tx : String} {index q : Nat} (hown : s.vm.findClass own = some m.cls) (hZ : vk_R own index tx q s) (hdg : decode cc pc = .ok (.ldc_w index, 3))
    (k : W p l e R s m args below meth c H locs cells slots Q (F0 m (pc + 3) ls (.ref q :: rest))) : W p l e R s m args below meth c H locs cells slots Q (F0 m pc ls rest) := by
  intro T hT X
  obtain ⟨t, a1, b1⟩ := k T hT X
  exact ⟨t, sn_ldcw0 X hexec hown (text := tx) (a := q) hZ.1 hZ.2 (g := F0 m pc ls rest) rfl (by rw [hb]; exact hdg) t a1, b1⟩
section SN6
variable {p : Program} {l : Launch} {e : Env} {R : Room} {s : State} {m : MethodId} {args : Array Value} {below : List Frame} {meth : Method} {c : Code} {Q : State → Prop}
variable {D : sn_D} {tg0 : Nat → Nat} {h0 : am_H} {x : am_R} {nL mid pc pc' : Nat} {ls ls' : am_L} {st st' : List Value} {h h' : am_H}
theorem sn_s5 (hx : p.tables.exec = Jvm.exec) (hb : c.code = am_code mid) (hE : sn_E D s) (hts : ∀ w ∈ lw_all, w.before args s = true) (hown : s.vm.findClass (am_nm (am_own mid)) = some m.cls) (hin : am_isI mid = true → meth.name = "<init>") {i : Instr} {n : Nat} (hd : decode (am_code mid) pc = .ok (i, n)) (E : am_s5 mid i n pc ls st h = some (.inl (pc', ls', st', h')))
    (K : sn_W D s m (fun H locs k n g => W p l e R s m args below meth c H locs k n Q g) tg0 h0 x nL pc' ls' st' h') : sn_W D s m (fun H locs k n g => W p l e R s m args below meth c H locs k n Q g) tg0 h0 x nL pc ls st h := by
  cases i
  case getfield k =>
    obtain ⟨rfl, E2⟩ := am_w_some E
    split at E2
    · rename_i a r c0 k0 hf
      split at E2
      · rename_i hk
        cases E2
        exact sn_getf hx hb hE hts hown hd hf hk K
      · cases E2
    · cases E2
  case putfield k =>
    obtain ⟨rfl, E2⟩ := am_w_some E
    split at E2
    · rename_i v a r c0 k0 hf
      split at E2
      · rename_i hk
        cases E2
        exact sn_putf hx hb hE hts hown hin hd hf hk.1 hk.2.1 hk.2.2.1 hk.2.2.2 K
      · cases E2
    · cases E2
  case getstatic k =>
    obtain ⟨rfl, E2⟩ := am_w_some E
    split at E2
    · rename_i v hv
      cases E2
      obtain ⟨C, nn, d, hZ, hl, hk⟩ := hE.2.2.2.2.2.2.1 _ _ _ hv
      obtain ⟨cf, kf, fi, f, a, cell, z1, z2, z3, z4, z5, z6, z7, z8⟩ := hZ
      refine ⟨K.1, fun tg Ls H locs a1 a2 a3 a4 a5 a6 a7 a8 => ?_⟩
      have K2 := K.2 tg Ls H locs a1 a2 a3 (sn_okv_cons.mpr ⟨hk tg _ a1.2.2.2.2 a1.1, a4⟩) a5 a6 a7 a8
      have hcell : H[a]? = some cell := by rw [a1.2.2.2.1 a (Nat.lt_of_not_le z8)]; exact z5
      have hkn : cell.vm ≠ .unknown := fun q => by rw [q] at z6; cases z6
      rcases hl with hl | ⟨host, hl⟩
      · exact W.gets hx hb hown (hts _ hl) z1 z2 z3 z4 hcell hkn z7 rfl hd K2
      · exact va_WgetsN hx hb hown (va_Nw.use rfl (hE.2.2.1 _ _ _ _ _ _ hl)) z1 z2 z3 z4 hcell hkn z7 rfl hd K2
    · cases E2
  case ldc k =>
    obtain ⟨rfl, E2⟩ := am_w_some E
    split at E2
    · rename_i v hv
      cases E2
      rcases ct_cn hv with ⟨z, q, hl⟩ | ⟨z, q, -⟩ | ⟨z, q, -⟩
      · cases q
        exact sn_p K (fun tg a b => ⟨a, sn_okv_cons.mpr ⟨sn_ok_int, b⟩⟩) (fun Ls H locs k n a g => lv_ldc hx hb hown (hts _ hl) hd (g Ls a))
      · cases q
      · cases q
    · rename_i v hv
      cases E2
      rcases ct_cn hv with ⟨z, q, -⟩ | ⟨z, q, -⟩ | ⟨z, q, ⟨t, hl⟩, z1, z2, z3⟩
      · cases q
      · cases q
      · cases q
        obtain ⟨q, g1, g2⟩ := hE.2.2.2.2.2.1 _ _ _ _ hv hl
        refine ⟨K.1, fun tg Ls H locs a1 a2 a3 a4 a5 a6 a7 a8 => ?_⟩
        have K2 := K.2 tg Ls H locs a1 a2 a3 (sn_okv_cons.mpr ⟨fun b hb => by
          cases hb
          exact ⟨Nat.lt_of_lt_of_le z1 a1.1, by rw [a1.2.2.2.2 _ (by omega) z1]; exact z3⟩, a4⟩) a5 a6 a7 a8
        rw [List.map_cons, g2] at K2
        exact va_ldcS hx hb hown g1 hd K2
    · cases E2
  case ldc_w k =>
    obtain ⟨rfl, E2⟩ := am_w_some E
    split at E2
    · rename_i v hv
      cases E2
      rcases ct_cn hv with ⟨z, q, hl⟩ | ⟨z, q, -⟩ | ⟨z, q, -⟩
      · cases q
        exact sn_p K (fun tg a b => ⟨a, sn_okv_cons.mpr ⟨sn_ok_int, b⟩⟩) (fun Ls H locs k n a g => lv_ldcw hx hb hown (hts _ hl) hd (g Ls a))
      · cases q
      · cases q
    · rename_i v hv
      cases E2
      rcases ct_cn hv with ⟨z, q, -⟩ | ⟨z, q, -⟩ | ⟨z, q, ⟨t, hl⟩, z1, z2, z3⟩
      · cases q
      · cases q
      · cases q
        obtain ⟨q, g1, g2⟩ := hE.2.2.2.2.2.1 _ _ _ _ hv hl
        refine ⟨K.1, fun tg Ls H locs a1 a2 a3 a4 a5 a6 a7 a8 => ?_⟩
        have K2 := K.2 tg Ls H locs a1 a2 a3 (sn_okv_cons.mpr ⟨fun b hb => by
          cases hb
          exact ⟨Nat.lt_of_lt_of_le z1 a1.1, by rw [a1.2.2.2.2 _ (by omega) z1]; exact z3⟩, a4⟩) a5 a6 a7 a8
        rw [List.map_cons, g2] at K2
        exact sn_ldcwS hx hb hown g1 hd K2
    · cases E2
  case ldc2_w k =>
    obtain ⟨rfl, E2⟩ := am_w_some E
    split at E2
    · rename_i v hv
      cases E2
      rcases ct_cn hv with ⟨z, q, -⟩ | ⟨z, q, hl⟩ | ⟨z, q, -⟩
      · cases q
      · cases q
        exact sn_p K (fun tg a b => ⟨a, sn_okv_cons.mpr ⟨sn_ok_long, b⟩⟩) (fun Ls H locs k n a g => lv_ldc2 hx hb hown (hts _ hl) hd (g Ls a))
      · cases q
    · cases E2
  all_goals (cases E)
/-- an array's cell -/
theorem sn_ary {tg : Nat → Nat} {H : Heap} {a : Nat} (hR : sn_R D tg s h H) (ho : sn_ok tg h.1 (.ref a)) (h1 : 40 ≤ am_k a) (h2 : am_k a < 50) : ∃ (q : Nat) (cell : Cell), sn_v D (.ref a) = .ref q ∧ H[q]? = some cell ∧ cell.vm.isStatics = false ∧ cell.vm ≠ .unknown ∧ (am_P ≤ am_i a → cell.vm = .none) ∧ sn_arr s cell (am_k a) ∧ cell.slots.size = am_n a ∧ (∀ j, j < am_n a → cell.slots[j]? = some (sn_v D (am_g h a j)) ∧ sn_ok tg h.1 (am_g h a j) ∧ (am_k a = 41 → ∃ z, am_g h a j = .int z ∧ fits .byte (.int z) = true)) := by
  rcases sn_lt hR ho with g | ⟨q, cell, g1, g2, g3, g4, g5, g6, g7⟩
  · omega
  · rcases g7 with ⟨k1, -⟩ | ⟨k1, k2, k3, k4, k5⟩
    · omega
    · exact ⟨q, cell, g1, g3, g4, g5, g6, k3, k4, k5⟩
theorem sn_isArr {cell : Cell} {k : Nat} (h1 : cell.vm.isStatics = false) (h2 : sn_arr s cell k) : s.isArrayOf cell (sn_ty k) := by
  obtain ⟨kA, comp, g1, g2, -⟩ := h2
  exact ⟨(fun z h => by rw [h] at h1; cases h1), kA, g1, comp, g2⟩
theorem sn_ald {k0 : Nat → Bool} (row : ∀ {a q : Nat} {cell : Cell} {j : Int32} {v : Value} {Ls : Array Slot} {H : Heap} {locs : List Loc} {i n : Nat} {rest : List Value}, k0 (am_k a) = true → H[q]? = some cell → s.isArrayOf cell (sn_ty (am_k a)) → cell.vm ≠ .unknown → ¬ (j < 0 ∨ cell.slots.size ≤ j.toNatClampNeg) → cell.slots[j.toNatClampNeg]? = some v → W p l e R s m args below meth c H locs i n Q (F0 m (pc + 1) Ls (v :: rest)) → W p l e R s m args below meth c H locs i n Q (F0 m pc Ls (.int j :: .ref q :: rest)))
    (hk0 : ∀ k, k0 k = true → 40 ≤ k ∧ k < 50) (E : am_ald k0 pc ls st h = some (.inl (pc', ls', st', h'))) (K : sn_W D s m (fun H locs k n g => W p l e R s m args below meth c H locs k n Q g) tg0 h0 x nL pc' ls' st' h') : sn_W D s m (fun H locs k n g => W p l e R s m args below meth c H locs k n Q g) tg0 h0 x nL pc ls st h := by
  unfold am_ald at E
  split at E
  · rename_i j a r
    split at E
    · rename_i hc
      obtain ⟨hk, hj⟩ := hc
      cases E
      refine ⟨K.1, fun tg Ls H locs a1 a2 a3 a4 a5 a6 a7 a8 => ?_⟩
      obtain ⟨-, o2⟩ := sn_okv_cons.mp a4
      obtain ⟨o1, o3⟩ := sn_okv_cons.mp o2
      obtain ⟨q, cell, e1, e2, e3, e4, e5, e6, e7, e8⟩ := sn_ary a1 o1 (hk0 _ hk).1 (hk0 _ hk).2
      have hlt : j.toNatClampNeg < am_n a := Nat.not_le.mp fun q => hj (Or.inr q)
      have K2 := K.2 tg Ls H locs a1 a2 a3 (sn_okv_cons.mpr ⟨(e8 _ hlt).2.1, o3⟩) a5 a6 a7 a8
      rw [List.map_cons] at K2
      rw [List.map_cons, List.map_cons, e1]
      exact row hk e2 (sn_isArr e3 e6) e4 (by rw [e7]; exact hj) (e8 _ hlt).1 K2
    · cases E
  · cases E
/-- a cell of an array is written -/
theorem sn_awr {tg : Nat → Nat} {H H' : Heap} {a q k : Nat} {cell : Cell} {v : Value} (a1 : sn_R D tg s h H) (o1 : sn_ok tg h.1 (.ref a)) (hP : am_P ≤ am_i a) (h1 : 40 ≤ am_k a) (h2 : am_k a < 50) (e1 : sn_v D (.ref a) = .ref q) (e2 : H[q]? = some cell) (hk : k < am_n a) (ov : sn_ok tg h.1 v) (hf : am_k a = 41 → ∃ z, v = .int z ∧ fits .byte (.int z) = true)
    (z1 : H'[q]? = some (cell.setSlot k (sn_v D v))) (z2 : H'.size = H.size) (z3 : ∀ q' : Nat, q' ≠ q → H'[q']? = H[q']?) : sn_R D tg s (am_p h a k v) H' := by
  obtain ⟨q0, cell0, g1, g2, g3, g4, g5, g6, g7, g8⟩ := sn_ary a1 o1 h1 h2
  have : q0 = q := Value.ref.inj (g1.symm.trans e1)
  subst this
  cases g2.symm.trans e2
  have ea : sn_b D + (am_i a - am_P) = q0 := Value.ref.inj ((sn_new hP).symm.trans e1)
  refine sn_R_upd a1 o1 hP e1 z2 z3 (Or.inr ⟨q0, _, e1, (fun w => by omega), z1, g3, g4, (fun _ => g5 hP), Or.inr ⟨h1, h2, g6, by rw [k2_slotsz]; exact g7, fun j hj => ?_⟩⟩)
  rw [sn_slot (by rw [g7]; exact hk)]
  by_cases hjk : j = k
  · subst hjk
    rw [if_pos rfl, am_g_p_s]
    exact ⟨rfl, ov, hf⟩
  · rw [if_neg hjk, am_g_p_n hjk]
    exact g8 j hj
theorem sn_locs {locs : List Loc} {q k : Nat} (h : ∀ l1 ∈ locs, sn_b D ≤ l1.base) (hq : sn_b D ≤ q) : ∀ l1 ∈ locs ++ [⟨q, k⟩], sn_b D ≤ l1.base := by
  intro l1 hl1
  rcases List.mem_append.mp hl1 with w | w
  · exact h l1 w
  · rw [List.mem_singleton.mp w]
    exact hq
theorem sn_hi {a q : Nat} (hP : am_P ≤ am_i a) (e1 : sn_v D (.ref a) = .ref q) : sn_b D ≤ q := by
  have ea : sn_b D + (am_i a - am_P) = q := Value.ref.inj ((sn_new hP).symm.trans e1)
  omega
theorem sn_ast {b : Nat} {f : Int32 → Int32} (h1 : 40 ≤ b) (h2 : b < 50) (hfit : b = 41 → ∀ z, fits .byte (.int (f z)) = true)
    (row : ∀ {q : Nat} {cell : Cell} {j z : Int32} {Ls : Array Slot} {H : Heap} {locs : List Loc} {i n : Nat} {rest : List Value}, H[q]? = some cell → s.isArrayOf cell (sn_ty b) → cell.vm ≠ .unknown → ¬ (j < 0 ∨ cell.slots.size ≤ j.toNatClampNeg) → (∀ H' : Heap, H'[q]? = some (cell.setSlot j.toNatClampNeg (.int (f z))) → H'.size = H.size → (∀ q', q' ≠ q → H'[q']? = H[q']?) → W p l e R s m args below meth c H' (locs ++ [⟨q, j.toNatClampNeg⟩]) i n Q (F0 m (pc + 1) Ls rest)) → W p l e R s m args below meth c H locs i n Q (F0 m pc Ls (.int z :: .int j :: .ref q :: rest)))
    (E : am_ast b f pc ls st h = some (.inl (pc', ls', st', h'))) (K : sn_W D s m (fun H locs k n g => W p l e R s m args below meth c H locs k n Q g) tg0 h0 x nL pc' ls' st' h') : sn_W D s m (fun H locs k n g => W p l e R s m args below meth c H locs k n Q g) tg0 h0 x nL pc ls st h := by
  unfold am_ast at E
  split at E
  · rename_i z j a r
    split at E
    · rename_i hc
      obtain ⟨hk, hP, hj⟩ := hc
      cases E
      refine ⟨K.1, fun tg Ls H locs a1 a2 a3 a4 a5 a6 a7 a8 => ?_⟩
      obtain ⟨-, o2⟩ := sn_okv_cons.mp a4
      obtain ⟨-, o3⟩ := sn_okv_cons.mp o2
      obtain ⟨o1, o4⟩ := sn_okv_cons.mp o3
      obtain ⟨q, cell, e1, e2, e3, e4, e5, e6, e7, e8⟩ := sn_ary a1 o1 (by omega) (by omega)
      have hlt : j.toNatClampNeg < am_n a := Nat.not_le.mp fun q => hj (Or.inr q)
      rw [List.map_cons, List.map_cons, List.map_cons, e1]
      refine row e2 (by rw [← hk]; exact sn_isArr e3 e6) e4 (by rw [e7]; exact hj) (fun H' z1 z2 z3 => ?_)
      exact K.2 tg Ls H' _ (sn_awr a1 o1 hP (by omega) (by omega) e1 e2 hlt sn_ok_int (fun w => ⟨_, rfl, hfit (hk.symm.trans w) z⟩) z1 z2 z3) a2 a3 o4 (sn_locs a5 (sn_hi hP e1)) a6 a7 a8
    · cases E
  · cases E
end SN6
