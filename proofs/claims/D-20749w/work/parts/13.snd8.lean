/-! SOUNDNESS: arrays of references, what is made, casts -/
theorem sn_ra {k c : Nat} (h : am_ra k = some c) : 44 ≤ k ∧ k < 50 ∧ sn_ty k = .object (am_nm c) ∧ ∃ r : vw_C, am_cls[c]? = some r ∧ r.1 = am_nm c := by
  have hk : k = 44 ∨ k = 45 ∨ k = 46 ∨ k = 47 ∨ k = 48 ∨ k = 49 := by
    unfold am_ra at h
    by_cases h1 : k = 44
    · omega
    · by_cases h2 : k = 45
      · omega
      · by_cases h3 : k = 46
        · omega
        · by_cases h4 : k = 47
          · omega
          · by_cases h5 : k = 48
            · omega
            · by_cases h6 : k = 49
              · omega
              · simp [h1, h2, h3, h4, h5, h6] at h
  rcases hk with rfl | rfl | rfl | rfl | rfl | rfl <;> (cases h; exact ⟨by decide, by decide, rfl, _, rfl, rfl⟩)
theorem am_ra_ex {k : Nat} (h1 : 44 ≤ k) (h2 : k < 50) : ∃ c, am_ra k = some c := by
  have hk : k = 44 ∨ k = 45 ∨ k = 46 ∨ k = 47 ∨ k = 48 ∨ k = 49 := by omega
  rcases hk with rfl | rfl | rfl | rfl | rfl | rfl <;> exact ⟨_, rfl⟩
section SN7
variable {p : Program} {l : Launch} {e : Env} {R : Room} {s : State} {m : MethodId} {args : Array Value} {below : List Frame} {meth : Method} {c : Code} {Q : State → Prop}
variable {D : sn_D} {tg0 : Nat → Nat} {h0 : am_H} {x : am_R} {nL mid pc pc' : Nat} {ls ls' : am_L} {st st' : List Value} {h h' : am_H}
theorem sn_okv_mono {tg tg' : Nat → Nat} {n n' : Nat} {v : List Value} (h : sn_okv tg n v) (hn : n ≤ n') (ht : ∀ i, i < n → tg' i = tg i) : sn_okv tg' n' v := fun w hw => sn_ok_mono (h w hw) hn ht
theorem sn_oks_mono {tg tg' : Nat → Nat} {n n' : Nat} {v : am_L} (h : sn_oks tg n v) (hn : n ≤ n') (ht : ∀ i, i < n → tg' i = tg i) : sn_oks tg' n' v := fun w hw => sn_ok_mono (h w hw) hn ht
/-- behind what has been made -/
theorem sn_made {w : Heap → List Loc → Nat → Nat → JFrame → Prop} {len kind n : Nat} {f : Nat → Value} {r : List Value} {H' : Heap} {tg : Nat → Nat} {Ls : Array Slot} {H : Heap} {locs : List Loc} (hl : len ≤ 65536) (hk : kind < 64) (K : sn_W D s m w tg0 h0 x nL pc' ls (.ref (am_a h.1 len kind) :: r) (am_new h (am_a h.1 len kind) n f))
    (a1 : sn_R D tg s h H) (a2 : sn_L D ls Ls nL) (a3 : sn_oks tg h.1 ls) (a4 : sn_okv tg h.1 r) (a5 : ∀ q ∈ locs, sn_b D ≤ q.base) (a6 : h0.1 ≤ h.1) (a7 : h0.2.1 ≤ h.2.1) (a8 : ∀ i, i < h0.1 → tg i = tg0 i)
    (z : H'.size = H.size + 1) (oq : ∀ q' : Nat, q' < H.size → H'[q']? = H[q']?)
    (hcell : ∃ cell : Cell, H'[H.size]? = some cell ∧ cell.vm = .none ∧ ((kind < 20 ∧ cell.cls = D.1 kind ∧ ∀ k, k < am_nf kind → cell.slots[D.2.1 kind k]? = some (sn_v D (f k)) ∧ ∀ b, f k ≠ .ref b) ∨ (40 ≤ kind ∧ kind < 50 ∧ sn_arr s cell kind ∧ cell.slots.size = len ∧ ∀ j, j < len → cell.slots[j]? = some (sn_v D (f j)) ∧ (∀ b, f j ≠ .ref b) ∧ (kind = 41 → ∃ z, f j = .int z ∧ fits .byte (.int z) = true)))) :
    w H' locs (h.1 - h0.1 + 1) (h.2.1 - h0.2.1 + n) (F0 m pc' Ls (.ref H.size :: r.map (sn_v D))) := by
  obtain ⟨k1, k2, k3⟩ := am_k_a (i := h.1) hl hk
  have hP : am_P ≤ am_i (am_a h.1 len kind) := by rw [k1]; exact a1.1
  have ev : sn_v D (.ref (am_a h.1 len kind)) = .ref H.size := by rw [sn_new hP, k1, a1.2.1]
  have ht : ∀ i, i < h.1 → (fun i => if i = h.1 then am_a h.1 len kind else tg i) i = tg i := fun i hi => by
    show (if i = h.1 then _ else _) = _
    rw [if_neg (Nat.ne_of_lt hi)]
  have oknr : ∀ {v : Value} {tg : Nat → Nat} {n : Nat}, (∀ b, v ≠ .ref b) → sn_ok tg n v := fun hv b e => absurd e (hv b)
  have hR := sn_R_new (n := n) (f := f) a1 hl hk z oq (by
    obtain ⟨cell, c1, c2, c3⟩ := hcell
    refine Or.inr ⟨_, cell, ev, (fun w => by omega), c1, by rw [c2]; rfl, (fun w => by rw [c2] at w; cases w), (fun _ => c2), ?_⟩
    rw [k3]
    rcases c3 with ⟨g1, g2, g3⟩ | ⟨g1, g2, g3, g4, g5⟩
    · exact Or.inl ⟨g1, g2, fun k hk => ⟨(g3 k hk).1, oknr (g3 k hk).2⟩⟩
    · rw [k2]
      exact Or.inr ⟨g1, g2, g3, g4, fun j hj => ⟨(g5 j hj).1, oknr (g5 j hj).2.1, (g5 j hj).2.2⟩⟩)
  have K2 := K.2 _ Ls H' locs hR a2 (sn_oks_mono a3 (Nat.le_succ _) ht) (sn_okv_cons.mpr ⟨fun b hb => by
      cases hb
      rw [k1]
      exact ⟨Nat.lt_succ_self _, by simp only [if_true]⟩, sn_okv_mono a4 (Nat.le_succ _) ht⟩) a5 (Nat.le_succ_of_le a6) (Nat.le_trans a7 (Nat.le_add_right _ _)) (fun i hi => (ht i (Nat.lt_of_lt_of_le hi a6)).trans (a8 i hi))
  rw [List.map_cons, ev] at K2
  have e1 : (am_new h (am_a h.1 len kind) n f).1 - h0.1 = h.1 - h0.1 + 1 := by
    show h.1 + 1 - h0.1 = _
    omega
  have e2 : (am_new h (am_a h.1 len kind) n f).2.1 - h0.2.1 = h.2.1 - h0.2.1 + n := by
    show h.2.1 + n - h0.2.1 = _
    omega
  rw [e1, e2] at K2
  exact K2
theorem sn_mk {k : Nat} {z : Value} {pc1 : Nat} (hk : k < 64) (hRc : x.2.1 - h0.1 ≤ R.cells) (hRs : x.2.2.1 - h0.2.1 ≤ R.slots)
    (row : ∀ {n : Int32} {Ls : Array Slot} {H : Heap} {locs : List Loc} {i j : Nat} {rest : List Value}, ¬ n < 0 → n.toNatClampNeg ≤ 65536 → i + 1 ≤ R.cells → j + n.toNatClampNeg ≤ R.slots → (∀ (cell : Cell), cell.vm = .none → sn_arr s cell k → cell.slots = Array.replicate n.toNatClampNeg z → W p l e R s m args below meth c (H.push cell) locs (i + 1) (j + n.toNatClampNeg) Q (F0 m pc1 Ls (.ref H.size :: rest))) → W p l e R s m args below meth c H locs i j Q (F0 m pc Ls (.int n :: rest)))
    (h40 : 40 ≤ k ∧ k < 50) (hz : sn_v D z = z ∧ (∀ b, z ≠ .ref b) ∧ (k = 41 → z = .int 0))
    (E : am_mk k z pc1 ls st h = some (.inl (pc', ls', st', h'))) (K : sn_W D s m (fun H locs k n g => W p l e R s m args below meth c H locs k n Q g) tg0 h0 x nL pc' ls' st' h') : sn_W D s m (fun H locs k n g => W p l e R s m args below meth c H locs k n Q g) tg0 h0 x nL pc ls st h := by
  unfold am_mk at E
  split at E
  · rename_i n r
    split at E
    · rename_i hc
      obtain ⟨hn, hl⟩ := hc
      cases E
      obtain ⟨⟨b1, b2⟩, K2⟩ := K
      refine ⟨⟨Nat.le_trans (Nat.le_succ _) b1, Nat.le_trans (Nat.le_add_right _ _) b2⟩, fun tg Ls H locs a1 a2 a3 a4 a5 a6 a7 a8 => ?_⟩
      have b1' : h.1 + 1 ≤ x.2.1 := b1
      have b2' : h.2.1 + n.toNatClampNeg ≤ x.2.2.1 := b2
      refine row hn hl (by omega) (by omega) (fun cell c1 c2 c3 => ?_)
      refine sn_made (w := fun H locs k n g => W p l e R s m args below meth c H locs k n Q g) (m := m) (H := H) (D := D) hl hk ⟨⟨b1, b2⟩, K2⟩ a1 a2 a3 (sn_okv_cons.mp a4).2 a5 a6 a7 a8 (by simp) (fun q' hq' => by rw [Array.getElem?_push, if_neg (Nat.ne_of_lt hq')]) ⟨cell, by simp, c1, Or.inr ⟨h40.1, h40.2, c2, by rw [c3]; simp, fun j hj => ⟨?_, hz.2.1, fun w => ⟨0, hz.2.2 w, rfl⟩⟩⟩⟩
      rw [c3, hz.1]
      simp [Array.getElem?_replicate, hj]
    · cases E
  · cases E
theorem sn_newa (hx : p.tables.exec = Jvm.exec) (hb : c.code = am_code mid) (hts : ∀ w ∈ lw_all, w.before args s = true) {atype : ArrayType} {ty : FieldType} {z : Value} (hty : newarray.typeOf atype = ty) (hz : defaultValue ty = z) (hcb : componentBytes ty ≤ 8) (hq : Cond.arrayClass ty ∈ lw_all) (hd : decode (am_code mid) pc = .ok (.newarray atype, 2)) {k : Nat} (hk : sn_ty k = ty) (hno : ∀ C, ty ≠ .object C)
    {n : Int32} {Ls : Array Slot} {H : Heap} {locs : List Loc} {i j : Nat} {rest : List Value} (hn : ¬ n < 0) (hl : n.toNatClampNeg ≤ 65536) (hi : i + 1 ≤ R.cells) (hj : j + n.toNatClampNeg ≤ R.slots) (g : ∀ (cell : Cell), cell.vm = .none → sn_arr s cell k → cell.slots = Array.replicate n.toNatClampNeg z → W p l e R s m args below meth c (H.push cell) locs (i + 1) (j + n.toNatClampNeg) Q (F0 m (pc + 2) Ls (.ref H.size :: rest))) : W p l e R s m args below meth c H locs i j Q (F0 m pc Ls (.int n :: rest)) := by
  subst hty
  subst hz
  have hbytes : n.toNatClampNeg * componentBytes (newarray.typeOf atype) ≤ 536870912 := Nat.le_trans (Nat.mul_le_mul hl hcb) (by decide)
  exact W.newa hx hb (hts _ hq) rfl hd rfl hn hbytes hi hj (fun cA kA comp h1 h2 h3 => g { cls := cA, slots := Array.replicate n.toNatClampNeg (defaultValue (newarray.typeOf atype)), vm := .none } rfl ⟨kA, comp, h2, by rw [hk]; exact h3, fun C hC => absurd (hk.symm.trans hC) (hno C)⟩ rfl)
theorem sn_newr (hx : p.tables.exec = Jvm.exec) (hb : c.code = am_code mid) {own C : String} {index : Nat} (hown : s.vm.findClass own = some m.cls) (hclink : (Cond.classLink own index C).before args s = true) (hover : (Cond.arrayOver (.object C)).before args s = true) (hd : decode (am_code mid) pc = .ok (.anewarray index, 3)) {k : Nat} (hk : sn_ty k = .object C)
    {n : Int32} {Ls : Array Slot} {H : Heap} {locs : List Loc} {i j : Nat} {rest : List Value} (hn : ¬ n < 0) (hl : n.toNatClampNeg ≤ 65536) (hi : i + 1 ≤ R.cells) (hj : j + n.toNatClampNeg ≤ R.slots) (g : ∀ (cell : Cell), cell.vm = .none → sn_arr s cell k → cell.slots = Array.replicate n.toNatClampNeg .null → W p l e R s m args below meth c (H.push cell) locs (i + 1) (j + n.toNatClampNeg) Q (F0 m (pc + 3) Ls (.ref H.size :: rest))) : W p l e R s m args below meth c H locs i j Q (F0 m pc Ls (.int n :: rest)) := by
  have hbytes : n.toNatClampNeg * 4 ≤ 536870912 := Nat.le_trans (Nat.mul_le_mul hl (Nat.le_refl 4)) (by decide)
  exact W.anew hx hb hown hclink hover rfl hd rfl hn hbytes hi hj (fun cA kA comp h1 h2 h3 h4 => g { cls := cA, slots := Array.replicate n.toNatClampNeg .null, vm := .none } rfl ⟨kA, comp, h2, by rw [hk]; exact h3, fun C' hC => by rw [hk] at hC; cases hC; exact h4⟩ rfl)
theorem sn_def (ty : FieldType) : sn_v D (defaultValue ty) = defaultValue ty ∧ ∀ b, defaultValue ty ≠ .ref b := by
  cases ty <;> exact ⟨rfl, fun b h => by cases h⟩
theorem sn_s6 (hx : p.tables.exec = Jvm.exec) (hb : c.code = am_code mid) (hE : sn_E D s) (hts : ∀ w ∈ lw_all, w.before args s = true) (hown : s.vm.findClass (am_nm (am_own mid)) = some m.cls) (hRc : x.2.1 - h0.1 ≤ R.cells) (hRs : x.2.2.1 - h0.2.1 ≤ R.slots) {i : Instr} {n : Nat} (hd : decode (am_code mid) pc = .ok (i, n)) (E : am_s6 mid i n pc ls st h = some (.inl (pc', ls', st', h')))
    (K : sn_W D s m (fun H locs k n g => W p l e R s m args below meth c H locs k n Q g) tg0 h0 x nL pc' ls' st' h') : sn_W D s m (fun H locs k n g => W p l e R s m args below meth c H locs k n Q g) tg0 h0 x nL pc ls st h := by
  have cb : ∀ {k j : Nat}, (k == j) = true → k = j := fun h => by simpa using h
  cases i
  case iaload => obtain ⟨rfl, E2⟩ := am_w_some E; exact sn_ald (fun k0 a b d f g w => by rw [cb k0] at b; exact W.iald hx hb a b d f g rfl rfl hd w) (fun k hk => by rw [cb hk]; decide) E2 K
  case baload => obtain ⟨rfl, E2⟩ := am_w_some E; exact sn_ald (fun k0 a b d f g w => by rw [cb k0] at b; exact W.bald hx hb a b d f g rfl rfl hd w) (fun k hk => by rw [cb hk]; decide) E2 K
  case saload => obtain ⟨rfl, E2⟩ := am_w_some E; exact sn_ald (fun k0 a b d f g w => by rw [cb k0] at b; exact W.sald hx hb a b d f g rfl rfl hd w) (fun k hk => by rw [cb hk]; decide) E2 K
  case laload => obtain ⟨rfl, E2⟩ := am_w_some E; exact sn_ald (fun k0 a b d f g w => by rw [cb k0] at b; exact W.lald hx hb a b d f g rfl rfl hd w) (fun k hk => by rw [cb hk]; decide) E2 K
  case aaload =>
    obtain ⟨rfl, E2⟩ := am_w_some E
    refine sn_ald (fun k0 a b d f g w => W.aald hx hb a b ?_ d f g rfl rfl hd w) (fun k hk => by have := of_decide_eq_true hk; omega) E2 K
    have := of_decide_eq_true k0
    obtain ⟨c0, hc0⟩ := am_ra_ex this.1 this.2
    rw [(sn_ra hc0).2.2.1]
    rfl
  case iastore => obtain ⟨rfl, E2⟩ := am_w_some E; exact sn_ast (by decide) (by decide) (fun w => by cases w) (fun a b d f g => W.iast hx hb a b d f rfl rfl hd g) E2 K
  case bastore => obtain ⟨rfl, E2⟩ := am_w_some E; exact sn_ast (by decide) (by decide) (fun w z => pk_fb z) (fun a b d f g => W.bast hx hb a b d f rfl rfl hd g) E2 K
  case sastore => obtain ⟨rfl, E2⟩ := am_w_some E; exact sn_ast (by decide) (by decide) (fun w => by cases w) (fun a b d f g => W.sast hx hb a b d f rfl rfl hd g) E2 K
  case lastore =>
    obtain ⟨rfl, E2⟩ := am_w_some E
    split at E2
    · rename_i z j a r
      split at E2
      · rename_i hc
        obtain ⟨hk, hP, hj⟩ := hc
        cases E2
        refine ⟨K.1, fun tg Ls H locs a1 a2 a3 a4 a5 a6 a7 a8 => ?_⟩
        obtain ⟨-, o2⟩ := sn_okv_cons.mp a4
        obtain ⟨-, o3⟩ := sn_okv_cons.mp o2
        obtain ⟨o1, o4⟩ := sn_okv_cons.mp o3
        obtain ⟨q, cell, e1, e2, e3, e4, e5, e6, e7, e8⟩ := sn_ary a1 o1 (by omega) (by omega)
        have hlt : j.toNatClampNeg < am_n a := Nat.not_le.mp fun q => hj (Or.inr q)
        rw [List.map_cons, List.map_cons, List.map_cons, e1]
        have ha := sn_isArr e3 e6
        rw [hk] at ha
        refine W.last hx hb e2 ha e4 (by rw [e7]; exact hj) rfl rfl hd (fun H' z1 z2 z3 => ?_)
        exact K.2 tg Ls H' _ (sn_awr a1 o1 hP (by omega) (by omega) e1 e2 hlt sn_ok_long (fun w => by omega) z1 z2 z3) a2 a3 o4 (sn_locs a5 (sn_hi hP e1)) a6 a7 a8
      · cases E2
    · cases E2
  case aastore =>
    obtain ⟨rfl, E2⟩ := am_w_some E
    split at E2
    · rename_i v j a r
      split at E2
      · rename_i hc
        obtain ⟨hk, hP, hj⟩ := hc
        cases E2
        obtain ⟨r1, r2, r3, cl, r4, r5⟩ := sn_ra hk
        refine ⟨K.1, fun tg Ls H locs a1 a2 a3 a4 a5 a6 a7 a8 => ?_⟩
        obtain ⟨ov, o2⟩ := sn_okv_cons.mp a4
        obtain ⟨-, o3⟩ := sn_okv_cons.mp o2
        obtain ⟨o1, o4⟩ := sn_okv_cons.mp o3
        obtain ⟨q, cell, e1, e2, e3, e4, e5, e6, e7, e8⟩ := sn_ary a1 o1 (by omega) (by omega)
        obtain ⟨qv, cv, v1, v2, v3, v4, v5, v6, v7, hKn⟩ := sn_obj hE a1 ov r4 rfl
        have hlt : j.toNatClampNeg < am_n a := Nat.not_le.mp fun q => hj (Or.inr q)
        have h0j : ¬ j < 0 := fun q => hj (Or.inl q)
        obtain ⟨kA, comp, g1, g2, g3⟩ := e6
        have hcomp := g3 _ r3
        have hca : ClassAt s cl.1 (D.1 (am_k v)) := hKn.2
        have : comp = D.1 (am_k v) := by
          have := hca.1
          rw [r5] at this
          exact Option.some.inj (hcomp.symm.trans this)
        subst this
        obtain ⟨hfc, kC, hkC, -⟩ := id hca
        rw [List.map_cons, List.map_cons, List.map_cons, e1, v1]
        refine W.aast hx hb e2 (fun z w => by rw [w] at e3; cases e3) e4 g1 g2 (by rw [r3]; rfl) hkC ⟨h0j, by rw [e7]; exact hlt⟩ v2 (fun z w => by rw [w] at v3; cases v3) (by rw [v6]; exact hkC) (by rw [v6]; exact va_assign hca) rfl rfl hd (fun H' z1 z2 z3 => ?_)
        exact K.2 tg Ls H' _ (sn_awr a1 o1 hP (by omega) (by omega) e1 e2 hlt ov (fun w => by omega) (by rw [v1]; exact z1) z2 z3) a2 a3 o4 (sn_locs a5 (sn_hi hP e1)) a6 a7 a8
      · cases E2
    · cases E2
  case arraylength =>
    obtain ⟨rfl, E2⟩ := am_w_some E
    split at E2
    · rename_i a r
      split at E2
      · rename_i hc
        cases E2
        refine ⟨K.1, fun tg Ls H locs a1 a2 a3 a4 a5 a6 a7 a8 => ?_⟩
        obtain ⟨o1, o4⟩ := sn_okv_cons.mp a4
        obtain ⟨q, cell, e1, e2, e3, e4, e5, e6, e7, e8⟩ := sn_ary a1 o1 hc.1 hc.2
        have K2 := K.2 tg Ls H locs a1 a2 a3 (sn_okv_cons.mpr ⟨sn_ok_int, o4⟩) a5 a6 a7 a8
        rw [List.map_cons, e1]
        exact W.alen hx hb e2 (sn_isArr e3 e6) (by rw [e7]) rfl rfl hd K2
      · cases E2
    · cases E2
  case newarray t =>
    cases t
    case int =>
      obtain ⟨rfl, E2⟩ := am_w_some E
      exact sn_mk (by decide) hRc hRs (fun hn hl hi hj g => sn_newa hx hb hts (ty := .int) (z := .int 0) rfl rfl (by decide) q434 hd (k := 40) rfl (fun C hC => by cases hC) hn hl hi hj g) ⟨by decide, by decide⟩ ⟨rfl, (fun b w => by cases w), fun w => by first | rfl | cases w⟩ E2 K
    case byte =>
      obtain ⟨rfl, E2⟩ := am_w_some E
      exact sn_mk (by decide) hRc hRs (fun hn hl hi hj g => sn_newa hx hb hts (ty := .byte) (z := .int 0) rfl rfl (by decide) q375 hd (k := 41) rfl (fun C hC => by cases hC) hn hl hi hj g) ⟨by decide, by decide⟩ ⟨rfl, (fun b w => by cases w), fun w => by first | rfl | cases w⟩ E2 K
    case short =>
      obtain ⟨rfl, E2⟩ := am_w_some E
      exact sn_mk (by decide) hRc hRs (fun hn hl hi hj g => sn_newa hx hb hts (ty := .short) (z := .int 0) rfl rfl (by decide) q435 hd (k := 42) rfl (fun C hC => by cases hC) hn hl hi hj g) ⟨by decide, by decide⟩ ⟨rfl, (fun b w => by cases w), fun w => by first | rfl | cases w⟩ E2 K
    case long =>
      obtain ⟨rfl, E2⟩ := am_w_some E
      exact sn_mk (by decide) hRc hRs (fun hn hl hi hj g => sn_newa hx hb hts (ty := .long) (z := .long 0) rfl rfl (by decide) q433 hd (k := 43) rfl (fun C hC => by cases hC) hn hl hi hj g) ⟨by decide, by decide⟩ ⟨rfl, (fun b w => by cases w), fun w => by first | rfl | cases w⟩ E2 K
    all_goals (cases E)
  case anewarray k =>
    obtain ⟨rfl, E2⟩ := am_w_some E
    split at E2
    · rename_i kk hk
      obtain ⟨c0, t1, t2, t3, t4, t5⟩ := ct_an hk
      obtain ⟨-, -, r3, -⟩ := sn_ra t1
      have hk64 : kk < 64 := Nat.lt_of_lt_of_le t5 (by decide)
      have hk40 : 40 ≤ kk := Nat.le_trans (by decide) t4
      have hk41 : kk ≠ 41 := fun w => by rw [w] at t4; exact absurd t4 (by decide)
      exact sn_mk hk64 hRc hRs (fun hn hl hi hj g => sn_newr hx hb hown (hts _ t2) (va_AO.use (hE.2.2.2.2.1 _ t3)) hd r3 hn hl hi hj g) ⟨hk40, t5⟩ ⟨rfl, (fun b w => by cases w), fun w => absurd w hk41⟩ E2 K
    · cases E2
  case new k =>
    obtain ⟨rfl, E2⟩ := am_w_some E
    split at E2
    · rename_i c0 hk
      cases E2
      obtain ⟨t1, t2, t3, t4, t5, cl, t6, t7⟩ := ct_nw hk
      obtain ⟨⟨b1, b2⟩, K2⟩ := K
      refine ⟨⟨Nat.le_trans (Nat.le_succ _) b1, Nat.le_trans (Nat.le_add_right _ _) b2⟩, fun tg Ls H locs a1 a2 a3 a4 a5 a6 a7 a8 => ?_⟩
      have b1' : h.1 + 1 ≤ x.2.1 := b1
      have b2' : h.2.1 + am_sl0 c0 ≤ x.2.2.1 := b2
      have hKn := hE.2.1 _ _ t6
      refine W.newcK hx hb hown (hts _ t1) (hts _ t2) (hts _ t3) rfl hd (by omega) (by omega) (cC := D.1 c0) (by rw [← t7]; exact hKn.2.1) rfl (fun H' kC z1 z2 z3 z4 => ?_)
      have hborn := u_born (o := H.size) (am_ty c0) hts (ct_cls _ _ t6).1 hKn z1 z2 (ct_cls _ _ t6).2.1
      obtain ⟨cell, d1, d2, d3, d4⟩ := hborn
      refine sn_made (w := fun H locs k n g => W p l e R s m args below meth c H locs k n Q g) (m := m) (H := H) (D := D) (Nat.zero_le _) (by omega) ⟨⟨b1, b2⟩, K2⟩ a1 a2 a3 a4 a5 a6 a7 a8 z3 z4 ⟨cell, d1, d3, Or.inl ⟨t4, d2, fun y hy => ⟨?_, (sn_def (D := D) _).2⟩⟩⟩
      rw [sn_nf t6] at hy
      rw [(sn_def (D := D) _).1]
      exact d4 y hy
    · cases E2
  case checkcast k =>
    obtain ⟨rfl, E2⟩ := am_w_some E
    split at E2
    · rename_i a r c0 hf
      split at E2
      · rename_i hk
        cases E2
        obtain ⟨t1, cl, t2, t3⟩ := ct_cc hf
        refine ⟨K.1, fun tg Ls H locs a1 a2 a3 a4 a5 a6 a7 a8 => ?_⟩
        obtain ⟨q, cell, e1, e2, e3, e4, e5, e6, e7, hKn⟩ := sn_obj hE a1 (sn_okv_cons.mp a4).1 t2 hk
        have K2 := K.2 tg Ls H locs a1 a2 a3 a4 a5 a6 a7 a8
        rw [List.map_cons, e1] at K2 ⊢
        have hca : ClassAt s (am_nm c0) (D.1 c0) := by rw [← t3]; exact hKn.2
        exact va_castS hx hb hown (hts _ t1) hca ⟨cell, e2, e3, by rw [e6]; exact hca.1⟩ hd K2
      · cases E2
    · cases E2
  case instanceof k =>
    obtain ⟨rfl, E2⟩ := am_w_some E
    split at E2
    · rename_i a r c0 hf
      split at E2
      · rename_i hk
        cases E2
        obtain ⟨t1, cl, t2, t3⟩ := ct_cc hf
        refine ⟨K.1, fun tg Ls H locs a1 a2 a3 a4 a5 a6 a7 a8 => ?_⟩
        obtain ⟨q, cell, e1, e2, e3, e4, e5, e6, e7, hKn⟩ := sn_obj hE a1 (sn_okv_cons.mp a4).1 t2 hk
        have K2 := K.2 tg Ls H locs a1 a2 a3 (sn_okv_cons.mpr ⟨sn_ok_int, (sn_okv_cons.mp a4).2⟩) a5 a6 a7 a8
        rw [List.map_cons, e1]
        have hca : ClassAt s (am_nm c0) (D.1 c0) := by rw [← t3]; exact hKn.2
        exact va_instS hx hb hown (hts _ t1) hca ⟨cell, e2, e3, by rw [e6]; exact hca.1⟩ hd K2
      · cases E2
    · cases E2
  all_goals (cases E)
end SN7
