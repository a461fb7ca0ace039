/-! the start's picture: environment, heap (printed by gen/fin3.py) -/
set_option maxRecDepth 100000
set_option maxHeartbeats 8000000
theorem cls_kn {s : State} {A : Array Value} (H : ∀ w ∈ lw_all, w.before A s = true) : ∀ (c : Nat) (r : vw_C), am_cls[c]? = some r → ∃ (cC : ClassId) (iS : Nat → Nat), u_Kn s r.1 r.2.1 r.2.2 cC iS := fun c r h => by
  have hu := (ct_cls c r h).1
  match c, h with
  | 0, h => cases h; exact u_known H hu (H _ q323)
  | 1, h => cases h; exact u_known H hu (H _ q315)
  | 2, h => cases h; exact u_known H hu (H _ q323)
  | 3, h => cases h; exact u_known H hu (H _ q377)
  | 4, h => cases h; exact u_known H hu (H _ q384)
  | 5, h => cases h; exact u_known H hu (H _ q390)
  | 6, h => cases h; exact u_known H hu (H _ q511)
  | 7, h => cases h; exact u_known H hu (H _ q517)
  | 8, h => cases h; exact u_known H hu (H _ q595)
  | 9, h => cases h; exact u_known H hu (H _ q603)
  | 10, h => cases h; exact u_known H hu (H _ q634)
  | 11, h => cases h; exact u_known H hu (H _ q832)
  | 12, h => cases h; exact u_known H hu (H _ q1097)
  | 13, h => cases h; exact u_known H hu (H _ q1103)
  | 14, h => cases h; exact u_known H hu (H _ q1224)
  | 15, h => cases h; exact u_known H hu (H _ q1388)
  | 16, h => cases h; exact u_known H hu (H _ q1429)
  | 17, h => cases h; exact u_known H hu (H _ q1509)
  | 18, h => cases h; exact u_known H hu (H _ q1746)
  | 19, h => cases h; exact u_known H hu (H _ q971)
  | n + 20, h => exact absurd h (by simp [am_cls])
theorem start_E {s : State} {b : Nat} {cid : Nat → ClassId × (Nat → Nat)} {ad : Nat → Nat × Nat} {t1 t2 t3 : Value} (hts : ∀ w ∈ lw_tbl, w.before #[Value.ref b] s = true) (F1 : ∀ c ∈ flatC narrow_1_1, c.before #[Value.ref b] s = true) (hcid : ∀ (c : Nat) (r : vw_C), am_cls[c]? = some r → u_Kn s r.1 r.2.1 r.2.2 (cid c).1 (cid c).2) (had : ∀ j, j < 141 → STQ s (am_nm (SKL.getD j (0, 0)).1) (SKL.getD j (0, 0)).2 (am_tx.getD j []) (ad j).1 (ad j).2)
    (e1 : (Term.static "java/lang/Throwable" "UNASSIGNED_STACK" "[Ljava/lang/StackTraceElement;").eval #[Value.ref b] s none [] s = some t1) (e2 : (Term.static "java/lang/Throwable" "SUPPRESSED_SENTINEL" "Ljava/util/List;").eval #[Value.ref b] s none [] s = some t2) (e3 : (Term.static "jdk/internal/util/Preconditions" "SIOOBE_FORMATTER" "Ljava/util/function/BiFunction;").eval #[Value.ref b] s none [] s = some t3) (r1 : t1 = .null ∨ ∃ q, t1 = .ref q) (r2 : t2 = .null ∨ ∃ q, t2 = .ref q) (r3 : t3 = .null ∨ ∃ q, t3 = .ref q) :
    sn_E (fun c => (cid c).1, fun c k => (cid c).2 k, (fun i => if i = 0 then .ref b else if i = 1 then t1 else if i = 2 then t2 else if i = 3 then t3 else if i % 2 = 0 then .ref (ad ((i - 4) / 2)).1 else .ref (ad ((i - 5) / 2)).2), s.heap.size, s.heap) s := by
  have hall : ∀ w ∈ lw_all, w.before #[Value.ref b] s = true := fun w h => hts w (lw_all_tbl h)
  have noA : ∀ a : Nat, a < s.heap.size → ¬ (fun a => s.heap.size ≤ a) a := fun a h z => Nat.lt_irrefl _ (Nat.lt_of_lt_of_le h z)
  refine ⟨fun i => ?_, fun c r h => hcid c r h, fun a i b n d ho hm => va_Nw.of rfl (hts _ hm), fun a i y ho hm => va_Nw.of rfl (hts _ hm), fun C hC => va_AO.of (hts _ hC), fun own i v t h1 h2 => ?_, fun own i v h => ?_, va_Fw.of (hts _ q2709) (hts _ q2708) (hts _ q2720) (hts _ q2718) (hts _ q2716)⟩
  · show (if i = 0 then Value.ref b else if i = 1 then t1 else if i = 2 then t2 else if i = 3 then t3 else if i % 2 = 0 then .ref (ad ((i - 4) / 2)).1 else .ref (ad ((i - 5) / 2)).2) = .null ∨ ∃ q, (if i = 0 then Value.ref b else if i = 1 then t1 else if i = 2 then t2 else if i = 3 then t3 else if i % 2 = 0 then .ref (ad ((i - 4) / 2)).1 else .ref (ad ((i - 5) / 2)).2) = .ref q
    by_cases a0 : i = 0
    · rw [if_pos a0]; exact Or.inr ⟨_, rfl⟩
    · rw [if_neg a0]
      by_cases a1 : i = 1
      · rw [if_pos a1]; exact r1
      · rw [if_neg a1]
        by_cases a2 : i = 2
        · rw [if_pos a2]; exact r2
        · rw [if_neg a2]
          by_cases a3 : i = 3
          · rw [if_pos a3]; exact r3
          · rw [if_neg a3]
            refine Or.inr ?_
            by_cases a4 : i % 2 = 0
            · rw [if_pos a4]; exact ⟨_, rfl⟩
            · rw [if_neg a4]; exact ⟨_, rfl⟩
  · obtain ⟨j, hj, rfl, k1, k2⟩ := ck_cn h1
    have S := (had j hj).1
    rw [k1, k2] at S
    refine ⟨(ad j).1, vk_R.of (hts _ h2) S, ?_⟩
    have i4 : am_i (16777216 * (4 + 2 * j) + 19) = 4 + 2 * j := by unfold am_i; omega
    show (if am_i (16777216 * (4 + 2 * j) + 19) < 286 then (if am_i (16777216 * (4 + 2 * j) + 19) = 0 then Value.ref b else if am_i (16777216 * (4 + 2 * j) + 19) = 1 then t1 else if am_i (16777216 * (4 + 2 * j) + 19) = 2 then t2 else if am_i (16777216 * (4 + 2 * j) + 19) = 3 then t3 else if am_i (16777216 * (4 + 2 * j) + 19) % 2 = 0 then .ref (ad ((am_i (16777216 * (4 + 2 * j) + 19) - 4) / 2)).1 else .ref (ad ((am_i (16777216 * (4 + 2 * j) + 19) - 5) / 2)).2) else _) = _
    rw [i4, if_pos (by omega), if_neg (by omega), if_neg (by omega), if_neg (by omega), if_neg (by omega), if_pos (by omega), show (4 + 2 * j - 4) / 2 = j by omega]
  · have hm := ct_lk h
    match own, hm with
    | 0, hm => exact absurd hm List.not_mem_nil
    | 1, hm =>
      have hm : (i, v) ∈ ([(17, .long 761477086), (23, .long 60093860465)] : List (Nat × Value)) := hm
      simp only [List.mem_cons, Prod.mk.injEq, List.not_mem_nil, or_false] at hm
      rcases hm with ⟨rfl, rfl⟩ | ⟨rfl, rfl⟩
      · exact ⟨"ModulaWorks", "IN_OUT", "J", va_Zof (hts _ q1335) (hall _ q285) (va_eql (F1 _ (List.mem_of_getElem? (i := 9) rfl))) noA, Or.inl (lw_g (lw_at lw_m5 90 rfl) rfl), fun _ _ _ _ => sn_ok_long⟩
      · exact ⟨"ModulaWorks", "SYSTEM", "J", va_Zof (hts _ q1337) (hall _ q285) (va_eql (F1 _ (List.mem_of_getElem? (i := 10) rfl))) noA, Or.inl (lw_g (lw_at lw_m5 92 rfl) rfl), fun _ _ _ _ => sn_ok_long⟩
    | 2, hm => exact absurd hm List.not_mem_nil
    | 3, hm => exact absurd hm List.not_mem_nil
    | 4, hm => exact absurd hm List.not_mem_nil
    | 5, hm => exact absurd hm List.not_mem_nil
    | 6, hm => exact absurd hm List.not_mem_nil
    | 7, hm => exact absurd hm List.not_mem_nil
    | 8, hm =>
      have hm : (i, v) ∈ ([(500, .long 761477086)] : List (Nat × Value)) := hm
      simp only [List.mem_cons, Prod.mk.injEq, List.not_mem_nil, or_false] at hm
      rcases hm with ⟨rfl, rfl⟩
      · exact ⟨"ModulaWorks", "IN_OUT", "J", va_Zof (hts _ q1335) (hall _ q285) (va_eql (F1 _ (List.mem_of_getElem? (i := 9) rfl))) noA, Or.inr ⟨_, lw_at lw_m6 216 rfl⟩, fun _ _ _ _ => sn_ok_long⟩
    | 9, hm => exact absurd hm List.not_mem_nil
    | 10, hm => exact absurd hm List.not_mem_nil
    | 11, hm => exact absurd hm List.not_mem_nil
    | 12, hm => exact absurd hm List.not_mem_nil
    | 13, hm => exact absurd hm List.not_mem_nil
    | 14, hm => exact absurd hm List.not_mem_nil
    | 15, hm => exact absurd hm List.not_mem_nil
    | 16, hm => exact absurd hm List.not_mem_nil
    | 17, hm => exact absurd hm List.not_mem_nil
    | 18, hm => exact absurd hm List.not_mem_nil
    | 19, hm =>
      have hm : (i, v) ∈ ([(38, .int 1), (1053, .ref 50331711)] : List (Nat × Value)) := hm
      simp only [List.mem_cons, Prod.mk.injEq, List.not_mem_nil, or_false] at hm
      rcases hm with ⟨rfl, rfl⟩ | ⟨rfl, rfl⟩
      · exact ⟨"java/lang/String", "COMPACT_STRINGS", "Z", va_Zof (hts _ q916) (hall _ q299) (va_eqi (F1 _ (List.mem_of_getElem? (i := 4) rfl))) noA, Or.inl (lw_g (lw_at lw_m3 151 rfl) rfl), fun _ _ _ _ => sn_ok_int⟩
      · exact ⟨"jdk/internal/util/Preconditions", "SIOOBE_FORMATTER", "Ljava/util/function/BiFunction;", va_Zof (hts _ q932) (hall _ q301) (e3) noA, Or.inl (lw_g (lw_at lw_m3 167 rfl) rfl), fun tg n hp hn z hz => by
          cases hz
          exact ⟨Nat.lt_of_lt_of_le (by decide) hn, hp 3 (by decide) (by decide)⟩⟩
    | 20, hm => exact absurd hm List.not_mem_nil
    | 21, hm => exact absurd hm List.not_mem_nil
    | 22, hm => exact absurd hm List.not_mem_nil
    | 23, hm => exact absurd hm List.not_mem_nil
    | 24, hm => exact absurd hm List.not_mem_nil
    | 25, hm =>
      have hm : (i, v) ∈ ([(13, .ref 16777279), (20, .ref 33554495)] : List (Nat × Value)) := hm
      simp only [List.mem_cons, Prod.mk.injEq, List.not_mem_nil, or_false] at hm
      rcases hm with ⟨rfl, rfl⟩ | ⟨rfl, rfl⟩
      · exact ⟨"java/lang/Throwable", "UNASSIGNED_STACK", "[Ljava/lang/StackTraceElement;", va_Zof (hts _ q543) (hall _ q291) (e1) noA, Or.inl (lw_g (lw_at lw_m2 18 rfl) rfl), fun tg n hp hn z hz => by
          cases hz
          exact ⟨Nat.lt_of_lt_of_le (by decide) hn, hp 1 (by decide) (by decide)⟩⟩
      · exact ⟨"java/lang/Throwable", "SUPPRESSED_SENTINEL", "Ljava/util/List;", va_Zof (hts _ q545) (hall _ q291) (e2) noA, Or.inl (lw_g (lw_at lw_m2 20 rfl) rfl), fun tg n hp hn z hz => by
          cases hz
          exact ⟨Nat.lt_of_lt_of_le (by decide) hn, hp 2 (by decide) (by decide)⟩⟩
    | 26, hm => exact absurd hm List.not_mem_nil
    | 27, hm => exact absurd hm List.not_mem_nil
    | 28, hm => exact absurd hm List.not_mem_nil
    | n + 29, hm => exact absurd hm (by simp [am_stL])
theorem start_R {s : State} {b L : Nat} {xs sx : Nat → Int32} {cid : Nat → ClassId × (Nat → Nat)} {ad : Nat → Nat × Nat} {t1 t2 t3 : Value} (hX : va_X b L xs s s.heap) (hL : L ≤ 260) (hs : ∀ j, j < L → sx j = xs j) (hcid : ∀ (c : Nat) (r : vw_C), am_cls[c]? = some r → u_Kn s r.1 r.2.1 r.2.2 (cid c).1 (cid c).2) (had : ∀ j, j < 141 → STQ s (am_nm (SKL.getD j (0, 0)).1) (SKL.getD j (0, 0)).2 (am_tx.getD j []) (ad j).1 (ad j).2) :
    sn_R ((fun c => (cid c).1, fun c k => (cid c).2 k, (fun i => if i = 0 then .ref b else if i = 1 then t1 else if i = 2 then t2 else if i = 3 then t3 else if i % 2 = 0 then .ref (ad ((i - 4) / 2)).1 else .ref (ad ((i - 5) / 2)).2), s.heap.size, s.heap) : sn_D) (tg0 L) s (286, 0, g0 L sx) s.heap := by
  obtain ⟨D, eD⟩ : ∃ D, D = ((fun c => (cid c).1, fun c k => (cid c).2 k, (fun i => if i = 0 then .ref b else if i = 1 then t1 else if i = 2 then t2 else if i = 3 then t3 else if i % 2 = 0 then .ref (ad ((i - 4) / 2)).1 else .ref (ad ((i - 5) / 2)).2), s.heap.size, s.heap) : sn_D) := ⟨_, rfl⟩
  rw [← eD]
  have bD : sn_b D = s.heap.size := by rw [eD]; rfl
  have vD : ∀ a, am_i a < 286 → sn_v D (.ref a) = (if am_i a = 0 then Value.ref b else if am_i a = 1 then t1 else if am_i a = 2 then t2 else if am_i a = 3 then t3 else if am_i a % 2 = 0 then .ref (ad ((am_i a - 4) / 2)).1 else .ref (ad ((am_i a - 5) / 2)).2) := fun a h => by
    rw [eD]
    exact if_pos h
  have lt_of : ∀ {q : Nat} {cell : Cell}, s.heap[q]? = some cell → q < sn_b D := fun {q cell} h => by
    rw [bD]
    exact (Array.getElem?_eq_some_iff.mp h).1
  have noS : ∀ {cell : Cell} {ty : FieldType}, s.isArrayOf cell ty → cell.vm.isStatics = false := fun {cell ty} h => by
    cases e : cell.vm with
    | statics k => exact absurd e (h.1 k)
    | _ => rfl
  refine ⟨Nat.le_refl _, by rw [bD]; rfl, fun i hi => ?_, fun q hq => by subst eD; rfl, fun i h1 h2 => if_neg (by omega)⟩
  have hi : i < 286 := hi
  by_cases h0 : i = 0
  · subst h0
    obtain ⟨scr, x1, x2, x3, x4, x5⟩ := hX
    have ei : am_i (64 * L + 40) = 0 := by unfold am_i; omega
    have ek : am_k (64 * L + 40) = 40 := by unfold am_k; omega
    have en : am_n (64 * L + 40) = L := by unfold am_n; omega
    refine ⟨ei, Or.inr ⟨b, scr, ?_, fun _ => lt_of x1, x1, noS x2, x3, fun z => absurd z (by show ¬ 286 ≤ am_i (64 * L + 40); omega), Or.inr ⟨?_, ?_, ?_, ?_, fun j hj => ⟨?_, ?_, fun z => ?_⟩⟩⟩⟩
    · show sn_v D (.ref (64 * L + 40)) = _
      rw [vD _ (by omega), ei]
      rfl
    · show 40 ≤ am_k (64 * L + 40); omega
    · show am_k (64 * L + 40) < 50; omega
    · show sn_arr s scr (am_k (64 * L + 40))
      rw [ek]
      obtain ⟨-, k, hk, comp, hc⟩ := x2
      exact ⟨k, comp, hk, hc, fun C h => by cases h⟩
    · show scr.slots.size = am_n (64 * L + 40)
      rw [en]; exact x4
    · have hj : j < am_n (64 * L + 40) := hj
      rw [en] at hj
      have e : am_g ((286, 0, g0 L sx) : am_H) (tg0 L 0) j = .int (xs j) := by
        rw [← hs j hj]
        exact if_pos rfl
      rw [e]
      exact x5 j hj
    · have e : am_g ((286, 0, g0 L sx) : am_H) (tg0 L 0) j = .int (sx j) := if_pos rfl
      rw [e]
      exact sn_ok_int
    · have z : am_k (64 * L + 40) = 41 := z
      omega
  · have et : tg0 L i = am_pre i := if_neg h0
    have ei := tb_i i hi
    rw [et]
    refine ⟨ei, ?_⟩
    by_cases h3 : i < 4
    · refine Or.inl ?_
      have : i = 1 ∨ i = 2 ∨ i = 3 := by omega
      rcases this with rfl | rfl | rfl <;> decide
    · refine Or.inr ?_
      by_cases hp : i % 2 = 0
      · obtain ⟨j, rfl⟩ : ∃ j, i = 4 + 2 * j := ⟨(i - 4) / 2, by omega⟩
        have hj : j < 141 := by omega
        obtain ⟨y1, y2, y3, y4⟩ := tb_s j hj
        obtain ⟨-, ⟨cell, c1, c2, c3, c4, ⟨cf, kf, fi, fd, f1, f2⟩, ⟨cf2, kf2, fi2, fd2, f3, f4⟩⟩, -⟩ := had j hj
        obtain ⟨s0, s1⟩ := g0_s (sx := sx) hL hj
        rw [y1] at ei ⊢
        have ek : am_k (16777216 * (4 + 2 * j) + 19) = 19 := by unfold am_k; omega
        have KN := hcid 19 (RJ3, TJ3, 2) rfl
        have ct : cell.cls = D.1 19 := by
          have k1 : s.vm.findClass "java/lang/String" = some (cid 19).1 := KN.2.1
          rw [eD]
          exact Option.some.inj (c4.symm.trans k1)
        have ev : sn_v D (.ref (am_pre (5 + 2 * j))) = .ref (ad j).2 := by
          rw [vD _ (by rw [tb_i _ (by omega)]; omega), tb_i _ (by omega), if_neg (by omega), if_neg (by omega), if_neg (by omega), if_neg (by omega), if_neg (by omega), show (5 + 2 * j - 5) / 2 = j by omega]
        refine ⟨(ad j).1, cell, ?_, fun _ => lt_of c1, c1, c2, c3, fun z => absurd z (by show ¬ 286 ≤ _; omega), Or.inl ⟨by rw [ek]; decide, by rw [ek]; exact ct, fun k hk => ?_⟩⟩
        · rw [vD _ (by omega), ei, if_neg (by omega), if_neg (by omega), if_neg (by omega), if_neg (by omega), if_pos (by omega), show (4 + 2 * j - 4) / 2 = j by omega]
        · rw [ek] at hk ⊢
          have hk : k < 2 := hk
          have : k = 0 ∨ k = 1 := by omega
          rcases this with rfl | rfl
          · obtain ⟨c_, k_, i_, d_, g1, g2⟩ := KN.1 0 (by decide)
            have g1 : s.fieldFound? "java/lang/String" "value" "[B" = some (c_, k_, i_, d_) := g1
            cases f1.symm.trans g1
            have e : am_g ((286, 0, g0 L sx) : am_H) (16777216 * (4 + 2 * j) + 19) 0 = .ref (am_pre (5 + 2 * j)) := s0
            have sl : D.2.1 19 0 = fd.slot := by rw [eD]; exact g2.symm
            rw [e, ev, sl]
            refine ⟨f2, fun z hz => ?_⟩
            cases hz
            exact ⟨by rw [tb_i _ (by omega)]; show 5 + 2 * j < 286; omega, by rw [tb_i _ (by omega)]; exact if_neg (by omega)⟩
          · obtain ⟨c_, k_, i_, d_, g1, g2⟩ := KN.1 1 (by decide)
            have g1 : s.fieldFound? "java/lang/String" "coder" "B" = some (c_, k_, i_, d_) := g1
            cases f3.symm.trans g1
            have e : am_g ((286, 0, g0 L sx) : am_H) (16777216 * (4 + 2 * j) + 19) 1 = .int 0 := s1
            have sl : D.2.1 19 1 = fd2.slot := by rw [eD]; exact g2.symm
            rw [e, sl]
            exact ⟨f4, sn_ok_int⟩
      · obtain ⟨j, rfl⟩ : ∃ j, i = 5 + 2 * j := ⟨(i - 5) / 2, by omega⟩
        have hj : j < 141 := by omega
        obtain ⟨y1, y2, y3, y4⟩ := tb_s j hj
        obtain ⟨-, -, cell, c1, c2, c3, c4, c5⟩ := had j hj
        refine ⟨(ad j).2, cell, ?_, fun _ => lt_of c1, c1, noS c2, c3, fun z => absurd z (by rw [ei]; show ¬ 286 ≤ _; omega), Or.inr ⟨by rw [y2]; decide, by rw [y2]; decide, ?_, by rw [y3]; exact c4, fun k hk => ⟨?_, ?_, fun _ => ?_⟩⟩⟩
        · rw [vD _ (by omega), ei, if_neg (by omega), if_neg (by omega), if_neg (by omega), if_neg (by omega), if_neg (by omega), show (5 + 2 * j - 5) / 2 = j by omega]
        · rw [y2]
          obtain ⟨-, k, hk, comp, hc⟩ := c2
          exact ⟨k, comp, hk, hc, fun C h => by cases h⟩
        · rw [y3] at hk
          have e : am_g ((286, 0, g0 L sx) : am_H) (am_pre (5 + 2 * j)) k = .int (Int32.ofNat ((am_tx.getD j []).getD k 0)) := g0_a hL hj
          rw [e]
          exact c5 k hk
        · have e : am_g ((286, 0, g0 L sx) : am_H) (am_pre (5 + 2 * j)) k = .int (Int32.ofNat ((am_tx.getD j []).getD k 0)) := g0_a hL hj
          rw [e]
          exact sn_ok_int
        · exact ⟨_, g0_a hL hj, fit_b _ (tb_c2 hj)⟩
