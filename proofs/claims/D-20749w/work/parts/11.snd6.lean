/-! SOUNDNESS: fields -/
def sn_E (D : sn_D) (U : State) : Prop :=
  sn_pre D ∧ (∀ (c : Nat) (r : vw_C), am_cls[c]? = some r → u_Kn U r.1 r.2.1 r.2.2 (D.1 c) (D.2.1 c)) ∧
  (∀ a i b n d host, Cond.fieldLinkNest a i b n d host ∈ lw_tbl → va_Nw (.fieldLinkNest a i b n d host) U) ∧
  (∀ a i y host, Cond.methodLinkNest a i y host ∈ lw_tbl → va_Nw (.methodLinkNest a i y host) U) ∧
  (∀ C, Cond.arrayOver (.object C) ∈ lw_tbl → va_AO C U) ∧
  (∀ own i v t, am_cn own i = some (.ref v) → Cond.stringRef (am_nm own) i t ∈ lw_tbl → ∃ q, vk_R (am_nm own) i t q U ∧ sn_v D (.ref v) = .ref q) ∧
  (∀ own i v, am_st own i = some v → ∃ C n d, va_Z C n d (sn_v D v) (fun a => sn_b D ≤ a) U D.2.2.2.2 ∧ (Cond.fieldLink (am_nm own) i C n d ∈ lw_all ∨ ∃ host, Cond.fieldLinkNest (am_nm own) i C n d host ∈ lw_tbl) ∧ ∀ tg n, (∀ i, 0 < i → i < am_P → tg i = am_pre i) → am_P ≤ n → sn_ok tg n v) ∧
  va_Fw "ModulaWorks$Program" ⟨"ModulaWorks$Ports", "out", "(LModulaWorks$Chip;II)V"⟩ yX12_out U
theorem sn_E_moved {D : sn_D} {s U : State} (hW : s.WarmedH U.vm) (h : sn_E D s) : sn_E D U := by
  obtain ⟨h0, h1, h2, h3, h4, h5, h6, h7⟩ := h
  refine ⟨h0, fun c r hr => u_Kn_moved hW.alike (h1 c r hr), fun a i b n d ho hm => (h2 a i b n d ho hm).warmF hW, fun a i y ho hm => (h3 a i y ho hm).warmM hW, fun C hC => (h4 C hC).moved hW.alike, fun own i v t a b => ?_, fun own i v a => ?_, h7.moved ⟨by decide, by decide⟩ hW.alike⟩
  · obtain ⟨q, g1, g2⟩ := h5 own i v t a b
    exact ⟨q, g1.warm hW, g2⟩
  · obtain ⟨C, n, d, g1, g2⟩ := h6 own i v a
    exact ⟨C, n, d, g1.moved hW.alike, g2⟩
theorem am_fit_some {ty : FieldType} {v : Value} (h : am_fit ty v = true) : narrow ty v = v ∧ fits ty v = true := by
  unfold am_fit at h
  rw [Bool.and_eq_true] at h
  exact ⟨of_decide_eq_true h.2, h.1⟩
theorem sn_fit {D : sn_D} (hp : sn_pre D) {ty : FieldType} {v : Value} (h : am_fit ty v = true) : narrow ty (sn_v D v) = sn_v D v ∧ fits ty (sn_v D v) = true := by
  obtain ⟨h1, h2⟩ := am_fit_some h
  cases v with
  | ref a =>
    rcases sn_rv hp a with q | ⟨q, r⟩
    · rw [q]
      cases ty <;> simp_all [fits, narrow]
    · rw [r]
      cases ty <;> simp_all [fits, narrow]
  | _ => exact ⟨h1, h2⟩
theorem sn_cls_lt {c : Nat} {r : vw_C} (h : am_cls[c]? = some r) : c < 20 := (List.getElem?_eq_some_iff.mp h).1
theorem sn_nf {c : Nat} {r : vw_C} (h : am_cls[c]? = some r) : am_nf c = r.2.2 := by
  unfold am_nf
  rw [List.getD_eq_getElem?_getD, h]
  rfl
section SN5
variable {p : Program} {l : Launch} {e : Env} {R : Room} {s : State} {m : MethodId} {args : Array Value} {below : List Frame} {meth : Method} {c : Code} {Q : State → Prop}
variable {D : sn_D} {tg0 : Nat → Nat} {h0 : am_H} {x : am_R} {nL mid pc pc' : Nat} {ls ls' : am_L} {st st' : List Value} {h h' : am_H}
/-- an object's cell, its class's own facts -/
theorem sn_obj {tg : Nat → Nat} {H : Heap} {a c0 : Nat} {r : vw_C} (hE : sn_E D s) (hR : sn_R D tg s h H) (ho : sn_ok tg h.1 (.ref a)) (hc : am_cls[c0]? = some r) (hk : am_k a = c0) : ∃ (q : Nat) (cell : Cell), sn_v D (.ref a) = .ref q ∧ H[q]? = some cell ∧ cell.vm.isStatics = false ∧ cell.vm ≠ .unknown ∧ (am_P ≤ am_i a → cell.vm = .none) ∧ cell.cls = D.1 c0 ∧ (∀ k, k < r.2.2 → cell.slots[D.2.1 c0 k]? = some (sn_v D (am_g h a k)) ∧ sn_ok tg h.1 (am_g h a k)) ∧ u_Kn s r.1 r.2.1 r.2.2 (D.1 c0) (D.2.1 c0) := by
  have hlt := sn_cls_lt hc
  subst hk
  rcases sn_lt hR ho with g | ⟨q, cell, g1, g2, g3, g4, g5, g6, g7⟩
  · omega
  · rcases g7 with ⟨k1, k2, k3⟩ | ⟨k1, -⟩
    · rw [sn_nf hc] at k3
      exact ⟨q, cell, g1, g3, g4, g5, g6, k2, k3, hE.2.1 _ _ hc⟩
    · omega
theorem sn_getf (hx : p.tables.exec = Jvm.exec) (hb : c.code = am_code mid) (hE : sn_E D s) (hts : ∀ w ∈ lw_all, w.before args s = true) (hown : s.vm.findClass (am_nm (am_own mid)) = some m.cls) {i : Nat} (hd : decode (am_code mid) pc = .ok (.getfield i, 3))
    {a c0 k0 : Nat} {r : List Value} (hf : am_fl (am_own mid) i = some (c0, k0)) (hk : am_k a = c0) (K : sn_W D s m (fun H locs k n g => W p l e R s m args below meth c H locs k n Q g) tg0 h0 x nL (pc + 3) ls (am_g h a k0 :: r) h) : sn_W D s m (fun H locs k n g => W p l e R s m args below meth c H locs k n Q g) tg0 h0 x nL pc ls (.ref a :: r) h := by
  obtain ⟨cl, hcl, hlt, hlink⟩ := ct_fl hf
  refine ⟨K.1, fun tg Ls H locs a1 a2 a3 a4 a5 a6 a7 a8 => ?_⟩
  obtain ⟨o1, o2⟩ := sn_okv_cons.mp a4
  obtain ⟨q, cell, e1, e2, e3, e4, e5, e6, e7, hKn⟩ := sn_obj hE a1 o1 hcl hk
  have K2 := K.2 tg Ls H locs a1 a2 a3 (sn_okv_cons.mpr ⟨(e7 _ hlt).2, o2⟩) a5 a6 a7 a8
  obtain ⟨hS, hfc, kC, hkC, hkind⟩ := hKn
  obtain ⟨cf, kf, fi, f, hi, hsl⟩ := hS k0 hlt
  have hst := (u_facts hfc hkC (u_lays hts (ct_cls _ _ hcl).1 hlt) hi).1
  rw [List.map_cons, e1]
  rw [List.map_cons] at K2
  rcases hlink with hl | ⟨host, hl⟩
  · exact W.getf hx hb hown (hts _ hl) hi hst e2 e4 (by rw [hsl]; exact (e7 _ hlt).1) rfl rfl hd K2
  · exact va_Wgetf hx hb hown (va_Nw.use rfl (hE.2.2.1 _ _ _ _ _ _ hl)) hi hst e2 e4 (by rw [hsl]; exact (e7 _ hlt).1) rfl rfl hd K2
theorem sn_slot {cell : Cell} {i j : Nat} {v : Value} (hi : i < cell.slots.size) : (cell.setSlot i v).slots[j]? = if j = i then some v else cell.slots[j]? := by
  unfold Cell.setSlot
  by_cases hj : j = i
  · subst hj
    simp [hi]
  · simp [Array.getElem?_setIfInBounds, hj, Ne.symm hj]
theorem sn_putf (hx : p.tables.exec = Jvm.exec) (hb : c.code = am_code mid) (hE : sn_E D s) (hts : ∀ w ∈ lw_all, w.before args s = true) (hown : s.vm.findClass (am_nm (am_own mid)) = some m.cls) (hin : am_isI mid = true → meth.name = "<init>") {i : Nat} (hd : decode (am_code mid) pc = .ok (.putfield i, 3))
    {a c0 k0 : Nat} {v : Value} {r : List Value} (hf : am_fl (am_own mid) i = some (c0, k0)) (hk : am_k a = c0) (hv : am_fit (am_ty c0 k0) v = true) (hP : am_P ≤ am_i a) (hfin : am_fin c0 k0 = true → am_isI mid = true ∧ am_dcl c0 k0 = am_own mid) (K : sn_W D s m (fun H locs k n g => W p l e R s m args below meth c H locs k n Q g) tg0 h0 x nL (pc + 3) ls r (am_p h a k0 v)) : sn_W D s m (fun H locs k n g => W p l e R s m args below meth c H locs k n Q g) tg0 h0 x nL pc ls (v :: .ref a :: r) h := by
  obtain ⟨cl, hcl, hlt, hlink⟩ := ct_fl hf
  refine ⟨K.1, fun tg Ls H locs a1 a2 a3 a4 a5 a6 a7 a8 => ?_⟩
  obtain ⟨ov, o2⟩ := sn_okv_cons.mp a4
  obtain ⟨o1, o3⟩ := sn_okv_cons.mp o2
  obtain ⟨q, cell, e1, e2, e3, e4, e5, e6, e7, hKn⟩ := sn_obj hE a1 o1 hcl hk
  obtain ⟨hS, hfc, kC, hkC, hkind⟩ := hKn
  obtain ⟨cf, kf, fi, f, hi, hsl⟩ := hS k0 hlt
  obtain ⟨hin1, hty, hnm⟩ := ct_cls _ _ hcl
  have hlays := u_lays hts hin1 hlt
  have hst := (u_facts hfc hkC hlays hi).1
  obtain ⟨n1, n2⟩ := sn_fit hE.1 hv
  have hfit := u_fits hfc hkC hkind hlays hi (hty _ hlt) n1 n2
  have hap : ∀ y, y < cl.2.2 → y ≠ k0 → D.2.1 c0 y ≠ D.2.1 c0 k0 := by
    intro y hy hne
    obtain ⟨_, _, _, fa, hia, ea⟩ := hS y hy
    rw [← ea, ← hsl]
    refine u_apart (u_lays hts hin1 hy) hlays hia hi ?_
    rw [(State.fieldFound?_type hia (hty y hy)).1, (State.fieldFound?_type hi (hty k0 hlt)).1]
    exact hnm y hy k0 hlt hne
  have hsz : f.slot < cell.slots.size := by rw [hsl]; exact k2_hasslot (e7 _ hlt).1
  have hsz2 : D.2.1 c0 k0 < cell.slots.size := k2_hasslot (e7 _ hlt).1
  have hnone := e5 hP
  have ea : sn_b D + (am_i a - am_P) = q := Value.ref.inj ((sn_new hP).symm.trans e1)
  rw [List.map_cons, List.map_cons, e1]
  have fin : ∀ H' : Heap, H'[q]? = some (cell.setSlot f.slot (sn_v D v)) → H'.size = H.size → (∀ q' : Nat, q' ≠ q → H'[q']? = H[q']?) → W p l e R s m args below meth c H' (locs ++ [⟨q, f.slot⟩]) (h.1 - h0.1) (h.2.1 - h0.2.1) Q (F0 m (pc + 3) Ls (r.map (sn_v D))) := by
    intro H' z1 z2 z3
    refine K.2 tg Ls H' (locs ++ [⟨q, f.slot⟩]) (sn_R_upd a1 o1 hP e1 z2 z3 ?_) a2 a3 o3 ?_ a6 a7 a8
    · refine Or.inr ⟨q, _, e1, (fun w => by omega), z1, e3, e4, (fun _ => hnone), Or.inl ⟨by rw [hk]; exact sn_cls_lt hcl, by rw [hk]; exact e6, fun y hy => ?_⟩⟩
      rw [hk] at hy ⊢
      rw [sn_nf hcl] at hy
      rw [hsl, sn_slot hsz2]
      by_cases hyk : y = k0
      · subst hyk
        rw [if_pos rfl, am_g_p_s]
        exact ⟨rfl, ov⟩
      · rw [if_neg (hap y hy hyk), am_g_p_n hyk]
        exact e7 y hy
    · intro l1 hl1
      rcases List.mem_append.mp hl1 with w | w
      · exact a5 l1 w
      · rw [List.mem_singleton.mp w]
        show sn_b D ≤ q
        omega
  have hfn : am_fin c0 k0 = (cl.2.1 k0).2.2.2 := by
    unfold am_fin
    rw [List.getD_eq_getElem?_getD, hcl]
    rfl
  have hlay := hts _ (hin1 _ (u_in_lay hlt))
  unfold u_lay at hlay
  by_cases hfl : am_fin c0 k0 = true
  · obtain ⟨i1, i2⟩ := hfin hfl
    rw [if_pos (by rw [← hfn]; exact hfl)] at hlay
    have hcf : m.cls = cf := by
      obtain ⟨_, _, c', _, _, _, -, -, hf', -, -, -, hown2, -⟩ := Cond.laysFinal_spec hlay
      have e1 : c' = cf := by have := hi.symm.trans hf'; simp at this; exact this.1.symm
      rw [ct_dcl _ _ hcl _ hlt, i2] at hown2
      rw [← e1]; exact Option.some.inj (hown.symm.trans hown2)
    rcases hlink with hl | ⟨host, hl⟩
    · exact W.putFinK hx hb hown (hts _ hl) hi hst hcf (hin i1) (by rw [e6]; exact hfit) e2 hnone hsz rfl rfl hd fin
    · have ha : q < H.size := (Array.getElem?_eq_some_iff.mp e2).1
      refine va_Wputf hx hb hown (va_Nw.use rfl (hE.2.2.1 _ _ _ _ _ _ hl)) hi hst (Or.inr ⟨hcf, hin i1⟩) e2 e4 hsz hfit.1 (by rw [hnone, e6]; exact hfit.2) rfl rfl hd (fin _ ?_ ?_ ?_)
      · simp [Array.getElem?_setIfInBounds, ha]
      · simp
      · intro q' hq'
        simp [Array.getElem?_setIfInBounds, Ne.symm hq']
  · rw [if_neg (by rw [← hfn]; exact hfl)] at hlay
    have h6 := u_store hfc hkC hkind hlay hi (hty _ hlt) n1 n2
    rcases hlink with hl | ⟨host, hl⟩
    · exact W.putK hx hb (f := f) ⟨hown, hts _ hl, ⟨_, _, _, hi⟩, hst⟩ (by rw [e6]; exact h6) e2 hnone hsz rfl rfl hd fin
    · exact va_WputK hx hb hown (va_Nw.use rfl (hE.2.2.1 _ _ _ _ _ _ hl)) hi hst (by rw [e6]; exact h6) e2 hnone hsz rfl rfl hd fin
end SN5
