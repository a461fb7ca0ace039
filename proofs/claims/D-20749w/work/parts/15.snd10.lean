/-! SOUNDNESS: calls (first three rows: from the kit's EXCEPTIONS.to-paste) -/
section VXW
variable {p : Program} {l : Launch} {e : Env} {R : Room} {s : State} {m : MethodId} {args : Array Value} {below : List Frame} {meth : Method} {c : Code} {T : State} {H : Heap} {locs : List Loc} {cells slots : Nat}
theorem vx_callVW (X : Stand p l e R s m args below meth c T locs cells slots) (hexec : p.tables.exec = Jvm.exec) {own C : String} {index : Nat} {y : MethodName} {bytes : ByteArray} {maxL : Nat} {ret : Option FieldType} {hh : List (Nat × Nat × Nat × Nat)}
    (hown : s.vm.findClass own = some m.cls) (hlink : (Cond.methodLink own index y).before args s = true) (hinst : (Cond.instanceMethod y).before args s = true) (hsel : (Cond.selects C y y).before args s = true)
    (hcode : (Cond.codeWith y bytes maxL ret hh).before args s = true) (hy : y.cls ≠ "java/lang/invoke/MethodHandle" ∧ y.cls ≠ "java/lang/invoke/VarHandle")
    {W9 : Nat} {Pre : Pt → Array Value → Prop} {Post : Pt → Array Value → Option Value → Pt → Prop} (hK : Back l R p e below s args y 3 W9 Pre Post)
    {b : Addr} {cellB : Cell} (hcell : T.heap[b]? = some cellB) (hobj : cellB.vm.isStatics = false) (hcls : s.vm.findClass C = some cellB.cls)
    {g : JFrame} (hg : g.method = m) (hsize : g.locals.size = c.maxLocals) {argsL rest : List Value} (hlen : ∀ sig, parseMethodDescriptor y.desc = some sig → argsL.length = sig.parameters.length)
    (hstack : g.stack = argsL.reverse ++ .ref b :: rest) (hW : 2 * g.monitorRoom + (rest.map fun v => v.category).sum ≤ W9) (hdg : decode c.code g.pc = .ok (.invokevirtual index, 3))
    (hpre : ∀ vm₁, s.WarmedH vm₁ → Pre ⟨T.setVm vm₁, locs, cells, slots⟩ (Value.ref b :: argsL).toArray) :
    ∃ (v : Option Value) (vm₁ : Vm) (B : Pt), s.WarmedH vm₁ ∧ Stand p l e R s m args below meth c B.U B.locs B.cells B.slots ∧ Post ⟨T.setVm vm₁, locs, cells, slots⟩ (Value.ref b :: argsL).toArray v B ∧
      ∀ target, Steps p.tables e below (B.U.setTop { g with pc := g.pc + 3, stack := v.toList ++ rest }) target → Steps p.tables e below (T.setTop g) target := by
  obtain ⟨mk, methM, hnamed, hmethM, hstM, habM⟩ := Cond.instanceMethod_spec hinst
  obtain ⟨m8, methM', cM, hn8, hmethM', -, -, -, -, -, -, hsigM⟩ := Cond.codeWith_spec hcode
  cases Option.some.inj (hn8.symm.trans hnamed)
  cases hmethM.symm.trans hmethM'
  obtain ⟨c2, r2, m2, q1, q2, q3, q4, kP, hkP, hkPi⟩ := Cond.selects_spec hsel
  cases hcls.symm.trans q1
  cases (State.methodFound?_of_named hnamed hy).symm.trans q2
  cases hnamed.symm.trans q3
  have hselP : selectMethod e.platform s.vm cellB.cls mk = .method mk := by rw [Launch.admits_selectMethod X.admits]; exact q4
  obtain ⟨vm₁, X₁, hstep₁⟩ := X.invokevirtual hexec hown hlink hnamed hmethM hstM hkP hkPi hy (a := b) (cell := cellB) hcell
    (fun z h => by rw [h] at hobj; cases hobj) hselP hmethM habM hkP hkPi (g := g) hg (argsL := argsL) (rest := rest) (hlen _ hsigM) hstack hdg
  obtain ⟨v, B, X', hpost, hsteps⟩ := hK m meth c ⟨T.setVm vm₁, locs, cells, slots⟩ { g with stack := rest } (.invokevirtual index) mk (Value.ref b :: argsL).toArray X₁ hg hsize hdg hW (X₁.named hnamed) (hpre vm₁ X₁.warmed)
  exact ⟨v, vm₁, B, X₁.warmed, X', hpost, fun target h => hstep₁ _ fun acts => by rw [doInvoke_state]; exact hsteps.trans h⟩
abbrev vx_CVW (R : Room) (s : State) (args : Array Value) (own C : String) (index : Nat) (y : MethodName) (bytes : ByteArray) (maxL : Nat) (ret : Option FieldType) (hh : List (Nat × Nat × Nat × Nat)) (ws : List Cond) (rm : Room) (mc ms n : Nat) : Prop :=
  (rm.cells = mc ∧ rm.slots = ms ∧ rm.frames + 1 ≤ R.frames ∧ 8 + (maxL + 11) + rm.locals ≤ R.locals ∧ (∀ w ∈ ws, ∀ (a' : Array Value) (U : State), s.WarmedH U.vm → w.before a' U = true) ∧ Cond.codeWith y bytes maxL ret hh ∈ ws) ∧
  (Cond.codeWith y bytes maxL ret hh).before args s = true ∧ (Cond.initialized y.cls).before args s = true ∧ (y.cls ≠ "java/lang/invoke/MethodHandle" ∧ y.cls ≠ "java/lang/invoke/VarHandle") ∧
  (∀ sig, parseMethodDescriptor y.desc = some sig → n = sig.parameters.length) ∧ (Cond.methodLink own index y).before args s = true ∧ (Cond.instanceMethod y).before args s = true ∧ (Cond.selects C y y).before args s = true
theorem vx_cwVW {own C : String} {index maxL mc ms : Nat} {y : MethodName} {bytes : ByteArray} {ret : Option FieldType} {hh : List (Nat × Nat × Nat × Nat)} {Ts ws ws' : List Cond} {rm : Room} (n : Nat) (ht : ∀ w ∈ Ts, w.before args s = true) (hT : GoodIn Ts (wsV own index C y ws)) (hw : ws = Cond.codeWith y bytes maxL ret hh :: ws') (hrc : rm.cells = mc) (hrs : rm.slots = ms)
    (hd : y.cls = C ∧ y.cls ≠ "java/lang/invoke/MethodHandle" ∧ y.cls ≠ "java/lang/invoke/VarHandle" ∧ (parseMethodDescriptor y.desc).map (fun d => d.parameters.length) = some n) (hR : rm.frames + 1 ≤ R.frames ∧ 8 + (maxL + 11) + rm.locals ≤ R.locals) :
    vx_CVW R s args own C index y bytes maxL ret hh ws rm mc ms n := by
  obtain ⟨hC, hd⟩ := hd
  subst hC
  have ok : ∀ w ∈ wsV own index y.cls y ws, w.before args s = true := fun w h => ht w (hT w h).1
  have hG : GoodIn Ts ws := fun w h => hT w (by unfold wsV; exact List.mem_append_right _ h)
  have hc : Cond.codeWith y bytes maxL ret hh ∈ ws := by rw [hw]; exact List.mem_cons_self
  refine ⟨⟨hrc, hrs, hR.1, hR.2, pay_in ht hG, hc⟩, ht _ (hG _ hc).1, ok _ (by simp [wsV]), ⟨hd.1, hd.2.1⟩, fun sig h => ?_, ok _ (by simp [wsV]), ok _ (by simp [wsV]), ok _ (by simp [wsV])⟩
  have h2 := hd.2.2
  rw [h] at h2
  exact (Option.some.inj h2).symm
theorem vx_runVW {y : MethodName} {bytes cc : ByteArray} {maxL nL mc ms n index : Nat} {ret : Option FieldType} {hh : List (Nat × Nat × Nat × Nat)} {ws : List Cond} {rm : Room} {Pc : Array Value → State → Prop} {Qc : Array Value → State → Outcome → State → Prop} {free : Addr → Prop} {Ts : List Cond} {own C : String} {b : Addr} {As rest : List Value} {g : JFrame}
    (S : CallFix p m c cc nL s args Ts own) (hM : Met l y ws rm Pc Qc mc ms free) (cw : vx_CVW R s args own C index y bytes maxL ret hh ws rm mc ms n) (hp : PreV s H C b Pc As)
    (hg : g.method = m) (hn : As.length = n) (hsize : g.locals.size = nL) (hstack : g.stack = As.reverse ++ .ref b :: rest) (hW : 2 * g.monitorRoom + (rest.map fun v => v.category).sum ≤ 8) (hdg : decode cc g.pc = .ok (.invokevirtual index, 3)) (hf : cells + mc ≤ R.cells ∧ slots + ms ≤ R.slots) :
    va_Run p l e R s m args below meth c H locs cells slots mc ms g rest (Qc (Value.ref b :: As).toArray) free := by
  obtain ⟨⟨hrc, hrs, hfr, hlo, hws, hcw⟩, hcode, hini, hy, hlen, hl, hin, hse⟩ := cw
  have hK : Back l R p e below s args y 3 8 (PreOf R mc ms Pc) (PostOf Qc mc ms free) := va_backW (hh := hh) (bytes := bytes) (maxL := maxL) (ret := ret) hM hp.1 hrc hrs hfr hlo hws hcw (fun a' U hW => word_at hW (Or.inl (by first | rfl | simp [Cond.onTables, Cond.keeps, Cond.steady])) hini)
  obtain ⟨hx, hb, hml, ho, -⟩ := S
  obtain ⟨-, ⟨cellB, hcB, hoB, hclB⟩, hPc⟩ := hp
  intro T hT X
  obtain ⟨v, vm₁, ⟨U', l2, c2, s2⟩, hW₁, X', ⟨g', mk, t, L, e1, e2, hq, h1, hL, h2, h3⟩, st⟩ := vx_callVW X hx (C := C) (hh := hh) (bytes := bytes) (maxL := maxL) (ret := ret) ho hl hin hse hcode hy hK (by rw [hT]; exact hcB) hoB hclB hg (hsize.trans hml.symm) (argsL := As) (rest := rest) (fun sig h => hn.trans (hlen sig h)) hstack hW (by rw [hb]; exact hdg)
    (fun vm₁ hW₁ => ⟨hf.1, hf.2, hPc (T.setVm vm₁) hT hW₁⟩)
  dsimp only [Pt.U, Pt.locs, Pt.cells, Pt.slots] at X' e1 e2 h1 h2 h3 st
  subst h1; subst h2; subst h3
  exact ⟨v, (T.setVm vm₁).calling g' mk (Value.ref b :: As).toArray, t, U', L, hT, X', hL, e1, e2, hq, st⟩
end VXW

def sn_Pc (D : sn_D) (tg : Nat → Nat) (as : List Value) (h : am_H) : Array Value → State → Prop := fun v U => v = (as.map (sn_v D)).toArray ∧ sn_E D U ∧ sn_R D tg U h U.heap ∧ sn_okv tg h.1 as
def sn_Qc (D : sn_D) (tg : Nat → Nat) (h : am_H) (r : am_R) : Array Value → State → Outcome → State → Prop := fun _ _ o t => o = .returned (r.1.map (sn_v D)) ∧ ∃ tg' : Nat → Nat, (∀ i, i < h.1 → tg' i = tg i) ∧ sn_R D tg' t r.2 t.heap ∧ ∀ v, r.1 = some v → sn_ok tg' r.2.1 v
theorem sn_blind (D : sn_D) (tg : Nat → Nat) (as : List Value) (h : am_H) : FrameBlind (sn_Pc D tg as h) := fun a U g mk q => by
  obtain ⟨q0, q1, q2, q3⟩ := q
  exact ⟨q0, sn_E_moved (s := U) (State.WarmedH.refl U) q1, sn_R_moved (u := U) (Vm.Alike.refl _) q2, q3⟩
abbrev sn_room (d mc ms : Nat) : Room := { frames := d, cells := mc, slots := ms, locals := 64 * d }
/-- what the abstract machine's answer says of the machine -/
def sn_C (l : Launch) (D : sn_D) (d f : Nat) (as : List Value) (h : am_H) (r : am_R) : Prop := (h.1 ≤ r.2.1 ∧ h.2.1 ≤ r.2.2.1) ∧ ∀ (tg : Nat → Nat) (cw : Cond), (cw = Cond.code (am_y f) (am_code f) (am_mxl f) (am_rt f) ∨ ∃ hh, cw = Cond.codeWith (am_y f) (am_code f) (am_mxl f) (am_rt f) hh) →
  Met l (am_y f) (cw :: lw_all) (sn_room d (r.2.1 - h.1) (r.2.2.1 - h.2.1)) (sn_Pc D tg as h) (sn_Qc D tg h r) (r.2.1 - h.1) (r.2.2.1 - h.2.1) (fun q => sn_b D ≤ q)
section SN9
variable {p : Program} {l : Launch} {e : Env} {R : Room} {s : State} {m : MethodId} {args : Array Value} {below : List Frame} {meth : Method} {c : Code} {Q : State → Prop}
variable {D : sn_D} {tg0 : Nat → Nat} {h0 : am_H} {x : am_R} {nL mid pc pc' : Nat} {ls ls' : am_L} {st st' : List Value} {h h' : am_H}
/-- behind a call -/
theorem sn_run {k n mc ms len : Nat} {Ls : Array Slot} {st0 rest : List Value} {H : Heap} {locs : List Loc} {a : Array Value} {Qa : Array Value → State → Outcome → State → Prop} {free : Addr → Prop}
    (hr : ∀ T : State, T.heap = H → Stand p l e R s m args below meth c T locs k n → ∃ (v : Option Value) (st₀ t T' : State) (L : List Loc), st₀.heap = H ∧ Stand p l e R s m args below meth c T' (locs ++ L) (k + mc) (n + ms) ∧ (∀ q ∈ L, free q.base) ∧ T'.heap = t.heap ∧ T'.vm = t.vm ∧ Qa a st₀ (.returned v) t ∧ Goes p e below T (F0 m pc Ls st0) T' { (F0 m pc Ls st0) with pc := pc + len, stack := v.toList ++ rest })
    (kk : ∀ (v : Option Value) (t : State) (st₀ : State) (L : List Loc), s.vm.Alike t.vm → Qa a st₀ (.returned v) t → (∀ q ∈ L, free q.base) → W p l e R s m args below meth c t.heap (locs ++ L) (k + mc) (n + ms) Q (F0 m (pc + len) Ls (v.toList ++ rest))) : W p l e R s m args below meth c H locs k n Q (F0 m pc Ls st0) := by
  intro T hT X
  obtain ⟨v, st₀, t, T', L, h0, X', hL, e1, e2, hq, hg⟩ := hr T hT X
  obtain ⟨t2, a1, b1⟩ := kk v t st₀ L (by rw [← e2]; exact X'.warmed.alike) hq hL T' e1 X'
  exact ⟨t2, hg t2 a1, b1⟩
/-- a call by its run: what comes behind it is the picture moved -/
theorem sn_called {d f len : Nat} {as r : List Value} {v : Option Value} {h2 : am_H} (IH : sn_C l D d f as h (v, h2)) (hoks : ∀ w ∈ as, w ∈ st) (hokr : ∀ w ∈ r, w ∈ st)
    (K : sn_W D s m (fun H locs k n g => W p l e R s m args below meth c H locs k n Q g) tg0 h0 x nL (pc + len) ls (v.toList ++ r) h2)
    (run : ∀ {tg : Nat → Nat} {Ls : Array Slot} {H : Heap} {locs : List Loc} {k n : Nat}, sn_R D tg s h H → sn_L D ls Ls nL → sn_okv tg h.1 st → k + (h2.1 - h.1) ≤ x.2.1 - h0.1 → n + (h2.2.1 - h.2.1) ≤ x.2.2.1 - h0.2.1 →
      (∀ U : State, U.heap = H → s.WarmedH U.vm → sn_Pc D tg as h (as.map (sn_v D)).toArray U) →
      (∀ T : State, T.heap = H → Stand p l e R s m args below meth c T locs k n → ∃ (v1 : Option Value) (st₀ t T' : State) (L : List Loc), st₀.heap = H ∧ Stand p l e R s m args below meth c T' (locs ++ L) (k + (h2.1 - h.1)) (n + (h2.2.1 - h.2.1)) ∧ (∀ q ∈ L, sn_b D ≤ q.base) ∧ T'.heap = t.heap ∧ T'.vm = t.vm ∧ sn_Qc D tg h (v, h2) (as.map (sn_v D)).toArray st₀ (.returned v1) t ∧ Goes p e below T (F0 m pc Ls (st.map (sn_v D))) T' { (F0 m pc Ls (st.map (sn_v D))) with pc := pc + len, stack := v1.toList ++ r.map (sn_v D) }))
    (hE : sn_E D s) : sn_W D s m (fun H locs k n g => W p l e R s m args below meth c H locs k n Q g) tg0 h0 x nL pc ls st h := by
  obtain ⟨⟨b1, b2⟩, IH2⟩ := IH
  obtain ⟨⟨k1, k2⟩, K2⟩ := K
  have b1 : h.1 ≤ h2.1 := b1
  have b2 : h.2.1 ≤ h2.2.1 := b2
  refine ⟨⟨Nat.le_trans b1 k1, Nat.le_trans b2 k2⟩, fun tg Ls H locs a1 a2 a3 a4 a5 a6 a7 a8 => ?_⟩
  refine sn_run (run a1 a2 a4 (by omega) (by omega) (fun U hU hW => ⟨rfl, sn_E_moved hW hE, by rw [hU]; exact sn_R_moved hW.alike a1, sn_okv_sub a4 hoks⟩)) (fun v1 t st₀ L hal hq hL => ?_)
  obtain ⟨e1, tg', t1, t2, t3⟩ := hq
  have e2 : v1 = v.map (sn_v D) := Outcome.returned.inj e1
  have K3 := K2 tg' Ls t.heap (locs ++ L) (sn_R_moved (hal.symm) t2) a2 (sn_oks_mono a3 b1 t1) (sn_okv_app (fun w hw => by
      cases v with
      | none => cases hw
      | some z =>
        have : w = z := by simpa using hw
        rw [this]
        exact t3 z rfl) (sn_okv_mono (sn_okv_sub a4 hokr) b1 t1)) (fun q hq => (List.mem_append.mp hq).elim (a5 q) (hL q)) (Nat.le_trans a6 b1) (Nat.le_trans a7 b2) (fun i hi => (t1 i (Nat.lt_of_lt_of_le hi a6)).trans (a8 i hi))
  have c1 : h2.1 - h0.1 = h.1 - h0.1 + (h2.1 - h.1) := by omega
  have c2 : h2.2.1 - h0.2.1 = h.2.1 - h0.2.1 + (h2.2.1 - h.2.1) := by omega
  rw [c1, c2, List.map_append] at K3
  have c3 : v.toList.map (sn_v D) = v1.toList := by
    rw [e2]
    cases v <;> rfl
  rw [c3] at K3
  exact K3
end SN9
