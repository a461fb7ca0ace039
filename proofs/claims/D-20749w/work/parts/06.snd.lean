/-! SOUNDNESS of the abstract machine, first half: pictures of heaps, of locals; the plain instructions -/
abbrev sn_D : Type := (Nat → ClassId) × (Nat → Nat → Nat) × (Nat → Value) × Nat × Heap
def sn_b (D : sn_D) : Nat := D.2.2.2.1
def sn_v (D : sn_D) : Value → Value
  | .ref a => if am_i a < am_P then D.2.2.1 (am_i a) else .ref (sn_b D + (am_i a - am_P))
  | .int x => .int x
  | .long x => .long x
  | .float x => .float x
  | .double x => .double x
  | .null => .null
  | .retAddr x => .retAddr x
def sn_ok (tg : Nat → Nat) (n : Nat) (v : Value) : Prop := ∀ b, v = .ref b → am_i b < n ∧ tg (am_i b) = b
def sn_okv (tg : Nat → Nat) (n : Nat) (st : List Value) : Prop := ∀ v ∈ st, sn_ok tg n v
def sn_oks (tg : Nat → Nat) (n : Nat) (ls : am_L) : Prop := ∀ v, some v ∈ ls → sn_ok tg n v
theorem sn_ok_int {tg : Nat → Nat} {n : Nat} {x : Int32} : sn_ok tg n (.int x) := fun b h => by cases h
theorem sn_ok_long {tg : Nat → Nat} {n : Nat} {x : Int64} : sn_ok tg n (.long x) := fun b h => by cases h
theorem sn_ok_null {tg : Nat → Nat} {n : Nat} : sn_ok tg n .null := fun b h => by cases h
theorem sn_ok_ra {tg : Nat → Nat} {n k : Nat} : sn_ok tg n (.retAddr k) := fun b h => by cases h
theorem sn_okv_nil {tg : Nat → Nat} {n : Nat} : sn_okv tg n [] := fun v h => by cases h
theorem sn_okv_cons {tg : Nat → Nat} {n : Nat} {v : Value} {r : List Value} : sn_okv tg n (v :: r) ↔ sn_ok tg n v ∧ sn_okv tg n r := List.forall_mem_cons
theorem sn_okv_app {tg : Nat → Nat} {n : Nat} {a b : List Value} (h1 : sn_okv tg n a) (h2 : sn_okv tg n b) : sn_okv tg n (a ++ b) := fun v h => (List.mem_append.mp h).elim (h1 v) (h2 v)
theorem sn_okv_sub {tg : Nat → Nat} {n : Nat} {a b : List Value} (h : sn_okv tg n b) (hs : ∀ v ∈ a, v ∈ b) : sn_okv tg n a := fun v hv => h v (hs v hv)
theorem sn_oks_at {tg : Nat → Nat} {n k : Nat} {ls : am_L} {v : Value} (h : sn_oks tg n ls) (e : ls[k]? = some (some v)) : sn_ok tg n v := h v (List.mem_of_getElem? e)
theorem sn_oks_set {tg : Nat → Nat} {n k : Nat} {ls : am_L} {v : Value} (h : sn_oks tg n ls) (hv : sn_ok tg n v) : sn_oks tg n (ls.set k (some v)) := by
  intro w hw
  rcases List.mem_or_eq_of_mem_set hw with q | q
  · exact h w q
  · cases q; exact hv
theorem sn_cat (D : sn_D) (hp : ∀ i, D.2.2.1 i = .null ∨ ∃ q, D.2.2.1 i = .ref q) (v : Value) : (sn_v D v).category = v.category := by
  cases v with
  | ref a =>
    show (if _ then _ else _ : Value).category = 1
    split
    · rcases hp (am_i a) with q | ⟨q, r⟩
      · rw [q]; rfl
      · rw [r]; rfl
    · rfl
  | _ => rfl
/-! locals -/
def sn_at (ls : am_L) (j : Nat) (w : Value) : Prop := ls[j]? = some (some w) ∧ (∀ q, w ≠ .retAddr q) ∧ (w.category = 2 → ∃ q, ls[j + 1]? = some (some (.retAddr q)))
def sn_L (D : sn_D) (ls : am_L) (Ls : Array Slot) (nL : Nat) : Prop := ls.length = nL ∧ Ls.size = nL ∧ lv_wf Ls ∧ ∀ j w, sn_at ls j w → Ls[j]? = some (.val (sn_v D w))
def sn_e (D : sn_D) (ls : am_L) (j : Nat) : Option (Nat × Value) := match ls[j]? with
  | some (some (.retAddr _)) => none
  | some (some (.long z)) => (match ls[j + 1]? with
    | some (some (.retAddr _)) => some (j, .long z)
    | _ => none)
  | some (some (.double z)) => (match ls[j + 1]? with
    | some (some (.retAddr _)) => some (j, .double z)
    | _ => none)
  | some (some w) => some (j, sn_v D w)
  | _ => none
def sn_as (D : sn_D) (ls : am_L) : List (Nat × Value) := (List.range ls.length).filterMap (sn_e D ls)
theorem sn_e_of {D : sn_D} {ls : am_L} {j : Nat} {w : Value} (h : sn_at ls j w) : sn_e D ls j = some (j, sn_v D w) := by
  obtain ⟨h1, h2, h3⟩ := h
  unfold sn_e
  rw [h1]
  cases w with
  | retAddr q => exact absurd rfl (h2 q)
  | long z =>
    obtain ⟨q, hq⟩ := h3 rfl
    dsimp only
    rw [hq]
    rfl
  | double z =>
    obtain ⟨q, hq⟩ := h3 rfl
    dsimp only
    rw [hq]
    rfl
  | _ => rfl
theorem sn_e_to {D : sn_D} {ls : am_L} {j : Nat} {q : Nat × Value} (h : sn_e D ls j = some q) : ∃ w, sn_at ls j w ∧ q = (j, sn_v D w) := by
  unfold sn_e at h
  split at h
  · cases h
  · rename_i z e
    split at h
    · rename_i y e2
      cases h
      exact ⟨.long z, ⟨e, (fun _ h => by cases h), (fun _ => ⟨y, e2⟩)⟩, rfl⟩
    · cases h
  · rename_i z e
    split at h
    · rename_i y e2
      cases h
      exact ⟨.double z, ⟨e, (fun _ h => by cases h), (fun _ => ⟨y, e2⟩)⟩, rfl⟩
    · cases h
  · rename_i w n1 n2 n3 e
    cases h
    exact ⟨w, ⟨e, (fun q h => n1 q h), (fun h => by
      cases w with
      | long z => exact absurd rfl (n2 z)
      | double z => exact absurd rfl (n3 z)
      | _ => cases h)⟩, rfl⟩
  · cases h
theorem sn_L_has {D : sn_D} {ls : am_L} {Ls : Array Slot} {nL : Nat} (h : sn_L D ls Ls nL) : lv_has Ls nL (sn_as D ls) := by
  obtain ⟨h1, h2, h3, h4⟩ := h
  refine ⟨h2, h3, fun q hq => ?_⟩
  obtain ⟨j, -, hj⟩ := List.mem_filterMap.mp hq
  obtain ⟨w, hw, rfl⟩ := sn_e_to hj
  exact h4 j w hw
theorem sn_mem_as {D : sn_D} {ls : am_L} {j : Nat} {w : Value} (h : sn_at ls j w) : (j, sn_v D w) ∈ sn_as D ls :=
  List.mem_filterMap.mpr ⟨j, List.mem_range.mpr (List.getElem?_eq_some_iff.mp h.1).1, sn_e_of h⟩
abbrev sn_pre (D : sn_D) : Prop := ∀ i, D.2.2.1 i = .null ∨ ∃ q, D.2.2.1 i = .ref q
theorem sn_L_set {D : sn_D} (hp : sn_pre D) {ls : am_L} {Ls' : Array Slot} {nL i : Nat} {v : Value} (hl : ls.length = nL) (hv : v.category = 1) (hv2 : ∀ q, v ≠ .retAddr q)
    (h : lv_has Ls' nL ((i, sn_v D v) :: (sn_as D ls).filter (fun q => !(q.1 == i) && !(q.1 + 1 == i && q.2.category == 2)))) : sn_L D (ls.set i (some v)) Ls' nL := by
  obtain ⟨h2, h3, h4⟩ := h
  refine ⟨by simpa using hl, h2, h3, fun j w hw => ?_⟩
  obtain ⟨a1, a2, a3⟩ := hw
  by_cases hj : j = i
  · subst hj
    have : j < ls.length := by
      have := (List.getElem?_eq_some_iff.mp a1).1
      simpa using this
    rw [List.getElem?_set_self this] at a1
    cases a1
    exact h4 _ List.mem_cons_self
  · rw [List.getElem?_set_ne (Ne.symm hj)] at a1
    have key : w.category = 2 → j + 1 ≠ i ∧ ∃ q, ls[j + 1]? = some (some (.retAddr q)) := by
      intro hc
      obtain ⟨q, hq⟩ := a3 hc
      by_cases hji : j + 1 = i
      · exfalso
        subst hji
        have : j + 1 < ls.length := by
          have := (List.getElem?_eq_some_iff.mp hq).1
          simpa using this
        rw [List.getElem?_set_self this] at hq
        cases hq
        exact hv2 q rfl
      · rw [List.getElem?_set_ne (Ne.symm hji)] at hq
        exact ⟨hji, q, hq⟩
    refine h4 (j, sn_v D w) (List.mem_cons_of_mem _ (List.mem_filter.mpr ⟨sn_mem_as ⟨a1, a2, fun hc => (key hc).2⟩, ?_⟩))
    simp only [sn_cat D hp, Bool.and_eq_true, Bool.not_eq_true', beq_eq_false_iff_ne, Bool.and_eq_false_iff]
    refine ⟨hj, ?_⟩
    by_cases hc : w.category = 2
    · exact Or.inl (key hc).1
    · exact Or.inr hc
theorem sn_L_setl {D : sn_D} (hp : sn_pre D) {ls : am_L} {Ls' : Array Slot} {nL i : Nat} {z : Int64} (hl : ls.length = nL)
    (h : lv_has Ls' nL ((i, .long z) :: (sn_as D ls).filter (fun q => !(q.1 == i) && (!(q.1 == i + 1) && !(q.1 + 1 == i && q.2.category == 2))))) : sn_L D ((ls.set i (some (.long z))).set (i + 1) (some (.retAddr 0))) Ls' nL := by
  obtain ⟨h2, h3, h4⟩ := h
  refine ⟨by simpa using hl, h2, h3, fun j w hw => ?_⟩
  obtain ⟨a1, a2, a3⟩ := hw
  by_cases hj1 : j = i + 1
  · subst hj1
    have : i + 1 < (ls.set i (some (.long z))).length := by
      have := (List.getElem?_eq_some_iff.mp a1).1
      simpa using this
    rw [List.getElem?_set_self this] at a1
    cases a1
    exact absurd rfl (a2 0)
  · rw [List.getElem?_set_ne (Ne.symm hj1)] at a1
    by_cases hj : j = i
    · subst hj
      have : j < ls.length := by
        have := (List.getElem?_eq_some_iff.mp a1).1
        simpa using this
      rw [List.getElem?_set_self this] at a1
      cases a1
      exact h4 _ List.mem_cons_self
    · rw [List.getElem?_set_ne (Ne.symm hj)] at a1
      have key : w.category = 2 → j + 1 ≠ i ∧ ∃ q, ls[j + 1]? = some (some (.retAddr q)) := by
        intro hc
        obtain ⟨q, hq⟩ := a3 hc
        rw [List.getElem?_set_ne (show i + 1 ≠ j + 1 from fun q => hj (Nat.succ.inj q).symm)] at hq
        by_cases hji : j + 1 = i
        · exfalso
          subst hji
          have : j + 1 < ls.length := by
            have := (List.getElem?_eq_some_iff.mp hq).1
            simpa using this
          rw [List.getElem?_set_self this] at hq
          cases hq
        · rw [List.getElem?_set_ne (Ne.symm hji)] at hq
          exact ⟨hji, q, hq⟩
      refine h4 (j, sn_v D w) (List.mem_cons_of_mem _ (List.mem_filter.mpr ⟨sn_mem_as ⟨a1, a2, fun hc => (key hc).2⟩, ?_⟩))
      simp only [sn_cat D hp, Bool.and_eq_true, Bool.not_eq_true', beq_eq_false_iff_ne, Bool.and_eq_false_iff]
      refine ⟨hj, hj1, ?_⟩
      by_cases hc : w.category = 2
      · exact Or.inl (key hc).1
      · exact Or.inr hc
/-! the picture of a heap -/
def sn_ty (k : Nat) : FieldType := if k = 40 then .int else if k = 41 then .byte else if k = 42 then .short else if k = 43 then .long else match am_ra k with
  | some c => .object (am_nm c)
  | none => .int
def sn_arr (U : State) (cell : Cell) (k : Nat) : Prop := ∃ kA comp, U.vm.classes[cell.cls]? = some kA ∧ kA.kind = .array comp (sn_ty k) ∧ ∀ C, sn_ty k = .object C → U.vm.findClass C = some comp
def sn_cell (D : sn_D) (U : State) (tg : Nat → Nat) (n : Nat) (f : Nat → Value) (a : Nat) (H : Heap) : Prop :=
  (am_k a = 63) ∨ ∃ (q : Nat) (cell : Cell), sn_v D (.ref a) = .ref q ∧ (am_i a < am_P → q < sn_b D) ∧ H[q]? = some cell ∧ cell.vm.isStatics = false ∧ cell.vm ≠ .unknown ∧ (am_P ≤ am_i a → cell.vm = .none) ∧
    ((am_k a < 20 ∧ cell.cls = D.1 (am_k a) ∧ ∀ k, k < am_nf (am_k a) → cell.slots[D.2.1 (am_k a) k]? = some (sn_v D (f k)) ∧ sn_ok tg n (f k)) ∨
     (40 ≤ am_k a ∧ am_k a < 50 ∧ sn_arr U cell (am_k a) ∧ cell.slots.size = am_n a ∧ ∀ j, j < am_n a → cell.slots[j]? = some (sn_v D (f j)) ∧ sn_ok tg n (f j) ∧ (am_k a = 41 → ∃ z, f j = .int z ∧ fits .byte (.int z) = true)))
def sn_R (D : sn_D) (tg : Nat → Nat) (U : State) (h : am_H) (H : Heap) : Prop :=
  am_P ≤ h.1 ∧ H.size = sn_b D + (h.1 - am_P) ∧ (∀ i, i < h.1 → am_i (tg i) = i ∧ sn_cell D U tg h.1 (am_g h (tg i)) (tg i) H) ∧ (∀ q, q < sn_b D → H[q]? = D.2.2.2.2[q]?) ∧ ∀ i, 0 < i → i < am_P → tg i = am_pre i
/-- at a place of the code: from every heap that the picture shows -/
def sn_W (D : sn_D) (s : State) (mi : MethodId) (w : Heap → List Loc → Nat → Nat → JFrame → Prop) (tg0 : Nat → Nat) (h0 : am_H) (x : am_R) (nL pc : Nat) (ls : am_L) (st : List Value) (h : am_H) : Prop :=
  (h.1 ≤ x.2.1 ∧ h.2.1 ≤ x.2.2.1) ∧ ∀ (tg : Nat → Nat) (Ls : Array Slot) (H : Heap) (locs : List Loc), sn_R D tg s h H → sn_L D ls Ls nL → sn_oks tg h.1 ls → sn_okv tg h.1 st → (∀ q ∈ locs, sn_b D ≤ q.base) → h0.1 ≤ h.1 → h0.2.1 ≤ h.2.1 → (∀ i, i < h0.1 → tg i = tg0 i) →
    w H locs (h.1 - h0.1) (h.2.1 - h0.2.1) (F0 mi pc Ls (st.map (sn_v D)))
/-- a plain instruction: the heap stays -/
theorem sn_p {D : sn_D} {s : State} {mi : MethodId} {w : Heap → List Loc → Nat → Nat → JFrame → Prop} {tg0 : Nat → Nat} {h0 : am_H} {x : am_R} {nL pc pc' : Nat} {ls ls' : am_L} {st st' : List Value} {h : am_H} (K : sn_W D s mi w tg0 h0 x nL pc' ls' st' h)
    (hok : ∀ tg, sn_oks tg h.1 ls → sn_okv tg h.1 st → sn_oks tg h.1 ls' ∧ sn_okv tg h.1 st')
    (row : ∀ (Ls : Array Slot) (H : Heap) (locs : List Loc) (k n : Nat), sn_L D ls Ls nL → (∀ Ls' : Array Slot, sn_L D ls' Ls' nL → w H locs k n (F0 mi pc' Ls' (st'.map (sn_v D)))) → w H locs k n (F0 mi pc Ls (st.map (sn_v D)))) : sn_W D s mi w tg0 h0 x nL pc ls st h :=
  ⟨K.1, fun tg Ls H locs a1 a2 a3 a4 a5 a6 a7 a8 => row Ls H locs _ _ a2 (fun Ls' g => K.2 tg Ls' H locs a1 g (hok tg a3 a4).1 (hok tg a3 a4).2 a5 a6 a7 a8)⟩
