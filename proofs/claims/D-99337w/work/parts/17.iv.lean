/-! WHAT HOLDS AT EVERY INSTRUCTION of a frame, and the rows that touch no memory -/
def Iv (D : va_G) (dA : Nat → ClassId) (A : Nat → Prop) (WK : va_W) (s : State) (ρ0 : Nat → Nat) (m0 : PM) (nL : Nat) (ρ : Nat → Nat) (m : PM) (L : PLs) (st : List Value) (H : Heap) (locs : List Loc) (ls : Array Slot) : Prop :=
  (va_P D clL (wsW dA ρ m) H ∧ va_D A (wsW dA ρ m) ∧ va_S A s.heap H locs ∧ wsK dA ρ m = WK ∧ Wf m) ∧
  (ls.size = nL ∧ lv_wf ls ∧ (∀ (i : Nat) (v : Value), L[i]? = some (some v) → ls[i]? = some (.val (cv ρ v))) ∧ L.length = nL) ∧
  (∀ v ∈ st, lvV m v) ∧ (∀ (i : Nat) (v : Value), L[i]? = some (some v) → lvV m v) ∧
  (gX m0 ≤ gX m ∧ gS m0 ≤ gS m ∧ ∀ a, lvI m0 a → ρ a = ρ0 a)
theorem iv_st {D : va_G} {dA : Nat → ClassId} {A : Nat → Prop} {WK : va_W} {s : State} {ρ0 : Nat → Nat} {m0 : PM} {nL : Nat} {ρ : Nat → Nat} {m : PM} {L : PLs} {st st' : List Value} {H : Heap} {locs : List Loc} {ls : Array Slot} (h : Iv D dA A WK s ρ0 m0 nL ρ m L st H locs ls) (h' : ∀ v ∈ st', lvV m v) : Iv D dA A WK s ρ0 m0 nL ρ m L st' H locs ls := ⟨h.1, h.2.1, h', h.2.2.2.1, h.2.2.2.2⟩
theorem nn {α : Type} {x : α} {C : Prop} (h : (none : Option α) = some x) : C := by cases h
theorem nxe {a a' : Nat} {b b' : PLs} {c c' : List Value} {d d' : PM} (h : nx a b c d = some (.inl (a', b', c', d'))) : a = a' ∧ b = b' ∧ c = c' ∧ d = d' := by
  cases h; exact ⟨rfl, rfl, rfl, rfl⟩
theorem its {α : Type} {c : Prop} [Decidable c] {x : Option α} {y : α} (h : (if c then x else none) = some y) : c ∧ x = some y := by
  by_cases q : c
  · rw [if_pos q] at h; exact ⟨q, h⟩
  · rw [if_neg q] at h; cases h
theorem itn {α : Type} {c : Prop} [Decidable c] {x : Option α} {y : α} (h : (if c then none else x) = some y) : ¬ c ∧ x = some y := by
  by_cases q : c
  · rw [if_pos q] at h; cases h
  · rw [if_neg q] at h; exact ⟨q, h⟩
theorem tgt_e {pc : Nat} {off : Int} {t : Nat} (h : tgt pc off = some t) : (pc : Int) + off = (t : Int) := by
  unfold tgt at h
  obtain ⟨q, h⟩ := its h
  cases h
  omega
theorem lod_e {t : Nat} {L : PLs} {i : Nat} {v : Value} (h : lodV t L i = some v) : L[i]? = some (some v) ∧ tgV v = t := by
  unfold lodV at h
  split at h
  · rename_i w hw
    obtain ⟨q, h⟩ := its h
    cases h
    exact ⟨hw, q⟩
  · cases h
def lvl (ρ : Nat → Nat) (L : PLs) : List (Nat × Value) := (List.range L.length).filterMap (fun i => match L[i]? with
  | some (some v) => some (i, cv ρ v)
  | _ => none)
theorem lvl_mem {ρ : Nat → Nat} {L : PLs} {q : Nat × Value} : q ∈ lvl ρ L ↔ ∃ v, L[q.1]? = some (some v) ∧ q.2 = cv ρ v := by
  unfold lvl
  rw [List.mem_filterMap]
  constructor
  · rintro ⟨i, hi, h⟩
    split at h
    · rename_i v hv
      cases h
      exact ⟨v, hv, rfl⟩
    · cases h
  · rintro ⟨v, h1, h2⟩
    refine ⟨q.1, List.mem_range.mpr (List.getElem?_eq_some_iff.mp h1).1, ?_⟩
    rw [h1]
    simp only
    rw [← h2]
theorem lv_of {ρ : Nat → Nat} {L : PLs} {ls : Array Slot} {nL : Nat} (h1 : ls.size = nL) (h2 : lv_wf ls) (h3 : ∀ (i : Nat) (v : Value), L[i]? = some (some v) → ls[i]? = some (.val (cv ρ v))) : lv_has ls nL (lvl ρ L) := by
  refine ⟨h1, h2, fun q hq => ?_⟩
  obtain ⟨v, e1, e2⟩ := lvl_mem.mp hq
  rw [h3 q.1 v e1, e2]
theorem okL_cat {L : PLs} {j : Nat} (h : okL L (j + 1) = true) {v : Value} (hv : L[j]? = some (some v)) : ¬ v.category = 2 := by
  have e : L.getD j none = some v := by rw [List.getD_eq_getElem?_getD, hv]; rfl
  have h : nl (L.getD j none) = true := h
  rw [e] at h
  cases v <;> first | (cases h; done) | (intro q; cases q)
theorem lv_set1 {ρ : Nat → Nat} {L : PLs} {ls : Array Slot} {nL i : Nat} {v : Value} (ho : okL L i = true) (hi : i < L.length) (h : lv_has ls nL ((i, cv ρ v) :: (lvl ρ L).filter (fun q => !(q.1 == i) && !(q.1 + 1 == i && q.2.category == 2)))) : ∀ (j : Nat) (w : Value), (L.set i (some v))[j]? = some (some w) → ls[j]? = some (.val (cv ρ w)) := by
  intro j w hj
  by_cases e : i = j
  · subst e
    rw [List.getElem?_set_self hi] at hj
    cases hj
    exact h.2.2 (i, cv ρ v) List.mem_cons_self
  · rw [List.getElem?_set_ne e] at hj
    refine h.2.2 (j, cv ρ w) (List.mem_cons_of_mem _ (List.mem_filter.mpr ⟨lvl_mem.mpr ⟨w, hj, rfl⟩, ?_⟩))
    simp only [Bool.and_eq_true, Bool.not_eq_true', beq_eq_false_iff_ne, Bool.and_eq_false_imp, beq_iff_eq, ne_eq]
    refine ⟨fun q => e q.symm, fun q => ?_⟩
    subst q
    rw [cv_cat]
    exact okL_cat ho hj
theorem lv_set2 {ρ : Nat → Nat} {L : PLs} {ls : Array Slot} {nL i : Nat} {v : Value} (ho : okL L i = true) (hi : i + 1 < L.length) (h : lv_has ls nL ((i, cv ρ v) :: (lvl ρ L).filter (fun q => !(q.1 == i) && (!(q.1 == i + 1) && !(q.1 + 1 == i && q.2.category == 2))))) : ∀ (j : Nat) (w : Value), ((L.set i (some v)).set (i + 1) none)[j]? = some (some w) → ls[j]? = some (.val (cv ρ w)) := by
  intro j w hj
  by_cases e1 : i + 1 = j
  · subst e1
    rw [List.getElem?_set_self (by rw [List.length_set]; exact hi)] at hj
    cases hj
  · rw [List.getElem?_set_ne e1] at hj
    by_cases e : i = j
    · subst e
      rw [List.getElem?_set_self (by omega)] at hj
      cases hj
      exact h.2.2 (i, cv ρ v) List.mem_cons_self
    · rw [List.getElem?_set_ne e] at hj
      refine h.2.2 (j, cv ρ w) (List.mem_cons_of_mem _ (List.mem_filter.mpr ⟨lvl_mem.mpr ⟨w, hj, rfl⟩, ?_⟩))
      simp only [Bool.and_eq_true, Bool.not_eq_true', beq_eq_false_iff_ne, Bool.and_eq_false_imp, beq_iff_eq, ne_eq]
      refine ⟨fun q => e q.symm, fun q => e1 q.symm, fun q => ?_⟩
      subst q
      rw [cv_cat]
      exact okL_cat ho hj
theorem set_live {m : PM} {L : PLs} {i : Nat} {v : Value} (hv : lvV m v) (h : ∀ (j : Nat) (w : Value), L[j]? = some (some w) → lvV m w) : ∀ (j : Nat) (w : Value), (L.set i (some v))[j]? = some (some w) → lvV m w := by
  intro j w hj
  by_cases e : i = j
  · subst e
    rw [List.getElem?_set] at hj
    simp only [if_true] at hj
    split at hj
    · cases hj; exact hv
    · cases hj
  · rw [List.getElem?_set_ne e] at hj
    exact h j w hj
theorem set_none {m : PM} {L : PLs} {i : Nat} (h : ∀ (j : Nat) (w : Value), L[j]? = some (some w) → lvV m w) : ∀ (j : Nat) (w : Value), (L.set i none)[j]? = some (some w) → lvV m w := by
  intro j w hj
  by_cases e : i = j
  · subst e
    rw [List.getElem?_set] at hj
    simp only [if_true] at hj
    split at hj
    · cases hj
    · cases hj
  · rw [List.getElem?_set_ne e] at hj
    exact h j w hj
theorem bip8 {n : Int} (h : -128 ≤ n ∧ n < 128) : (Int8.ofInt n).toInt32 = Int32.ofInt n := by
  apply Int32.toInt_inj.mp
  rw [Int8.toInt_toInt32, Int8.toInt_ofInt, Int32.toInt_ofInt]
  simp only [Int.bmod_def, Int8.size, Int32.size]
  omega
theorem bip16 {n : Int} (h : -32768 ≤ n ∧ n < 32768) : (Int16.ofInt n).toInt32 = Int32.ofInt n := by
  apply Int32.toInt_inj.mp
  rw [Int16.toInt_toInt32, Int16.toInt_ofInt, Int32.toInt_ofInt]
  simp only [Int.bmod_def, Int16.size, Int32.size]
  omega
theorem ln_of {i : Instr} {len n : Nat} (hl : iln i = 0 ∨ iln i = len) (h : iln i = n + 1) : len = n + 1 := by
  rcases hl with q | q
  · rw [h] at q; cases q
  · rw [← q, h]
theorem lvc {P : Value → Prop} {a : Value} {l : List Value} (h : ∀ v ∈ a :: l, P v) : ∀ v ∈ l, P v := fun v hv => h v (List.mem_cons_of_mem _ hv)
theorem lvh {P : Value → Prop} {a : Value} {l : List Value} (h : ∀ v ∈ a :: l, P v) : P a := h a List.mem_cons_self
theorem lvn {P : Value → Prop} {a : Value} {l : List Value} (ha : P a) (h : ∀ v ∈ l, P v) : ∀ v ∈ a :: l, P v := by
  intro v hv
  rcases List.mem_cons.mp hv with e | e
  · rw [e]; exact ha
  · exact h v e
theorem mso {α : Type} {x : Option α} {f : α → Option PAct} {y : PAct} (h : ob x f = some y) : ∃ v, x = some v ∧ f v = some y := by
  cases x with
  | none => cases h
  | some v => exact ⟨v, rfl, h⟩
theorem tg0 {v : Value} (h : tgV v = 0) : ∃ x, v = .int x := by cases v <;> first | exact ⟨_, rfl⟩ | cases h
theorem tg1 {v : Value} (h : tgV v = 1) : ∃ x, v = .long x := by cases v <;> first | exact ⟨_, rfl⟩ | cases h
theorem tg2 {v : Value} (h : tgV v = 2) : (∃ x, v = .ref x) ∨ v = .null := by cases v <;> first | exact Or.inl ⟨_, rfl⟩ | exact Or.inr rfl | cases h
