/-! THE JOIN: a run of the pure machine is the method's contract -/
theorem en_len (ρ : Nat → Nat) (As : List Value) : (lg_sl (As.map (cv ρ))).length = (enL As).length := by
  induction As with
  | nil => rfl
  | cons a As ih =>
    rw [enL, List.map_cons]
    unfold lg_sl at ih ⊢
    rw [List.flatMap_cons, List.length_append, ih, cv_cat]
    by_cases hc : a.category = 2
    · rw [if_pos hc, if_pos hc]
      simp only [List.length_cons, List.length_nil]
      omega
    · rw [if_neg hc, if_neg hc]
      simp only [List.length_cons, List.length_nil]
      omega
theorem en_get (ρ : Nat → Nat) (As : List Value) : ∀ (k i : Nat) (v : Value), (enL As)[i]? = some (some v) → v ∈ As ∧ (k + i, cv ρ v) ∈ lv_args k (As.map (cv ρ)) := by
  induction As with
  | nil => intro k i v h; simp [enL] at h
  | cons a As ih =>
    intro k i v h
    rw [enL] at h
    rw [List.map_cons, lv_args, cv_cat]
    by_cases hc : a.category = 2
    · rw [if_pos hc] at h ⊢
      match i, h with
      | 0, h =>
        have h : a = v := by simpa using h
        rw [h]
        exact ⟨List.mem_cons_self, List.mem_cons_self⟩
      | 1, h => simp at h
      | i + 2, h =>
        have h : (enL As)[i]? = some (some v) := by simpa using h
        obtain ⟨h1, h2⟩ := ih (k + 2) i v h
        exact ⟨List.mem_cons_of_mem _ h1, List.mem_cons_of_mem _ (by rw [show k + (i + 2) = k + 2 + i by omega]; exact h2)⟩
    · rw [if_neg hc] at h ⊢
      match i, h with
      | 0, h =>
        have h : a = v := by simpa using h
        rw [h]
        exact ⟨List.mem_cons_self, List.mem_cons_self⟩
      | i + 1, h =>
        have h : (enL As)[i]? = some (some v) := by simpa using h
        obtain ⟨h1, h2⟩ := ih (k + 1) i v h
        exact ⟨List.mem_cons_of_mem _ h1, List.mem_cons_of_mem _ (by rw [show k + (i + 1) = k + 1 + i by omega]; exact h2)⟩
theorem enT_len {As : List Value} {n : Nat} (h : (enL As).length ≤ n) : (enT As n).length = n := by
  unfold enT
  rw [List.length_append, List.length_replicate]
  omega
theorem enT_get {As : List Value} {n i : Nat} {v : Value} (h : (enT As n)[i]? = some (some v)) : (enL As)[i]? = some (some v) := by
  unfold enT at h
  by_cases hi : i < (enL As).length
  · rw [List.getElem?_append_left hi] at h
    exact h
  · rw [List.getElem?_append_right (by omega), List.getElem?_replicate] at h
    split at h <;> simp at h
theorem vx_ofF {l : Launch} {y : MethodName} {ws ws' : List Cond} {rm : Room} {Pc : Array Value → State → Prop} {Qc : Array Value → State → Outcome → State → Prop} {XC : String → Addr → State → State → Prop} {mc ms : Nat} {free : Addr → Prop} {cc : ByteArray} {maxL : Nat} {ret : Option FieldType}
    (hy : plainFor y = true) (hw : ws = Cond.code y cc maxL ret :: ws')
    (body : ∀ p e s m args below meth c s₁, BodyLoose p l y (headSpec ws rm) cc maxL ret e s m args below meth c s₁ → c.maxLocals = maxL → (∀ x ∈ c.exceptionTable.toList, False) → Pc args s →
      W p l e (headSpec ws rm).room s m args below meth c s.heap [] 0 0 (vx_MQ below Qc XC args s mc ms free) (entryFrame m args maxL)) : vx_Met l y ws rm Pc Qc XC mc ms free := by
  refine MetFree.of_bodySF (code := cc) (maxLocals := maxL) (ret := ret) hy ?_ ?_
  · intro args s m h hn
    obtain ⟨meth, c, h1, h2, h3, h4, h5, h6, -, -⟩ := Cond.code_spec hn (atoms_spec (ws := ws) h _ (by rw [hw]; exact List.mem_cons_self))
    exact ⟨meth, c, h1, h2, h3, h4, h5, h6⟩
  · intro p e s m args below meth c s₁ B hml hP _
    have hh0 : s₁.heap = s.heap := by rw [B.state]; rfl
    have ht : ∀ x ∈ c.exceptionTable.toList, False := by
      obtain ⟨meth9, c9, h1, h2, -, -, -, -, h7, -⟩ := Cond.code_spec B.named (atoms_spec (ws := ws) B.pre _ (by rw [hw]; exact List.mem_cons_self))
      cases Option.some.inj (h1.symm.trans B.method)
      cases Option.some.inj (h2.symm.trans (Stand.of_body B).code)
      intro x hx
      rw [Array.isEmpty_iff.mp h7] at hx
      cases hx
    obtain ⟨t, a1, o, b1, b2, b3⟩ := body p e s m args below meth c s₁ B hml ht hP s₁ hh0 (Stand.of_body B)
    exact ⟨t, o, a1, b1, b2, b3⟩
/-- a method's number fits its name -/
def MO (mid : Nat) : Prop := plainFor (yN mid) = true ∧ onm (pM.1 mid % 100) = (yN mid).cls ∧ (100 ≤ pM.1 mid → (yN mid).name = "<init>") ∧ pM.1 mid < 200
theorem join1 {l : Launch} {D : va_G} {dA : Nat → ClassId} {d mid n : Nat} {As : List Value} {m : PM} {r : PRes} (hO : MO mid) (hap : ApD D) (HC : HCn l D dA d) (hf : (enL As).length ≤ pM.2.2.1 mid) (hH : ∀ pc, pM.2.2.2.2.2.1 mid pc = none) (hWf : Wf m) (hlive : ∀ v ∈ As, lvV m v) (h : ex pT pM n d (pM.1 mid) (pM.2.1 mid) (pM.2.2.2.1 mid) (pM.2.2.2.2.2.1 mid) 0 (enT As (pM.2.2.1 mid)) [] m = some r) : Cn l D dA d mid As m r := by
  intro ρ sz
  obtain ⟨hy, hon, hini, ho2⟩ := hO
  refine vx_ofF (ret := pM.2.2.2.1 mid) hy rfl (fun p e s mm args below meth c s₁ B hml hex hP => ?_)
  obtain ⟨hargs, hsz, hKt, hPw, hDw, hPk, hKA, hSt, hZ, hTh⟩ := hP
  have hts : ∀ w ∈ lw_all, w.before args s = true := fun w hw => atoms_spec (ws := ws_ (yN mid) (pM.2.1 mid) (pM.2.2.1 mid) (pM.2.2.2.1 mid)) B.pre w (List.mem_cons_of_mem _ hw)
  have F : Fx p s mm args meth c D dA (va_A (wsW dA ρ m) sz) (wsK dA ρ m) ρ m (pM.2.2.1 mid) (pM.1 mid) (pM.2.1 mid) (pM.2.2.2.1 mid) (pM.2.2.2.2.2.1 mid) := by
    refine ⟨⟨B.exec, B.bytes, hml, ?_, hts⟩, ⟨hKt, hap, fun q hq => Or.inr (by rw [← hsz]; exact hq)⟩, ⟨hPk, ?_, rfl⟩, ⟨hSt, hZ, hTh⟩, ?_, ho2, B.returns, B.notSynchronized, ?_, ?_⟩
    · rw [hon]
      exact findClass_of_methodNamed B.named
    · intro k q hk
      unfold wsK at hk
      rw [List.getElem?_map] at hk
      cases hc : csL[k]? with
      | none => rw [hc] at hk; cases hk
      | some a =>
        rw [hc] at hk
        have hk : some (ρ a, eE dA ρ m a) = some q := hk
        cases hk
        exact hKA a (List.mem_of_getElem? hc)
    · intro h1
      rw [(name_of_methodNamed B.named B.method).1]
      exact hini h1
    · exact fun pc _ x hx => absurd (hex x hx) (fun z => z)
    · intro pc z hz
      rw [hH] at hz
      cases hz
  rw [hargs, lg_entry_eq, en_len]
  have he := lv_entry (As.map (cv ρ)) (n := pM.2.2.1 mid) (by rw [en_len]; exact hf)
  rw [en_len] at he
  have iv : Iv D dA (va_A (wsW dA ρ m) sz) (wsK dA ρ m) s ρ m (pM.2.2.1 mid) ρ m (enT As (pM.2.2.1 mid)) [] s.heap [] ((lg_sl (As.map (cv ρ)) ++ List.replicate (pM.2.2.1 mid - (enL As).length) Slot.unset).toArray) := by
    refine ⟨⟨hPw, ⟨hDw.1, fun k q hk => Or.inl ⟨k, q.2, hk⟩⟩, ⟨Nat.le_refl _, fun _ _ _ => rfl, fun x hx => by cases hx⟩, rfl, hWf⟩, ⟨he.1, he.2.1, fun i v hv => ?_, enT_len hf⟩, fun v hv => (by cases hv), fun i v hv => hlive v (en_get ρ As 0 i v (enT_get hv)).1, Nat.le_refl _, Nat.le_refl _, fun _ _ => rfl⟩
    have h2 := he.2.2 _ (en_get ρ As 0 i v (enT_get hv)).2
    simpa using h2
  have k := body (R := (headSpec (ws_ (yN mid) (pM.2.1 mid) (pM.2.2.1 mid) (pM.2.2.2.1 mid)) (rmD d (xX r m) (xS r m))).room) (l := l) (e := e) (below := below) F (Nat.le_refl _) (Nat.le_refl _) HC n 0 _ _ m r h (Nat.le_refl _) (Nat.le_refl _) ρ s.heap [] _ iv
  rw [Nat.sub_self, Nat.sub_self, hargs] at k
  exact k
def mo1 (mid : Nat) : Bool := !(vM mid) || (plainFor (yN mid) && (onm (pM.1 mid % 100) == (yN mid).cls) && (decide (pM.1 mid < 100) || (yN mid).name == "<init>") && decide (pM.1 mid < 200))
theorem mo_all : (List.range 301).all mo1 = true := by decide +kernel
theorem mo_of {mid : Nat} (h : vM mid = true) : MO mid ∧ ∀ pc, pM.2.2.2.2.2.1 mid pc = none := by
  have h0 : mid < 301 ∧ mid ≠ 5 ∧ mid ≠ 50 ∧ mid ≠ 52 := by
    simp only [vM, Bool.and_eq_true, decide_eq_true_eq, Bool.not_eq_true', Bool.or_eq_false_iff, beq_eq_false_iff_ne, ne_eq] at h
    exact ⟨h.1, h.2.1.1.2, h.2.1.2, h.2.2⟩
  have h1 := List.all_eq_true.mp mo_all mid (List.mem_range.mpr h0.1)
  unfold mo1 at h1
  rw [h] at h1
  simp only [Bool.not_true, Bool.false_or, Bool.and_eq_true, Bool.or_eq_true, decide_eq_true_eq, beq_iff_eq] at h1
  refine ⟨⟨h1.1.1.1, h1.1.1.2, fun z => h1.1.2.resolve_left (by omega), h1.2⟩, fun pc => ?_⟩
  show mH mid pc = none
  unfold mH
  rw [if_neg h0.2.1, if_neg h0.2.2.1, if_neg h0.2.2.2]
/-- the contracts of those few that aren't run -/
def HIn (l : Launch) (D : va_G) (dA : Nat → ClassId) : Prop := ∀ (d mid : Nat) (As : List Value) (m : PM) (r : PRes), 8 ≤ d → mI mid As m = some (some r) → vM mid = true → Wf m → (∀ v ∈ As, lvV m v) → ∃ d', d = d' + 1 ∧ Cn l D dA d' mid As m r
/-- SOUNDNESS -/
theorem sound {l : Launch} {D : va_G} {dA : Nat → ClassId} (hap : ApD D) (HI : HIn l D dA) : ∀ d, HCn l D dA d := by
  intro d
  induction d with
  | zero =>
    intro n mid As m r h hv hWf hlive
    rcases io_e h with ⟨hq, h8⟩ | ⟨-, hb⟩
    · exact HI 0 mid As m r h8 hq hv hWf hlive
    · cases hb
  | succ d ih =>
    intro n mid As m r h hv hWf hlive
    rcases io_e h with ⟨hq, h8⟩ | ⟨hq, hb⟩
    · exact HI _ mid As m r h8 hq hv hWf hlive
    · refine ⟨d, rfl, ?_⟩
      have hfit : (enL As).length ≤ pM.2.2.1 mid := by
        rcases mI_e hq with h9 | ⟨h9, -⟩
        · cases h9
        · have h0 : mid < 301 := by
            simp only [vM, Bool.and_eq_true, decide_eq_true_eq] at hv
            exact hv.1
          exact Nat.le_of_not_lt fun z => h9 ⟨h0, z⟩
      exact join1 (mo_of hv).1 hap ih hfit (mo_of hv).2 hWf hlive hb
