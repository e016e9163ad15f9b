/-! cells only grow -/
theorem ptF_X {m m' : PM} {ty : FieldType} {a j : Nat} {v : Value} (h : ptF m ty a j v = some m') : gX m ≤ gX m' ∧ gS m ≤ gS m' := by
  obtain ⟨⟨h1, h2, -⟩, -⟩ := ptF_spec h
  omega
set_option maxHeartbeats 4000000 in
theorem sx_X {o : Nat} {rt : Option FieldType} {pc : Nat} {L : PLs} {st : List Value} {m : PM} {i : Instr} {pc' : Nat} {L' : PLs} {st' : List Value} {m' : PM} (h : sx pT pM o rt pc L st m i = some (.inl (pc', L', st', m'))) : gX m ≤ gX m' ∧ gS m ≤ gS m' := by
  have e0 : ∀ {a : Nat} {b : PLs} {c : List Value} {d : PM}, nx a b c d = some (.inl (pc', L', st', m')) → gX m ≤ gX d ∧ gS m ≤ gS d → gX m ≤ gX m' ∧ gS m ≤ gS m' := by
    intro a b c d h1 h2
    obtain ⟨-, -, -, rfl⟩ := nxe h1
    exact h2
  have rf : gX m ≤ gX m ∧ gS m ≤ gS m := ⟨Nat.le_refl _, Nat.le_refl _⟩
  unfold sx at h
  split at h <;> first
    | exact e0 h rf
    | (cases h; done)
    | (obtain ⟨_, h⟩ := its h; exact e0 h rf)
    | (obtain ⟨_, _, h⟩ := mso h; exact e0 h rf)
    | (obtain ⟨_, _, h⟩ := mso h; obtain ⟨_, h⟩ := its h; exact e0 h rf)
    | (obtain ⟨_, _, h⟩ := mso h; obtain ⟨_, h⟩ := its h; exact e0 h ⟨by rw [gX_nw]; omega, by rw [gS_nw]; omega⟩)
    | (obtain ⟨_, _, h⟩ := mso h; cases h; done)
    | (obtain ⟨_, _, h⟩ := mso h; obtain ⟨_, _, h⟩ := mso h; obtain ⟨_, _, h⟩ := mso h; cases h; done)
    | (split at h <;> first
        | exact e0 h rf
        | (cases h; done)
        | (obtain ⟨_, h⟩ := its h; exact e0 h rf)
        | (obtain ⟨_, h⟩ := itn h; exact e0 h rf)
        | (obtain ⟨_, h⟩ := its h; cases h; done)
        | (obtain ⟨_, _, h⟩ := mso h; exact e0 h rf)
        | (obtain ⟨_, _, h⟩ := mso h; obtain ⟨_, h⟩ := its h; cases h; done)
        | (obtain ⟨_, _, h⟩ := mso h; split at h <;> exact e0 h rf)
        | (split at h <;> (obtain ⟨_, _, h⟩ := mso h; exact e0 h rf))
        | (obtain ⟨_, h⟩ := its h; obtain ⟨_, _, h⟩ := mso h; exact e0 h rf)
        | (split at h; (obtain ⟨_, _, h⟩ := mso h; exact e0 h rf); (obtain ⟨_, _, h⟩ := mso h; obtain ⟨_, _, h⟩ := mso h; exact e0 h rf))
        | (obtain ⟨_, _, h⟩ := mso h; obtain ⟨_, h⟩ := its h; obtain ⟨_, hp, h⟩ := mso h; exact e0 h (ptF_X hp))
        | (split at h; exact e0 h rf; (obtain ⟨_, h⟩ := its h; exact e0 h rf))
        | (obtain ⟨_, h⟩ := its h; exact e0 h ⟨Nat.le_refl _, Nat.le_refl _⟩)
        | (obtain ⟨_, h⟩ := its h; obtain ⟨_, _, h⟩ := mso h; exact e0 h ⟨by rw [gX_nw]; omega, by rw [gS_nw]; omega⟩))
