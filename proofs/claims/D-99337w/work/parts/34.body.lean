/-! A METHOD's BODY against the machine -/
theorem kxe {a b a' b' : Nat} (h : kx a b = some (.inr (.inr (a', b')))) : a = a' ∧ b = b' := by cases h; exact ⟨rfl, rfl⟩
theorem vk_e {t x K mid : Nat} {q : Option Nat} (h : vk pM t x K q = some mid) : q = some mid ∧ pM.2.2.2.2.1 x = pM.2.2.2.2.1 mid ∧ 1 ≤ pM.2.2.2.2.1 mid ∧ kOk K = true ∧ ivk t K (pM.1 mid) = true := by
  cases q with
  | none => cases h
  | some y =>
    obtain ⟨h1, h⟩ := its (c := pM.2.2.2.2.1 x = pM.2.2.2.2.1 y ∧ 1 ≤ pM.2.2.2.2.1 y ∧ kOk K = true ∧ ivk t K (pM.1 y) = true) h
    cases h
    exact ⟨rfl, h1⟩
theorem ca_s {o : Nat} {pc : Nat} {L : PLs} {st : List Value} {m : PM} {rt : Option FieldType} {idx len mid : Nat} (h : sx pT pM o rt pc L st m (.invokestatic idx) = some (.inr (.inr (len, mid)))) : len = 3 ∧ pT.2.1 o idx = some mid := by
  obtain ⟨x, hx, h⟩ := mso h
  obtain ⟨rfl, rfl⟩ := kxe h
  exact ⟨rfl, hx⟩
theorem ca_v {o : Nat} {pc : Nat} {L : PLs} {st : List Value} {m : PM} {rt : Option FieldType} {idx len mid : Nat} (h : sx pT pM o rt pc L st m (.invokevirtual idx) = some (.inr (.inr (len, mid)))) : len = 3 ∧ ∃ x a, pT.2.2.1 o idx 0 = some x ∧ rfo st[pM.2.2.2.2.1 x - 1]? = some a ∧ pT.2.2.1 o idx (gK m a) = some mid ∧ pM.2.2.2.2.1 x = pM.2.2.2.2.1 mid ∧ 1 ≤ pM.2.2.2.2.1 mid ∧ kOk (gK m a) = true ∧ ivk 0 (gK m a) (pM.1 mid) = true := by
  obtain ⟨x, hx, h⟩ := mso h
  obtain ⟨a, ha, h⟩ := mso h
  obtain ⟨y, hy, h⟩ := mso h
  obtain ⟨rfl, rfl⟩ := kxe h
  exact ⟨rfl, x, a, hx, ha, vk_e hy⟩
theorem ca_p {o : Nat} {pc : Nat} {L : PLs} {st : List Value} {m : PM} {rt : Option FieldType} {idx len mid : Nat} (h : sx pT pM o rt pc L st m (.invokespecial idx) = some (.inr (.inr (len, mid)))) : len = 3 ∧ ∃ x a, pT.2.2.1 o idx 0 = some x ∧ rfo st[pM.2.2.2.2.1 x - 1]? = some a ∧ pT.2.2.1 o idx (gK m a) = some mid ∧ pM.2.2.2.2.1 x = pM.2.2.2.2.1 mid ∧ 1 ≤ pM.2.2.2.2.1 mid ∧ kOk (gK m a) = true ∧ ivk 1 (gK m a) (pM.1 mid) = true := by
  obtain ⟨x, hx, h⟩ := mso h
  obtain ⟨a, ha, h⟩ := mso h
  obtain ⟨y, hy, h⟩ := mso h
  obtain ⟨rfl, rfl⟩ := kxe h
  exact ⟨rfl, x, a, hx, ha, vk_e hy⟩
theorem ca_f {o : Nat} {pc : Nat} {L : PLs} {st : List Value} {m : PM} {rt : Option FieldType} {idx cn len mid : Nat} (h : sx pT pM o rt pc L st m (.invokeinterface idx cn) = some (.inr (.inr (len, mid)))) : len = 5 ∧ ∃ x a, pT.2.2.1 o idx 0 = some x ∧ rfo st[pM.2.2.2.2.1 x - 1]? = some a ∧ pT.2.2.1 o idx (gK m a) = some mid ∧ pM.2.2.2.2.1 x = pM.2.2.2.2.1 mid ∧ 1 ≤ pM.2.2.2.2.1 mid ∧ kOk (gK m a) = true ∧ ivk 2 (gK m a) (pM.1 mid) = true := by
  obtain ⟨x, hx, h⟩ := mso h
  obtain ⟨a, ha, h⟩ := mso h
  obtain ⟨y, hy, h⟩ := mso h
  obtain ⟨rfl, rfl⟩ := kxe h
  exact ⟨rfl, x, a, hx, ha, vk_e hy⟩
set_option maxHeartbeats 4000000 in
theorem sx_K {o : Nat} {rt : Option FieldType} {pc : Nat} {L : PLs} {st : List Value} {m : PM} {i : Instr} {len mid : Nat} (h : sx pT pM o rt pc L st m i = some (.inr (.inr (len, mid)))) : (∃ idx, i = .invokestatic idx) ∨ (∃ idx, i = .invokevirtual idx) ∨ (∃ idx, i = .invokespecial idx) ∨ ∃ idx cn, i = .invokeinterface idx cn := by
  have nn0 : ∀ {a : Nat} {b : PLs} {c : List Value} {d : PM}, nx a b c d = some (.inr (.inr (len, mid))) → ((∃ idx, i = .invokestatic idx) ∨ (∃ idx, i = .invokevirtual idx) ∨ (∃ idx, i = .invokespecial idx) ∨ ∃ idx cn, i = .invokeinterface idx cn) := by
    intro a b c d h1
    cases h1
  have nr0 : ∀ {a : Nat} {b : Option Value} {d : PM}, rx a b d = some (.inr (.inr (len, mid))) → ((∃ idx, i = .invokestatic idx) ∨ (∃ idx, i = .invokevirtual idx) ∨ (∃ idx, i = .invokespecial idx) ∨ ∃ idx cn, i = .invokeinterface idx cn) := by
    intro a b d h1
    cases h1
  unfold sx at h
  split at h <;> first
    | exact Or.inl ⟨_, rfl⟩
    | exact Or.inr (Or.inl ⟨_, rfl⟩)
    | exact Or.inr (Or.inr (Or.inl ⟨_, rfl⟩))
    | exact Or.inr (Or.inr (Or.inr ⟨_, _, rfl⟩))
    | exact nn0 h
    | (cases h; done)
    | (obtain ⟨_, h⟩ := its h; exact nn0 h)
    | (obtain ⟨_, _, h⟩ := mso h; exact nn0 h)
    | (obtain ⟨_, _, h⟩ := mso h; obtain ⟨_, h⟩ := its h; exact nn0 h)
    | (split at h <;> first
        | exact nn0 h
        | (cases h; done)
        | (obtain ⟨_, h⟩ := its h; exact nn0 h)
        | (obtain ⟨_, h⟩ := its h; exact nr0 h)
        | (obtain ⟨_, h⟩ := itn h; exact nn0 h)
        | (obtain ⟨_, _, h⟩ := mso h; exact nn0 h)
        | (obtain ⟨_, _, h⟩ := mso h; obtain ⟨_, h⟩ := its h; exact nr0 h)
        | (obtain ⟨_, _, h⟩ := mso h; split at h <;> exact nn0 h)
        | (split at h <;> (obtain ⟨_, _, h⟩ := mso h; exact nn0 h))
        | (obtain ⟨_, h⟩ := its h; obtain ⟨_, _, h⟩ := mso h; exact nn0 h)
        | (split at h; (obtain ⟨_, _, h⟩ := mso h; exact nn0 h); (obtain ⟨_, _, h⟩ := mso h; obtain ⟨_, _, h⟩ := mso h; exact nn0 h))
        | (obtain ⟨_, _, h⟩ := mso h; obtain ⟨_, h⟩ := its h; obtain ⟨_, hp, h⟩ := mso h; exact nn0 h)
        | (split at h; exact nn0 h; (obtain ⟨_, h⟩ := its h; exact nn0 h))
        | fail)
/-- the receiver is the first of the arguments -/
theorem rcv_arg {st As rest : List Value} {mid x a : Nat} (hcx : cx pM st mid = some (As, rest)) (hn : pM.2.2.2.2.1 x = pM.2.2.2.2.1 mid) (h1 : 1 ≤ pM.2.2.2.2.1 mid) (ha : rfo st[pM.2.2.2.2.1 x - 1]? = some a) : ∃ As', As = .ref a :: As' := by
  obtain ⟨hst, hlen, -⟩ := cx_e hcx
  have hv : st[pM.2.2.2.2.1 x - 1]? = some (.ref a) := by
    cases h : st[pM.2.2.2.2.1 x - 1]? with
    | none => rw [h] at ha; cases ha
    | some v => rw [h] at ha; cases v <;> cases ha; rfl
  rw [hst, hn] at hv
  cases As with
  | nil => rw [← hlen] at h1; cases h1
  | cons v As' =>
    rw [List.reverse_cons, List.append_assoc, List.getElem?_append_right (by rw [List.length_reverse, ← hlen]; simp)] at hv
    have e : pM.2.2.2.2.1 mid - 1 - As'.reverse.length = 0 := by rw [List.length_reverse, ← hlen]; simp
    rw [e] at hv
    cases hv
    exact ⟨_, rfl⟩
