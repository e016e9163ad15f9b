/-! a run taken apart -/
theorem dc_e {dec : Except DecodeError (Instr × Nat)} {k : Instr → Option PRes} {r : PRes} (h : dc dec k = some r) : ∃ i len, dec = .ok (i, len) ∧ (iln i = 0 ∨ iln i = len) ∧ k i = some r := by
  rcases dec with e | ⟨i, len⟩
  · cases h
  · have h : (if iln i = 0 ∨ iln i = len then k i else none) = some r := h
    obtain ⟨q, h⟩ := its h
    exact ⟨i, len, rfl, q, h⟩
theorem ac_e {a : Option PAct} {h0 : Option Nat} {k : Nat → PLs → List Value → PM → Option PRes} {c : Nat → Nat → Option PRes} {r : PRes} (h : ac a h0 k c = some r) : (∃ pc' L' st' m', a = some (.inl (pc', L', st', m')) ∧ k pc' L' st' m' = some r) ∨ (∃ r', a = some (.inr (.inl r')) ∧ rz h0 r' = some r) ∨ ∃ len mid, a = some (.inr (.inr (len, mid))) ∧ c len mid = some r := by
  rcases a with _ | ⟨pc', L', st', m'⟩ | r' | ⟨len, mid⟩
  · cases h
  · exact Or.inl ⟨_, _, _, _, rfl, h⟩
  · exact Or.inr (Or.inl ⟨_, rfl, h⟩)
  · exact Or.inr (Or.inr ⟨_, _, rfl, h⟩)
theorem hc_e {h0 : Option Nat} {k : Nat → Option PRes} {b : Option PRes} {r : PRes} (h : hc h0 k b = some r) : (∃ z, h0 = some z ∧ k z = some r) ∨ (h0 = none ∧ b = some r) := by
  rcases h0 with _ | z
  · exact Or.inr ⟨rfl, h⟩
  · exact Or.inl ⟨z, rfl, h⟩
theorem rz_e {h0 : Option Nat} {r' r : PRes} (h : rz h0 r' = some r) : r = r' ∧ (r'.1.1 = 0 ∨ h0 = none) := by
  unfold rz at h
  by_cases q : r'.1.1 = 0
  · rw [if_pos q] at h
    cases h
    exact ⟨rfl, Or.inl q⟩
  · rw [if_neg q] at h
    rcases hc_e h with ⟨z, -, h⟩ | ⟨h1, h⟩
    · cases h
    · cases h
      exact ⟨rfl, Or.inr h1⟩
theorem cy_e {q : Option (List Value × List Value)} {k : List Value → List Value → Option PRes} {r : PRes} (h : cy q k = some r) : ∃ a b, q = some (a, b) ∧ k a b = some r := by
  rcases q with _ | ⟨a, b⟩
  · cases h
  · exact ⟨a, b, rfl, h⟩
theorem af_e {w : Option PRes} {k0 k1 : Option Value → PM → Option PRes} {k2 : PRes → Option PRes} {r : PRes} (h : af w k0 k1 k2 = some r) : ∃ w', w = some w' ∧ ((w'.1.1 = 0 ∧ k0 w'.1.2 w'.2 = some r) ∨ (w'.1.1 = 1 ∧ k1 w'.1.2 w'.2 = some r) ∨ (2 ≤ w'.1.1 ∧ k2 w' = some r)) := by
  match w, h with
  | none, h => cases h
  | some ((0, v), m'), h => exact ⟨_, rfl, Or.inl ⟨rfl, h⟩⟩
  | some ((1, v), m'), h => exact ⟨_, rfl, Or.inr (Or.inl ⟨rfl, h⟩)⟩
  | some ((c + 2, v), m'), h => exact ⟨_, rfl, Or.inr (Or.inr ⟨Nat.le_add_left 2 c, h⟩)⟩
theorem io_e {d : Nat} {q : Option (Option PRes)} {b : Option PRes} {r : PRes} (h : io d q b = some r) : (q = some (some r) ∧ 8 ≤ d) ∨ (q = none ∧ b = some r) := by
  rcases q with _ | r0
  · exact Or.inr ⟨rfl, h⟩
  · have h : (if 8 ≤ d then r0 else none) = some r := h
    obtain ⟨q, h⟩ := its h
    exact Or.inl ⟨by rw [h], q⟩
theorem dz_e {d : Nat} {f : Nat → Option PRes} {r : PRes} (h : dz d f = some r) : ∃ d', d = d' + 1 ∧ f d' = some r := by
  cases d with
  | zero => cases h
  | succ d' => exact ⟨d', rfl, h⟩
theorem mJ_X {mid : Nat} {args : List Value} {m : PM} {r : PRes} (h : mJ mid args m = some (some r)) : gX r.2 = gX m ∧ gS r.2 = gS m := by
  unfold mJ at h
  split at h
  · cases h; exact ⟨rfl, rfl⟩
  split at h
  · split at h
    · cases h
      split <;> exact ⟨rfl, rfl⟩
    · cases h
  split at h
  · split at h
    · have h := Option.some.inj h
      obtain ⟨_, h⟩ := its h
      cases h
      exact ⟨rfl, rfl⟩
    · cases h
  split at h
  · split at h
    · have h := Option.some.inj h
      obtain ⟨_, h⟩ := its h
      split at h
      · cases h; exact ⟨rfl, rfl⟩
      · obtain ⟨_, h⟩ := its h
        cases h; exact ⟨rfl, rfl⟩
    · cases h
  · cases h
theorem mI_X {mid : Nat} {args : List Value} {m : PM} {r : PRes} (h : mI mid args m = some (some r)) : gX r.2 = gX m ∧ gS r.2 = gS m := by
  rcases mI_e h with h | h
  · cases h
  · exact mJ_X h.2
theorem fin1 {r : PRes} {m : PM} {i : Instr} {c : Prop} [Decidable c] {code : Nat} {v : Option Value} (h : (if c then rx code v m else none) = some (.inr (.inl r))) (hi : i = .ireturn ∨ i = .lreturn ∨ i = .areturn ∨ i = .return_ ∨ (i = .athrow ∧ code = 1)) : r.2 = m ∧ (i = .ireturn ∨ i = .lreturn ∨ i = .areturn ∨ i = .return_ ∨ (i = .athrow ∧ r.1.1 = 1)) := by
  obtain ⟨_, h⟩ := its h
  cases h
  exact ⟨rfl, hi⟩
theorem fin2 {r : PRes} {m : PM} {i : Instr} {rt : Option FieldType} {c : FieldType → Prop} [∀ t, Decidable (c t)] {code : Nat} {v : Option Value} (h : (ob rt fun t => if c t then rx code v m else none) = some (.inr (.inl r))) (hi : i = .ireturn ∨ i = .lreturn ∨ i = .areturn ∨ i = .return_ ∨ (i = .athrow ∧ code = 1)) : r.2 = m ∧ (i = .ireturn ∨ i = .lreturn ∨ i = .areturn ∨ i = .return_ ∨ (i = .athrow ∧ r.1.1 = 1)) := by
  obtain ⟨_, _, h⟩ := mso h
  exact fin1 h hi
set_option maxHeartbeats 4000000 in
theorem sx_R {o : Nat} {rt : Option FieldType} {pc : Nat} {L : PLs} {st : List Value} {m : PM} {i : Instr} {r : PRes} (h : sx pT pM o rt pc L st m i = some (.inr (.inl r))) : r.2 = m ∧ (i = .ireturn ∨ i = .lreturn ∨ i = .areturn ∨ i = .return_ ∨ (i = .athrow ∧ r.1.1 = 1)) := by
  have nn0 : ∀ {a : Nat} {b : PLs} {c : List Value} {d : PM}, nx a b c d = some (.inr (.inl r)) → r.2 = m ∧ (i = .ireturn ∨ i = .lreturn ∨ i = .areturn ∨ i = .return_ ∨ (i = .athrow ∧ r.1.1 = 1)) := by
    intro a b c d h1
    cases h1
  unfold sx at h
  split at h <;> first
    | exact nn0 h
    | (cases h; done)
    | (obtain ⟨_, h⟩ := its h; exact nn0 h)
    | (obtain ⟨_, _, h⟩ := mso h; exact nn0 h)
    | (obtain ⟨_, _, h⟩ := mso h; obtain ⟨_, h⟩ := its h; exact nn0 h)
    | (obtain ⟨_, _, h⟩ := mso h; cases h; done)
    | (obtain ⟨_, _, h⟩ := mso h; obtain ⟨_, _, h⟩ := mso h; obtain ⟨_, _, h⟩ := mso h; cases h; done)
    | (split at h <;> first
        | exact nn0 h
        | (cases h; done)
        | (obtain ⟨_, h⟩ := its h; exact nn0 h)
        | (obtain ⟨_, h⟩ := itn h; exact nn0 h)
        | (obtain ⟨_, _, h⟩ := mso h; exact nn0 h)
        | (obtain ⟨_, _, h⟩ := mso h; split at h <;> exact nn0 h)
        | (split at h <;> (obtain ⟨_, _, h⟩ := mso h; exact nn0 h))
        | (obtain ⟨_, h⟩ := its h; obtain ⟨_, _, h⟩ := mso h; exact nn0 h)
        | (split at h; (obtain ⟨_, _, h⟩ := mso h; exact nn0 h); (obtain ⟨_, _, h⟩ := mso h; obtain ⟨_, _, h⟩ := mso h; exact nn0 h))
        | (obtain ⟨_, _, h⟩ := mso h; obtain ⟨_, h⟩ := its h; obtain ⟨_, hp, h⟩ := mso h; exact nn0 h)
        | (split at h; exact nn0 h; (obtain ⟨_, h⟩ := its h; exact nn0 h))
        | exact fin1 h (by simp)
        | exact fin2 h (by simp)
        | fail)
theorem ex_X : ∀ (n d o : Nat) (cc : ByteArray) (rt : Option FieldType) (hh : Nat → Option Nat) (pc : Nat) (L : PLs) (st : List Value) (m : PM) (r : PRes), ex pT pM n d o cc rt hh pc L st m = some r → gX m ≤ gX r.2 ∧ gS m ≤ gS r.2 := by
  intro n
  induction n with
  | zero => intro d o cc rt hh pc L st m r h; simp [ex] at h
  | succ n ih =>
    intro d o cc rt hh pc L st m r h
    rw [ex] at h
    obtain ⟨i, len, -, -, h⟩ := dc_e h
    rcases ac_e h with ⟨pc', L', st', m', hs, h⟩ | ⟨r', hs, h⟩ | ⟨len', mid, hs, h⟩
    · have h1 := sx_X hs
      have h2 := ih _ _ _ _ _ _ _ _ _ _ h
      omega
    · have h1 := (sx_R hs).1
      have h2 := (rz_e h).1
      rw [h2, h1]
      exact ⟨Nat.le_refl _, Nat.le_refl _⟩
    · obtain ⟨As, rest, -, h⟩ := cy_e h
      obtain ⟨w, hw, h⟩ := af_e h
      have h1 : gX m ≤ gX w.2 ∧ gS m ≤ gS w.2 := by
        rcases io_e hw with ⟨hq, -⟩ | ⟨-, hb⟩
        · have := mI_X hq
          omega
        · obtain ⟨d', -, hb⟩ := dz_e hb
          exact ih _ _ _ _ _ _ _ _ _ _ hb
      rcases h with ⟨-, h⟩ | ⟨-, h⟩ | ⟨-, h⟩
      · have h2 := ih _ _ _ _ _ _ _ _ _ _ h
        omega
      · rcases hc_e h with ⟨z, -, h⟩ | ⟨-, h⟩
        · have h2 := ih _ _ _ _ _ _ _ _ _ _ h
          omega
        · cases h; exact h1
      · rcases hc_e h with ⟨z, -, h⟩ | ⟨-, h⟩
        · cases h
        · cases h; exact h1
