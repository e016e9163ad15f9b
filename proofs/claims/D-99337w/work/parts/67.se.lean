/-! SEARCH: all orders of a set, the first best; seats -/
abbrev Ss : Type := (Nat → Int32) × Int32 × (Nat → Int32) × Int32
abbrev Cpf : Type := Nat → (Nat → Int32) → (Nat → Int32) → (Nat → Int32)
def cpC : Cpf := fun _ S row j => if j < 7 then S j else row j
def cpM : Cpf := fun i S row j => if j < i then S j else row j
def gL {A : Type} (val : A → Int32) (bet : Int32 → Int32 → Bool) (cp : Cpf) (i : Nat) (a : A) (s : Ss) : Ss := if bet (val a) s.2.1 = true then (s.1, val a, cp i s.1 s.2.2.1, nI i) else s
def gF {A : Type} (n : Nat) (val : A → Int32) (bet : Int32 → Int32 → Bool) (cp : Cpf) (nxt : Nat → Nat → A → (Nat → Int32) → A) : Nat → Nat → Nat → A → Ss → Ss
  | 0, i, _, a, s => gL val bet cp i a s
  | f + 1, i, L, a, s => if L = 0 then gL val bet cp i a s else it (fun p s => if L.testBit p = true then gF n val bet cp nxt f (i + 1) (rmv L p) (nxt i p a s.1) (u1 s.1 i (nI p), s.2.1, s.2.2.1, s.2.2.2) else s) n s
def gS1 {A : Type} (n : Nat) (val : A → Int32) (bet : Int32 → Int32 → Bool) (cp : Cpf) (nxt : Nat → Nat → A → (Nat → Int32) → A) (f i L : Nat) (a : A) (p : Nat) (s : Ss) : Ss := if L.testBit p = true then gF n val bet cp nxt f (i + 1) (rmv L p) (nxt i p a s.1) (u1 s.1 i (nI p), s.2.1, s.2.2.1, s.2.2.2) else s
section GF
variable {A : Type} {n : Nat} {val : A → Int32} {bet : Int32 → Int32 → Bool} {cp : Cpf} {nxt : Nat → Nat → A → (Nat → Int32) → A}
theorem gF_0 {f i L : Nat} {a : A} {s : Ss} (h : L = 0) : gF n val bet cp nxt f i L a s = gL val bet cp i a s := by
  cases f with
  | zero => rfl
  | succ f => exact if_pos h
theorem gF_s {f i L : Nat} {a : A} {s : Ss} (h : ¬ L = 0) : gF n val bet cp nxt (f + 1) i L a s = it (gS1 n val bet cp nxt f i L a) n s := if_neg h
/-- both go alike -/
def Sm2 (N : Nat) (s s' : Ss) : Prop := s.1 = s'.1 ∧ s.2.1 = s'.2.1 ∧ (∀ j, j < N → s.2.2.1 j = s'.2.2.1 j)
theorem gF_sm {N : Nat} (hN : N ≤ 7) (hn7 : n ≤ 7) : ∀ f i L a (s s' : Ss), L < 128 → pc7 L = f → i + f = N → Sm2 N s s' → Sm2 N (gF n val bet cpC nxt f i L a s) (gF n val bet cpM nxt f i L a s') := by
  intro f
  induction f with
  | zero =>
    intro i L a s s' hL hp hi hs
    have h0 : L = 0 := s7_pc0 L hL hp
    rw [gF_0 h0, gF_0 h0]
    unfold gL
    rw [hs.2.1]
    by_cases c : bet (val a) s'.2.1 = true
    · rw [if_pos c, if_pos c]
      refine ⟨hs.1, rfl, fun j hj => ?_⟩
      show cpC i s.1 s.2.2.1 j = cpM i s'.1 s'.2.2.1 j
      unfold cpC cpM
      rw [if_pos (by omega), if_pos (by omega), hs.1]
    · rw [if_neg c, if_neg c]; exact hs
  | succ f ih =>
    intro i L a s s' hL hp hi hs
    have h0 : ¬ L = 0 := fun e => by
      subst e
      have : pc7 0 = 0 := by decide
      omega
    rw [gF_s h0, gF_s h0]
    have key : ∀ k, k ≤ n → Sm2 N (it (gS1 n val bet cpC nxt f i L a) k s) (it (gS1 n val bet cpM nxt f i L a) k s') := by
      intro k
      induction k with
      | zero => intro _; exact hs
      | succ k ihk =>
        intro hk
        have hq := ihk (by omega)
        rw [it_s, it_s]
        generalize it (gS1 n val bet cpC nxt f i L a) k s = w at hq
        generalize it (gS1 n val bet cpM nxt f i L a) k s' = w' at hq
        unfold gS1
        by_cases c : L.testBit k = true
        · rw [if_pos c, if_pos c, hq.1]
          have hr := s7_rmlt L hL k (by omega) c
          have hle := rmv_le L k
          exact ih (i + 1) (rmv L k) _ _ _ (by omega) (by omega) (by omega) ⟨rfl, hq.2.1, hq.2.2⟩
        · rw [if_neg c, if_neg c]; exact hq
    exact key n (Nat.le_refl n)
/-- how many are placed: as many as there are; and the best is good enough -/
theorem gF_many {N : Nat} (hN : N ≤ 7) (hn7 : n ≤ 7) {ok : A → Prop} {lq : Int32 → Int32 → Prop} (hok : ∀ i p a S, ok a → ok (nxt i p a S)) (hr : ∀ a, lq a a) (htr : ∀ a b c, lq a b → lq b c → lq a c) (hb1 : ∀ v b, bet v b = true → lq v b) : ∀ f i L a (s : Ss), L < 128 → pc7 L = f → i + f = N → lq (gF n val bet cpC nxt f i L a s).2.1 s.2.1 ∧ ((gF n val bet cpC nxt f i L a s).2.2.2 = nI N ∨ ((gF n val bet cpC nxt f i L a s).2.1 = s.2.1 ∧ (gF n val bet cpC nxt f i L a s).2.2.2 = s.2.2.2)) := by
  intro f
  induction f with
  | zero =>
    intro i L a s hL hp hi
    have h0 : L = 0 := s7_pc0 L hL hp
    rw [gF_0 h0]
    unfold gL
    by_cases c : bet (val a) s.2.1 = true
    · rw [if_pos c]
      exact ⟨hb1 _ _ c, Or.inl (by show nI i = nI N; rw [show i = N by omega])⟩
    · rw [if_neg c]; exact ⟨hr _, Or.inr ⟨rfl, rfl⟩⟩
  | succ f ih =>
    intro i L a s hL hp hi
    have h0 : ¬ L = 0 := fun e => by
      subst e
      have : pc7 0 = 0 := by decide
      omega
    rw [gF_s h0]
    have key : ∀ k, k ≤ n → lq (it (gS1 n val bet cpC nxt f i L a) k s).2.1 s.2.1 ∧ ((it (gS1 n val bet cpC nxt f i L a) k s).2.2.2 = nI N ∨ ((it (gS1 n val bet cpC nxt f i L a) k s).2.1 = s.2.1 ∧ (it (gS1 n val bet cpC nxt f i L a) k s).2.2.2 = s.2.2.2)) := by
      intro k
      induction k with
      | zero => intro _; exact ⟨hr _, Or.inr ⟨rfl, rfl⟩⟩
      | succ k ihk =>
        intro hk
        have hq := ihk (by omega)
        rw [it_s]
        generalize it (gS1 n val bet cpC nxt f i L a) k s = w at hq
        unfold gS1
        by_cases c : L.testBit k = true
        · rw [if_pos c]
          have hr := s7_rmlt L hL k (by omega) c
          have hle := rmv_le L k
          have g := ih (i + 1) (rmv L k) (nxt i k a w.1) (u1 w.1 i (nI k), w.2.1, w.2.2.1, w.2.2.2) (by omega) (by omega) (by omega)
          refine ⟨htr _ _ _ g.1 hq.1, ?_⟩
          rcases g.2 with g2 | ⟨g2, g3⟩
          · exact Or.inl g2
          · rcases hq.2 with q2 | ⟨q2, q3⟩
            · exact Or.inl (g3.trans q2)
            · exact Or.inr ⟨g2.trans q2, g3.trans q3⟩
        · rw [if_neg c]; exact hq
    exact key n (Nat.le_refl n)
/-- something is found that is better than the worst -/
theorem gF_some {N : Nat} (hN : N ≤ 7) (hn7 : n ≤ 7) {ok : A → Prop} {w0 : Int32} (hok : ∀ i p a S, p < n → ok a → ok (nxt i p a S)) (hb : ∀ a, ok a → bet (val a) w0 = true) (hv : ∀ a, ok a → ¬ val a = w0) : ∀ f i L a (s : Ss), L < 2 ^ n → pc7 L = f → i + f = N → ok a → (s.2.1 = w0 ∨ ¬ s.2.1 = w0) → ¬ (gF n val bet cpC nxt f i L a s).2.1 = w0 := by
  have hp2 : ∀ n, n ≤ 7 → (2 : Nat) ^ n ≤ 128 := by decide
  have h128 := hp2 n hn7
  intro f
  induction f with
  | zero =>
    intro i L a s hL hp hi ha _
    have h0 : L = 0 := s7_pc0 L (by omega) hp
    rw [gF_0 h0]
    unfold gL
    by_cases c : bet (val a) s.2.1 = true
    · rw [if_pos c]; exact hv a ha
    · rw [if_neg c]
      intro e
      rw [e] at c
      exact c (hb a ha)
  | succ f ih =>
    intro i L a s hL hp hi ha _
    have h0 : ¬ L = 0 := fun e => by
      subst e
      have : pc7 0 = 0 := by decide
      omega
    rw [gF_s h0]
    have hex : ∀ n, n ≤ 7 → ∀ L, L < 2 ^ n → ¬ L = 0 → ∃ p, p < n ∧ L.testBit p = true := by decide +kernel
    obtain ⟨p0, hp0, hp1⟩ := hex n hn7 L hL h0
    have key : ∀ k, k ≤ n → p0 < k → ¬ (it (gS1 n val bet cpC nxt f i L a) k s).2.1 = w0 := by
      intro k
      induction k with
      | zero => intro _ h; omega
      | succ k ihk =>
        intro hk h
        rw [it_s]
        by_cases c : L.testBit k = true
        · generalize it (gS1 n val bet cpC nxt f i L a) k s = w
          unfold gS1
          rw [if_pos c]
          have hr := s7_rmlt L (by omega) k (by omega) c
          have hle := rmv_le L k
          exact ih (i + 1) (rmv L k) _ _ (by omega) (by omega) (by omega) (hok _ _ _ _ (by omega) ha) (Classical.em _)
        · have hne : p0 ≠ k := fun e => c (by rw [← e]; exact hp1)
          have hq := ihk (by omega) (by omega)
          generalize it (gS1 n val bet cpC nxt f i L a) k s = w at hq
          unfold gS1
          rw [if_neg c]
          exact hq
    exact key n (Nat.le_refl n) hp0
end GF
