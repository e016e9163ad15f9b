/-! ORDERS, whole -/
theorem wnt_b {B R : Rw} {n nd l t : Nat} (hB : GB B n nd l) (hR : GR B R nd t) : 0 ≤ (wntF B R n).toInt ∧ (wntF B R n).toInt ≤ 140 := by
  have hn7 := GB_n7 hB
  have key : ∀ k, k ≤ n → 0 ≤ (it (wntS B R) k 0).toInt ∧ (it (wntS B R) k 0).toInt ≤ 20 * k := by
    intro k
    induction k with
    | zero => intro _; exact ⟨show (0 : Int) ≤ (0 : Int32).toInt by decide, show (0 : Int32).toInt ≤ 20 * 0 by decide⟩
    | succ k ih =>
      intro hk
      have h := ih (by omega)
      rw [it_s]
      generalize it (wntS B R) k 0 = v at h
      unfold wntS
      have h1 := GB_w hB k (by omega)
      have h2 := GR_m hR k (by omega)
      split
      · omega
      · have e1 := tI_sub (a := B 3 k) (b := R 4 k) (by omega) (by omega)
        have e2 := tI_add (a := v) (b := B 3 k - R 4 k) (by omega) (by omega)
        omega
  have := key n (Nat.le_refl n)
  unfold wntF
  omega
section G2
variable {A : Type} {n : Nat} {val : A → Int32} {bet : Int32 → Int32 → Bool} {nxt : Nat → Nat → A → (Nat → Int32) → A}
def Sm4 (N i : Nat) (w w' : Int32) (s s' : Ss) : Prop := (∀ j, j < i → s.1 j = s'.1 j) ∧ ((s.2.1 = s'.2.1 ∧ ∀ j, j < N → s.2.2.1 j = s'.2.2.1 j) ∨ (s.2.1 = w ∧ s'.2.1 = w'))
theorem gF_sm2 {N : Nat} {w w' : Int32} {ok : Nat → A → Prop} (hN : N ≤ 7) (hn7 : n ≤ 7) (hok : ∀ i p a S, i < 7 → p < n → ok i a → ok (i + 1) (nxt i p a S)) (hnx : ∀ i p a S S', (∀ j, j < i → S j = S' j) → nxt i p a S = nxt i p a S') (hb : ∀ i a, ok i a → bet (val a) w = true) (hb' : ∀ i a, ok i a → bet (val a) w' = true) : ∀ f i L a (s s' : Ss), L < 128 → pc7 L = f → i + f = N → ok i a → Sm4 N i w w' s s' → Sm4 N i w w' (gF n val bet cpC nxt f i L a s) (gF n val bet cpM nxt f i L a s') := by
  intro f
  induction f with
  | zero =>
    intro i L a s s' hL hp hi ha hs
    have h0 : L = 0 := s7_pc0 L hL hp
    rw [gF_0 h0, gF_0 h0]
    unfold gL
    have hrow : ∀ j, j < N → cpC i s.1 s.2.2.1 j = cpM i s'.1 s'.2.2.1 j := fun j hj => by
      unfold cpC cpM
      rw [if_pos (by omega), if_pos (by omega), hs.1 j (by omega)]
    rcases hs.2 with ⟨q1, q2⟩ | ⟨q1, q2⟩
    · rw [q1]
      by_cases c : bet (val a) s'.2.1 = true
      · rw [if_pos c, if_pos c]
        exact ⟨hs.1, Or.inl ⟨rfl, hrow⟩⟩
      · rw [if_neg c, if_neg c]; exact hs
    · rw [q1, q2, if_pos (hb i a ha), if_pos (hb' i a ha)]
      exact ⟨hs.1, Or.inl ⟨rfl, hrow⟩⟩
  | succ f ih =>
    intro i L a s s' hL hp hi ha hs
    have h0 : ¬ L = 0 := fun e => by
      subst e
      have : pc7 0 = 0 := by decide
      omega
    rw [gF_s h0, gF_s h0]
    have key : ∀ k, k ≤ n → Sm4 N i w w' (it (gS1 n val bet cpC nxt f i L a) k s) (it (gS1 n val bet cpM nxt f i L a) k s') := by
      intro k
      induction k with
      | zero => intro _; exact hs
      | succ k ihk =>
        intro hk
        have hq := ihk (by omega)
        rw [it_s, it_s]
        generalize it (gS1 n val bet cpC nxt f i L a) k s = v at hq
        generalize it (gS1 n val bet cpM nxt f i L a) k s' = v' at hq
        unfold gS1
        by_cases c : L.testBit k = true
        · rw [if_pos c, if_pos c, hnx i k a v.1 v'.1 hq.1]
          have hr := s7_rmlt L hL k (by omega) c
          have hle := rmv_le L k
          have g := ih (i + 1) (rmv L k) (nxt i k a v'.1) (u1 v.1 i (nI k), v.2.1, v.2.2.1, v.2.2.2) (u1 v'.1 i (nI k), v'.2.1, v'.2.2.1, v'.2.2.2) (by omega) (by omega) (by omega) (hok _ _ _ _ (by omega) (by omega) ha) ⟨fun j hj => by
            show u1 v.1 i (nI k) j = u1 v'.1 i (nI k) j
            unfold u1
            by_cases q : j = i
            · rw [if_pos q, if_pos q]
            · rw [if_neg q, if_neg q, hq.1 j (by omega)], hq.2⟩
          exact ⟨fun j hj => g.1 j (by omega), g.2⟩
        · rw [if_neg c, if_neg c]; exact hq
    exact key n (Nat.le_refl n)
theorem gF_some2 {N : Nat} {w0 : Int32} {ok : Nat → A → Prop} (hN : N ≤ 7) (hn7 : n ≤ 7) (hok : ∀ i p a S, i < 7 → p < n → ok i a → ok (i + 1) (nxt i p a S)) (hb : ∀ i a, ok i a → bet (val a) w0 = true) (hv : ∀ i a, ok i a → ¬ val a = w0) : ∀ f i L a (s : Ss), L < 2 ^ n → pc7 L = f → i + f = N → ok i a → ¬ (gF n val bet cpC nxt f i L a s).2.1 = w0 := by
  have h128 := p2_128 n hn7
  intro f
  induction f with
  | zero =>
    intro i L a s hL hp hi ha
    have h0 : L = 0 := s7_pc0 L (by omega) hp
    rw [gF_0 h0]
    unfold gL
    by_cases c : bet (val a) s.2.1 = true
    · rw [if_pos c]; exact hv i a ha
    · rw [if_neg c]
      intro e
      rw [e] at c
      exact c (hb i a ha)
  | succ f ih =>
    intro i L a s hL hp hi ha
    have h0 : ¬ L = 0 := fun e => by
      subst e
      have : pc7 0 = 0 := by decide
      omega
    rw [gF_s h0]
    have hex : ∀ n, n ≤ 7 → ∀ L, L < 2 ^ n → ¬ L = 0 → ∃ p, p < n ∧ L.testBit p = true := by decide +kernel
    obtain ⟨p0, hp0, hp1⟩ := hex n hn7 L hL h0
    have key : ∀ k, k ≤ n → p0 < k → ¬ (it (gS1 n val bet cpC nxt f i L a) k s).2.1 = w0 := by
      intro k
      induction k with
      | zero => intro _ h; omega
      | succ k ihk =>
        intro hk h
        rw [it_s]
        by_cases c : L.testBit k = true
        · generalize it (gS1 n val bet cpC nxt f i L a) k s = w
          unfold gS1
          rw [if_pos c]
          have hr := s7_rmlt L (by omega) k (by omega) c
          have hle := rmv_le L k
          exact ih (i + 1) (rmv L k) _ _ (by omega) (by omega) (by omega) (hok _ _ _ _ (by omega) (by omega) ha)
        · have hne : p0 ≠ k := fun e => c (by rw [← e]; exact hp1)
          have hq := ihk (by omega) (by omega)
          generalize it (gS1 n val bet cpC nxt f i L a) k s = w at hq
          unfold gS1
          rw [if_neg c]
          exact hq
    exact key n (Nat.le_refl n) hp0
/-- both find the same -/
theorem gF_both {w w' : Int32} {ok : Nat → A → Prop} (hn7 : n ≤ 7) (hok : ∀ i p a S, i < 7 → p < n → ok i a → ok (i + 1) (nxt i p a S)) (hnx : ∀ i p a S S', (∀ j, j < i → S j = S' j) → nxt i p a S = nxt i p a S') (hb : ∀ i a, ok i a → bet (val a) w = true) (hb' : ∀ i a, ok i a → bet (val a) w' = true) (hv : ∀ i a, ok i a → ¬ val a = w) {L : Nat} {a : A} {S S' row row' : Nat → Int32} {many many' : Int32} (hL : L < 2 ^ n) (ha : ok 0 a) : (gF n val bet cpC nxt (pc7 L) 0 L a (S, w, row, many)).2.1 = (gF n val bet cpM nxt (pc7 L) 0 L a (S', w', row', many')).2.1 ∧ (∀ j, j < pc7 L → (gF n val bet cpC nxt (pc7 L) 0 L a (S, w, row, many)).2.2.1 j = (gF n val bet cpM nxt (pc7 L) 0 L a (S', w', row', many')).2.2.1 j) ∧ (gF n val bet cpC nxt (pc7 L) 0 L a (S, w, row, many)).2.2.2 = nI (pc7 L) := by
  have h128 := p2_128 n hn7
  have hpc : ∀ L, L < 128 → pc7 L ≤ 7 := by decide +kernel
  have hp7 := hpc L (by omega)
  have s1 := gF_sm2 (N := pc7 L) hp7 hn7 hok hnx hb hb' (pc7 L) 0 L a (S, w, row, many) (S', w', row', many') (by omega) rfl (by omega) ha ⟨fun j hj => by omega, Or.inr ⟨rfl, rfl⟩⟩
  have s2 := gF_some2 (N := pc7 L) hp7 hn7 hok hb hv (pc7 L) 0 L a (S, w, row, many) hL rfl (by omega) ha
  have s3 := gF_many (N := pc7 L) (n := n) (val := val) (bet := bet) (nxt := nxt) (ok := fun _ => True) (lq := fun _ _ => True) hp7 hn7 (fun _ _ _ _ _ => trivial) (fun _ => trivial) (fun _ _ _ _ _ => trivial) (fun _ _ _ => trivial) (pc7 L) 0 L a (S, w, row, many) (by omega) rfl (by omega)
  rcases s1.2 with ⟨q1, q2⟩ | ⟨q1, q2⟩
  · refine ⟨q1, q2, ?_⟩
    rcases s3.2 with q3 | ⟨q3, q4⟩
    · exact q3
    · exact absurd q3 s2
  · exact absurd q1 s2
end G2
theorem or_same {B R : Rw} {n nd l t L : Nat} {S S' row row' : Nat → Int32} {many many' : Int32} (hB : GB B n nd l) (hR : GR B R nd t) (hL : L < 2 ^ n) : (orF B n cpC (pc7 L) 0 L R (S, nI 100000, row, many)).2.1 = (orF B n cpM (pc7 L) 0 L R (S', nI 1000000, row', many')).2.1 ∧ (∀ j, j < pc7 L → (orF B n cpC (pc7 L) 0 L R (S, nI 100000, row, many)).2.2.1 j = (orF B n cpM (pc7 L) 0 L R (S', nI 1000000, row', many')).2.2.1 j) ∧ (orF B n cpC (pc7 L) 0 L R (S, nI 100000, row, many)).2.2.2 = nI (pc7 L) := by
  have hn7 := GB_n7 hB
  have e1 : (nI 100000).toInt = 100000 := by decide
  have e2 : (nI 1000000).toInt = 1000000 := by decide
  unfold orF
  refine gF_both (n := n) (val := fun a => wntF B a n) (bet := orB) (nxt := orN B n) (w := nI 100000) (w' := nI 1000000) (ok := fun _ a => GR B a nd t) (L := L) (a := R) (S := S) (S' := S') (row := row) (row' := row') (many := many) (many' := many') hn7 (fun i p a S hi hp ha => GR_orN hB ha (by omega)) (fun _ _ _ _ _ _ => rfl) (fun i a ha => ?_) (fun i a ha => ?_) (fun i a ha e => ?_) hL hR
  · have := wnt_b hB ha
    exact decide_eq_true (by rw [Int32.lt_iff_toInt_lt, e1]; omega)
  · have := wnt_b hB ha
    exact decide_eq_true (by rw [Int32.lt_iff_toInt_lt, e2]; omega)
  · have := wnt_b hB ha
    rw [e, e1] at this
    omega
theorem se_same {B : Rw} {n nd l L : Nat} {S S' row row' : Nat → Int32} {many many' : Int32} (hB : GB B n nd l) (hL : L < 2 ^ n) : (seF B n cpC (pc7 L) 0 L (nI 0) (S, -1, row, many)).2.1 = (seF B n cpM (pc7 L) 0 L (nI 0) (S', -1, row', many')).2.1 ∧ (∀ j, j < pc7 L → (seF B n cpC (pc7 L) 0 L (nI 0) (S, -1, row, many)).2.2.1 j = (seF B n cpM (pc7 L) 0 L (nI 0) (S', -1, row', many')).2.2.1 j) ∧ (seF B n cpC (pc7 L) 0 L (nI 0) (S, -1, row, many)).2.2.2 = nI (pc7 L) := by
  have hn7 := GB_n7 hB
  have e1 : (-1 : Int32).toInt = -1 := by decide
  unfold seF
  refine gF_both (n := n) (val := fun a => a) (bet := seB) (nxt := seN B) (w := -1) (w' := -1) (ok := fun i (a : Int32) => 0 ≤ a.toInt ∧ a.toInt ≤ i) (L := L) (a := nI 0) (S := S) (S' := S') (row := row) (row' := row') (many := many) (many' := many') hn7 (fun i p a S hi hp ha => ?_) (fun i p a S S' h => ?_) (fun i a ha => ?_) (fun i a ha => ?_) (fun i a ha e => ?_) hL ⟨by decide, by decide⟩
  · unfold seN
    split
    · have e2 : (1 : Int32).toInt = 1 := by decide
      have e3 := tI_add (a := a) (b := 1) (by omega) (by omega)
      omega
    · omega
  · unfold seN
    by_cases c : 0 < i
    · rw [h (i - 1) (by omega)]
    · rw [if_neg (fun q => c q.1), if_neg (fun q => c q.1)]
  · exact decide_eq_true (by rw [Int32.lt_iff_toInt_lt, e1]; omega)
  · exact decide_eq_true (by rw [Int32.lt_iff_toInt_lt, e1]; omega)
  · have e : a = -1 := e
    rw [e, e1] at ha
    omega
