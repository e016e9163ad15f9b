/-! THE WORLD: a state kept, an act done -/
section WK
variable {m mm m1 : PM} {x y lo b : Nat} {B : Rw} {np nd lw : Nat} {NP ND : Nat → List Nat} {R R' : Rw} {t t' u u' a : Nat} {f : Nat → Option Nat}
def KsA (m m1 : PM) (x lo u a : Nat) : Prop := lo ≤ a ∧ a + 5 < gX m1 ∧ gX m ≤ gX m1 ∧ gX m1 ≤ gX m + 6 ∧ gS m1 ≤ gS m + 81 ∧ St m1 a ∧ (∀ c, c < gX m ∨ 1000000 ≤ c → gK m1 c = gK m c ∧ gN m1 c = gN m c ∧ (∀ j, gR m1 c j = gR m c j) ∧ (∀ j, gJ m1 c j = gJ m c j) ∧ (∀ j, gI m1 c j = gI m c j)) ∧ (∀ i a', i < 18 → sl m x i = some a' → i ≠ (if u < 8 then u else 0) → a' + 5 < a ∨ a + 5 < a') ∧ (∀ c, c < gX m → a ≤ c → c ≤ a + 5 → gK m c = 4 ∨ gK m c = 100) ∧ (∀ z, Bo m z → z + 7 < gX m → z + 7 < a ∨ a + 5 < z)
theorem KsA_old {i0 : Nat} (hSL : SL m x lo) (h0 : i0 < 8) (h1 : i0 = (if u < 8 then u else 0)) (h3 : gR m (x + 29) i0 = some a) : KsA m m x lo u a := by
  have q := hSL i0 (by omega) a (by rw [sl_8 h0]; exact h3)
  have hlt := q.2.2.1
  have hle := q.2.1
  refine ⟨hle, hlt, Nat.le_refl _, by omega, by omega, q.1, fun c _ => ⟨rfl, rfl, fun _ => rfl, fun _ => rfl, fun _ => rfl⟩, fun i a' hi hs hne => St_St_dis (hSL i hi a' hs).1 q.1 (fun e => hne ((q.2.2.2 i hi (by rw [← e]; exact hs)).trans h1)), fun c _ c1 c2 => ?_, fun z hz _ => St_Bo_dis q.1 hz⟩
  rcases (show c = a ∨ c = a + 1 ∨ c = a + 2 ∨ c = a + 3 ∨ c = a + 4 ∨ c = a + 5 by omega) with rfl | rfl | rfl | rfl | rfl | rfl
  · exact Or.inl (St_K0 q.1)
  · exact Or.inr (St_K1 q.1)
  · exact Or.inr (St_K2 q.1)
  · exact Or.inr (St_K3 q.1)
  · exact Or.inr (St_K4 q.1)
  · exact Or.inr (St_K5 q.1)
theorem KS_at (hSL : SL m x lo) (hlo : lo ≤ gX m) (hX : gX m + 6 < 900000) (hk : KS m x u m1 a f u') : KsA m m1 x lo u a := by
  rcases hk with ⟨h1, h2, h3, h4, h5⟩ | ⟨h1, h2, h3, h4, h5, h6⟩ | ⟨h1, h2, h3, h4, h5⟩
  · subst h3
    exact KsA_old hSL h1 (by rw [if_pos h1]) h2
  · subst h3 h4
    refine ⟨hlo, by rw [gX_stN]; omega, by rw [gX_stN]; omega, by rw [gX_stN]; omega, by rw [gS_stN]; omega, stN_St m, fun c hc => stN_o (by omega), fun i a' hi hs _ => ?_, fun c c0 c1 _ => by omega, fun z _ hz => Or.inl hz⟩
    have q := (hSL i hi a' hs).2.2.1
    omega
  · subst h3
    exact KsA_old hSL (show 0 < 8 by omega) (by rw [if_neg (by omega)]) h2
theorem kp_eqs (hlo : x + 43 ≤ lo) (ha : lo ≤ a) (hX : gX m < 900000) (h1 : ∀ c, c < gX m ∨ 1000000 ≤ c → gK m1 c = gK m c ∧ gN m1 c = gN m c ∧ (∀ j, gR m1 c j = gR m c j) ∧ (∀ j, gJ m1 c j = gJ m c j) ∧ (∀ j, gI m1 c j = gI m c j)) : (∀ c, c < gX m ∨ 1000000 ≤ c → gK (pZ (kpM m1 x a u' R f) (x + 14) R') c = gK m c ∧ gN (pZ (kpM m1 x a u' R f) (x + 14) R') c = gN m c) ∧ (∀ c j, c < gX m ∨ 1000000 ≤ c → c ≠ x + 29 → gR (pZ (kpM m1 x a u' R f) (x + 14) R') c j = gR m c j) ∧ (∀ c j, c < gX m ∨ 1000000 ≤ c → gJ (pZ (kpM m1 x a u' R f) (x + 14) R') c j = gJ m c j) ∧ (∀ c j, c < gX m ∨ 1000000 ≤ c → (c < a ∨ a + 5 < c) → ¬ (x + 14 ≤ c ∧ c ≤ x + 19) → ¬ (c = x ∧ j = 14) → gI (pZ (kpM m1 x a u' R f) (x + 14) R') c j = gI m c j) := by
  refine ⟨fun c hc => ⟨(h1 c hc).1, (h1 c hc).2.1⟩, fun c j hc hn => ?_, fun c j hc => (h1 c hc).2.2.2.1 j, fun c j hc c1 c2 c3 => ?_⟩
  · exact (if_neg hn).trans ((h1 c hc).2.2.1 j)
  · rw [gI_pZo (by omega), gI_kpM c3 c1]
    exact (h1 c hc).2.2.2.2 j
theorem kp_FC (hs : ShC m x y lo) (hX : gX m + 6 < 900000) (hk : KS m x u m1 a f u') : FC m (pZ (kpM m1 x a u' R f) (x + 14) R') x lo := by
  obtain ⟨h1, h2, h3, h4, h5, h6, h7⟩ := hs
  obtain ⟨k1, k2, k3, k4, k5, k6, k7, k8, k9, k10⟩ := KS_at h5 h6.2.2.1 hX hk
  obtain ⟨e1, e2, e3, e4⟩ := kp_eqs (m := m) (x := x) (a := a) (u' := u') (R := R) (R' := R') (f := f) (lo := lo) (by omega) k1 (by omega) k7
  refine ⟨k3, by show gX m1 ≤ _; omega, by show gS m1 ≤ _; omega, fun c hc => ⟨(e1 c (by omega)).1, (e1 c (by omega)).2, fun j => e2 c j (by omega) (by omega), fun j => e3 c j (by omega), fun j => ?_⟩⟩
  have hax : a + 5 < 900000 := by omega
  exact e4 c j (by omega) (by omega) (by omega) (by omega)
theorem SL_perm {m' : PM} {s : Nat → Nat} (h : SL m x lo) (hX : gX m ≤ gX m') (hs : ∀ i, i < 18 → sl m' x i = sl m x (s i)) (h1 : ∀ i, i < 18 → s i < 18) (h2 : ∀ i j, i < 18 → j < 18 → s i = s j → i = j) (hSt : ∀ a, St m a → lo ≤ a → a + 5 < gX m → St m' a) : SL m' x lo := by
  intro i hi a ha
  rw [hs i hi] at ha
  obtain ⟨q1, q2, q3, q4⟩ := h (s i) (h1 i hi) a ha
  refine ⟨hSt a q1 q2 q3, q2, by omega, fun j hj hja => ?_⟩
  rw [hs j hj] at hja
  exact h2 j i hj hi (q4 (s j) (h1 j hj) hja)
theorem kp_SL (hs : ShC m x y lo) (hX : gX m + 6 < 900000) (hk : KS m x u m1 a f u') : SL (pZ (kpM m1 x a u' R f) (x + 14) R') x lo := by
  obtain ⟨h1, h2, h3, h4, h5, h6, h7⟩ := hs
  obtain ⟨k1, k2, k3, k4, k5, k6, k7, k8, k9, k10⟩ := KS_at h5 h6.2.2.1 hX hk
  obtain ⟨e1, e2, e3, e4⟩ := kp_eqs (m := m) (x := x) (a := a) (u' := u') (R := R) (R' := R') (f := f) (lo := lo) (by omega) k1 (by omega) k7
  have hX' : gX (pZ (kpM m1 x a u' R f) (x + 14) R') = gX m1 := rfl
  have hSt : ∀ a', St m a' → lo ≤ a' → a' + 5 < gX m → St (pZ (kpM m1 x a u' R f) (x + 14) R') a' := fun a' q1 q2 q3 => St_same q1 (fun s hs => e1 _ (by omega)) (fun j => e2 _ j (by omega) (by omega))
  have e29 : ∀ j, gR (pZ (kpM m1 x a u' R f) (x + 14) R') (x + 29) j = f j := fun j => if_pos rfl
  have hsl : ∀ i, sl (pZ (kpM m1 x a u' R f) (x + 14) R') x i = if i < 8 then f i else sl m x i := fun i => by
    unfold sl
    rw [e29, e2 (x + 30) _ (by omega) (by omega), e2 (x + 42) _ (by omega) (by omega)]
    by_cases c : i < 8
    · rw [if_pos c, if_pos c]
    · rw [if_neg c, if_neg c, if_neg c]
  rcases id hk with ⟨c1, c2, c3, c4, c5⟩ | ⟨c1, c2, c3, c4, c5, c6⟩ | ⟨c1, c2, c3, c4, c5⟩
  · refine SL_perm (s := fun i => i) h5 (by rw [hX']; exact k3) (fun i hi => ?_) (fun i hi => hi) (fun i j _ _ e => e) hSt
    rw [hsl]
    by_cases c : i < 8
    · rw [if_pos c, c5, sl_8 c]
    · rw [if_neg c]
  · intro i hi a' ha'
    rw [hsl] at ha'
    have hnew : St (pZ (kpM m1 x a u' R f) (x + 14) R') a := St_kpM (u := u') k6 (by omega)
    by_cases c : i = u
    · subst c
      rw [if_pos c1, c6] at ha'
      have ha' : a' = gX m := by
        have : some (gX m) = some a' := by rw [← ha']; exact (if_pos rfl).symm
        exact (Option.some.inj this).symm
      subst ha'
      rw [c4] at hnew
      refine ⟨hnew, h6.2.2.1, by rw [hX', c3, gX_stN]; omega, fun j hj hja => ?_⟩
      rw [hsl] at hja
      by_cases e : j = i
      · exact e
      · exfalso
        by_cases c8 : j < 8
        · rw [if_pos c8, c6] at hja
          have hja : gR m (x + 29) j = some (gX m) := by rw [← hja]; exact (if_neg e).symm
          have := (h5 j hj _ (by rw [sl_8 c8]; exact hja)).2.2.1
          omega
        · rw [if_neg c8] at hja
          have := (h5 j hj _ hja).2.2.1
          omega
    · have hold : sl m x i = some a' := by
        by_cases c8 : i < 8
        · rw [if_pos c8, c6] at ha'
          rw [sl_8 c8, ← ha']; exact (if_neg c).symm
        · rw [if_neg c8] at ha'; exact ha'
      obtain ⟨q1, q2, q3, q4⟩ := h5 i hi a' hold
      refine ⟨hSt a' q1 q2 q3, q2, by rw [hX']; omega, fun j hj hja => ?_⟩
      rw [hsl] at hja
      by_cases e : j = u
      · subst e
        rw [if_pos c1, c6] at hja
        have : gX m = a' := Option.some.inj (by rw [← hja]; exact (if_pos rfl).symm)
        omega
      · refine q4 j hj ?_
        by_cases c8 : j < 8
        · rw [if_pos c8, c6] at hja
          rw [sl_8 c8, ← hja]; exact (if_neg e).symm
        · rw [if_neg c8] at hja; exact hja
  · refine SL_perm (s := fun i => if i < 7 then i + 1 else if i = 7 then 0 else i) h5 (by rw [hX']; exact k3) (fun i hi => ?_) (fun i hi => by
      show (if i < 7 then i + 1 else if i = 7 then 0 else i) < 18
      split
      · omega
      · split <;> omega) (fun i j _ _ e => ?_) hSt
    · rw [hsl]
      by_cases c7 : i < 7
      · rw [if_pos (by omega), c5, if_pos c7]; (try dsimp only); rw [if_pos c7, sl_8 (by omega)]
      · by_cases c8 : i = 7
        · subst c8
          rw [if_pos (by omega), c5]; (try dsimp only); rw [if_neg (by omega), if_pos rfl, if_neg (by omega), if_pos rfl, sl_8 (by omega)]; exact c2.symm
        · rw [if_neg (by omega)]; (try dsimp only); rw [if_neg c7, if_neg c8]
    · try dsimp only at e
      split at e <;> split at e <;> (try split at e) <;> (try split at e) <;> omega
theorem Sn_sn {k : Nat} (h : u < 8) (hk : k < u) {Q : Rw} (hS : Sn mm (y + 5) (75 * k) Q) : Sn (snpM mm y u R) (y + 5) (75 * k) Q := fun j hj => by
  unfold snpM
  rw [if_neg (by omega), gI_bWx (by omega), gI_sI, if_neg (by omega)]
  exact hS j hj
theorem Sn_sn0 (h : u < 8) : Sn (snpM mm y u R) (y + 5) (75 * u) R := fun j hj => by
  unfold snpM
  rw [if_neg (by omega)]
  exact Sn_bW _ _ _ _ j hj
theorem Sn_s8 {k : Nat} (hk : k < 7) {Q : Rw} (hS : Sn mm (y + 5) (75 * (k + 1)) Q) : Sn (snpM mm y 8 R) (y + 5) (75 * k) Q := fun j hj => by
  unfold snpM
  rw [if_pos rfl, gI_bWx (by omega), gI_bW, if_pos ⟨rfl, by omega, by omega⟩, show 75 * k + j - 0 + 75 = 75 * (k + 1) + j by omega]
  exact hS j hj
theorem Sn_s87 : Sn (snpM mm y 8 R) (y + 5) (75 * 7) R := fun j hj => by
  unfold snpM
  rw [if_pos rfl]
  exact Sn_bW _ _ _ _ j hj
theorem sn_o {c j : Nat} (h1 : c ≠ y + 5) (h2 : ¬ (c = y ∧ j = 23)) : gI (snpM mm y u R) c j = gI mm c j := by
  unfold snpM
  by_cases e : u = 8
  · rw [if_pos e, gI_bWo h1, gI_bWo h1, gI_sI, if_neg h2]
  · rw [if_neg e, gI_bWo h1, gI_sI, if_neg h2]
theorem sn_23 : gI (snpM mm y u R) y 23 = nI (if u = 8 then 8 else u + 1) := by
  unfold snpM
  by_cases e : u = 8
  · rw [if_pos e, if_pos e, gI_bWo (by omega), gI_bWo (by omega), gI_sI, if_pos ⟨rfl, rfl⟩]
  · rw [if_neg e, if_neg e, gI_bWo (by omega), gI_sI, if_pos ⟨rfl, rfl⟩]
theorem sn_22 : (snpM mm y u R).2 = mm.2 := by
  unfold snpM
  split <;> rfl
theorem sn_FM : FM mm (pY (snpM mm y u R) y B R') y := by
  refine ⟨?_, fun c hc => ⟨fun j => ?_, fun j => ?_⟩⟩
  · show (snpM mm y u R).2.2 = _; rw [sn_22]
  · show (snpM mm y u R).2.1 c j = _; rw [sn_22]; rfl
  · rw [gI_pYo (by omega), sn_o (by omega) (by omega)]
/-- what is kept, is kept in both -/
theorem Cor_keep (h : Cor m mm x y lo b B np nd lw NP ND R t u) (hk : KS m x u m1 a f u') (hG' : GR B R' nd t') (hX : gX m + 6 < 900000) : Cor (pZ (kpM m1 x a u' R f) (x + 14) R') (pY (snpM mm y u R) y B R') x y lo b B np nd lw NP ND R' t' u' := by
  obtain ⟨s, h7, hBd, hZ, hG, hU, hS, hI0, hI1, hM, hYr, hn1, hn2⟩ := h
  have hu8 := hU.2.1
  have hSL' := kp_SL (R := R) (R' := R') s hX hk
  obtain ⟨s1, s2, s3, s4, s5, s6, s7⟩ := id s
  obtain ⟨k1, k2, k3, k4, k5, k6, k7, k8, k9, k10⟩ := KS_at s5 s6.2.2.1 hX hk
  obtain ⟨e1, e2, e3, e4⟩ := kp_eqs (m := m) (x := x) (a := a) (u' := u') (R := R) (R' := R') (f := f) (lo := lo) (by omega) k1 (by omega) k7
  have hX' : gX (pZ (kpM m1 x a u' R f) (x + 14) R') = gX m1 := rfl
  have e29 : ∀ j, gR (pZ (kpM m1 x a u' R f) (x + 14) R') (x + 29) j = f j := fun j => if_pos rfl
  have hax : a + 5 < 900000 := by omega
  have hKF : KF m (pZ (kpM m1 x a u' R f) (x + 14) R') x lo := by
    refine ⟨k3, e1, fun z hz hzX hzB => ⟨fun j => e2 z j (by omega) (by omega), fun s k hs => ?_, fun s j _ _ => e3 _ _ (by omega)⟩, fun c hc c1 c2 => ?_, fun j => e2 _ j (by omega) (by omega)⟩
    · have := k10 z hzB hzX
      exact e4 _ _ (by omega) (by omega) (by omega) (by omega)
    · have hn : c < x ∨ x + 43 ≤ c := by
        by_cases e : c < x ∨ x + 43 ≤ c
        · exact e
        · exact absurd ⟨c1, c2⟩ (s7 c (by omega) (by omega))
      have hna : c < a ∨ a + 5 < c := by
        by_cases e : c < a ∨ a + 5 < c
        · exact e
        · have := k9 c hc (by omega) (by omega); omega
      exact ⟨fun j => e2 c j (by omega) (by omega), fun j => e4 c j (by omega) hna (by omega) (by omega)⟩
  have hIm : ∀ i, i < 2 → ∀ kc Q, gR m (x + 42) i = some kc → lo ≤ kc → kc + 6 < gX m → Zr m (kc + 1) Q → Zr (pZ (kpM m1 x a u' R f) (x + 14) R') (kc + 1) Q := fun i hi kc Q h1 h2 h3 h4 => by
    have hd := k8 (16 + i) (kc + 1) (by omega) (by unfold sl; rw [if_neg (by omega), if_neg (by omega), show 16 + i - 16 = i by omega, h1]; rfl) (by split <;> omega)
    exact Zr_same h4 fun s k hs _ => e4 _ _ (by omega) (by omega) (by omega) (by omega)
  have yI : ∀ c j, c ≠ y + 2 → c ≠ y + 5 → ¬ (c = y ∧ j = 23) → gI (pY (snpM mm y u R) y B R') c j = gI mm c j := fun c j h1 h2 h3 => by
    rw [gI_pYo h1, sn_o h2 h3]
  have yJ : ∀ c j, gJ (pY (snpM mm y u R) y B R') c j = gJ mm c j := fun c j => by
    show (snpM mm y u R).2.1 c j = _; rw [sn_22]; rfl
  have ySn : ∀ i Q, Sn (snpM mm y u R) (y + 5) i Q → Sn (pY (snpM mm y u R) y B R') (y + 5) i Q := fun i Q h k hk => by
    rw [gI_pYo (by omega)]; exact h k hk
  have hu' : u' ≤ 8 ∧ (if u = 8 then 8 else u + 1) = u' := by
    rcases hk with ⟨c1, c2, c3, c4, c5⟩ | ⟨c1, c2, c3, c4, c5, c6⟩ | ⟨c1, c2, c3, c4, c5⟩
    · rw [if_neg (by omega)]; omega
    · rw [if_neg (by omega)]; omega
    · rw [if_pos c1]; omega
  have hZa : Zr (pZ (kpM m1 x a u' R f) (x + 14) R') a R := fun s k hs => by
    have := inr_lt hs
    rw [gI_pZo (by omega)]
    unfold kpM
    rw [gI_sI, if_neg (by omega), gI_wR]
    exact Zr_pZ _ _ _ s k hs
  have hold : ∀ i, i < 8 → ∀ a' Q, gR m (x + 29) i = some a' → i ≠ (if u < 8 then u else 0) → Zr m a' Q → Zr (pZ (kpM m1 x a u' R f) (x + 14) R') a' Q := fun i hi a' Q h1 h2 h3 => by
    have q := s5 i (by omega) a' (by rw [sl_8 hi]; exact h1)
    have hd := k8 i a' (by omega) (by rw [sl_8 hi]; exact h1) h2
    exact Zr_same h3 fun s k hs _ => e4 _ _ (by omega) (by omega) (by omega) (by omega)
  refine ⟨⟨?_, ?_, ?_, ?_, hSL', ⟨s6.1, s6.2.1, by rw [hX']; omega, by rw [hX']; omega⟩, fun c c1 c2 => ?_⟩, (e2 x 7 (by omega) (by omega)).trans h7, KF_Bd hKF hBd, Zr_pZ _ _ _, hG', ⟨?_, hu'.1, ?_, fun i hi => ?_⟩, ?_, KF_Im hKF (hIm 0 (by omega)) (fun j => yI _ _ (by omega) (by omega) (by omega)) (yI _ _ (by omega) (by omega) (by omega)) (fun j => yJ _ _) hI0, KF_Im hKF (hIm 1 (by omega)) (fun j => yI _ _ (by omega) (by omega) (by omega)) (yI _ _ (by omega) (by omega) (by omega)) (fun j => yJ _ _) hI1, ?_, ?_, fun j hj => (yJ _ _).trans (hn1 j hj), fun j hj => (yJ _ _).trans (hn2 j hj)⟩
  · exact Ob_cg s1 (fun c hc => (e1 c (by omega)).1) (fun c hc => (e1 c (by omega)).2) (fun c j hc => e2 c j (by omega) (by omega))
  · exact RX_cg (X := gX m) s2 (by omega) (fun c hc => (e1 c hc).1) (fun c hc => (e1 c hc).2) (fun c j hc => e2 c j (by omega) (by omega)) (fun c j hc => e4 c j (by omega) (by omega) (by omega) (by omega))
  · exact St_same s3 (fun s hs => e1 _ (by omega)) (fun j => e2 _ j (by omega) (by omega))
  · exact St_same s4 (fun s hs => e1 _ (by omega)) (fun j => e2 _ j (by omega) (by omega))
  · rw [(e1 c (by omega)).1]; exact s7 c c1 c2
  · rw [gI_pZo (by omega)]
    exact if_pos ⟨rfl, rfl⟩
  · rw [gI_pYo (by omega), sn_23, hu'.2]
  · rcases id hk with ⟨c1, c2, c3, c4, c5⟩ | ⟨c1, c2, c3, c4, c5, c6⟩ | ⟨c1, c2, c3, c4, c5⟩
    · by_cases e : i = u
      · subst e
        exact ⟨a, R, t, by rw [e29, c5]; exact c2, hZa, hG, ySn _ _ (Sn_sn0 c1)⟩
      · obtain ⟨a', Q, t2, q1, q2, q3, q4⟩ := hU.2.2.2 i (by omega)
        exact ⟨a', Q, t2, by rw [e29, c5]; exact q1, hold i (by omega) a' Q q1 (by rw [if_pos c1]; exact e) q2, q3, ySn _ _ (Sn_sn c1 (by omega) q4)⟩
    · by_cases e : i = u
      · subst e
        exact ⟨a, R, t, by rw [e29, c6, c4]; exact if_pos rfl, hZa, hG, ySn _ _ (Sn_sn0 c1)⟩
      · obtain ⟨a', Q, t2, q1, q2, q3, q4⟩ := hU.2.2.2 i (by omega)
        exact ⟨a', Q, t2, by rw [e29, c6]; exact (if_neg e).trans q1, hold i (by omega) a' Q q1 (by rw [if_pos c1]; exact e) q2, q3, ySn _ _ (Sn_sn c1 (by omega) q4)⟩
    · subst c1
      by_cases e : i = 7
      · subst e
        exact ⟨a, R, t, by rw [e29, c5]; rfl, hZa, hG, ySn _ _ Sn_s87⟩
      · obtain ⟨a', Q, t2, q1, q2, q3, q4⟩ := hU.2.2.2 (i + 1) (by omega)
        exact ⟨a', Q, t2, by rw [e29, c5]; (try dsimp only); rw [if_pos (by omega)]; exact q1, hold (i + 1) (by omega) a' Q q1 (by rw [if_neg (by omega)]; omega) q2, q3, ySn _ _ (Sn_s8 (by omega) q4)⟩
  · rw [e2 x 34 (by omega) (by omega)]
    exact SeR_same hS (KF_Tr hKF) (fun j j1 _ => by rw [gI_pYh (by omega), sn_o (by omega) (by omega)])
  · exact Mo_22 (show (snpM mm y u R).2.2 = mm.2.2 by rw [sn_22]) hM
  · exact fun k hk => gI_pYi hk
end WK
