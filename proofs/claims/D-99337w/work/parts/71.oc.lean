/-! ORDERS, the class: memory grows by States -/
def nlO (N : PM) (x : Nat) : Nat := (List.range 8).countP (fun j => (gR N (x + 30) j).isNone)
/-- from N to N' only States of deeper orders were written or made -/
def Gw (x i : Nat) (N N' : PM) : Prop :=
  (∀ c j, c < gX N ∨ (1000000 ≤ c ∧ gX N' ≤ 1000000) → (∀ q a, i < q → q < 8 → gR N (x + 30) q = some a → ¬ (a ≤ c ∧ c ≤ a + 5)) → gI N' c j = gI N c j) ∧
  (∀ c j, c < gX N ∨ (1000000 ≤ c ∧ gX N' ≤ 1000000) → gJ N' c j = gJ N c j) ∧
  (∀ c j, c < gX N ∨ (1000000 ≤ c ∧ gX N' ≤ 1000000) → c ≠ x + 30 → gR N' c j = gR N c j) ∧
  (∀ c, c < gX N ∨ (1000000 ≤ c ∧ gX N' ≤ 1000000) → gK N' c = gK N c ∧ gN N' c = gN N c) ∧
  (∀ j a, gR N (x + 30) j = some a → gR N' (x + 30) j = some a) ∧
  (∀ j, j ≤ i ∨ 8 ≤ j → gR N' (x + 30) j = gR N (x + 30) j) ∧
  (∀ j a, gR N (x + 30) j = none → gR N' (x + 30) j = some a → gX N ≤ a ∧ a + 5 < gX N') ∧
  gX N ≤ gX N' ∧ gX N' + 6 * nlO N' x = gX N + 6 * nlO N x ∧ gS N' + 81 * nlO N' x = gS N + 81 * nlO N x
theorem Gw_refl (x i : Nat) (N : PM) : Gw x i N N := ⟨fun _ _ _ _ => rfl, fun _ _ _ => rfl, fun _ _ _ _ => rfl, fun _ _ => ⟨rfl, rfl⟩, fun _ _ h => h, fun _ _ => rfl, fun _ _ h h2 => (by rw [h] at h2; cases h2), Nat.le_refl _, rfl, rfl⟩
theorem Gw_trans {x i : Nat} {N N' N'' : PM} (h : Gw x i N N') (h' : Gw x i N' N'') : Gw x i N N'' := by
  obtain ⟨a1, a2, a3, a4, a5, a6, a7, a8, a9, a10⟩ := h
  obtain ⟨b1, b2, b3, b4, b5, b6, b7, b8, b9, b10⟩ := h'
  refine ⟨fun c j hc hq => ?_, fun c j hc => ?_, fun c j hc hne => ?_, fun c hc => ?_, fun j a h => b5 j a (a5 j a h), fun j hj => ?_, fun j a h1 h2 => ?_, by omega, by omega, by omega⟩
  · rw [b1 c j (by omega) (fun q a h1 h2 h3 => ?_), a1 c j (by omega) hq]
    cases hN : gR N (x + 30) q with
    | none =>
      have := a7 q a hN h3
      omega
    | some a' =>
      have e := a5 q a' hN
      rw [h3] at e
      cases e
      exact hq q a h1 h2 hN
  · rw [b2 c j (by omega), a2 c j (by omega)]
  · rw [b3 c j (by omega) hne, a3 c j (by omega) hne]
  · constructor
    · rw [(b4 c (by omega)).1, (a4 c (by omega)).1]
    · rw [(b4 c (by omega)).2, (a4 c (by omega)).2]
  · rw [b6 j hj, a6 j hj]
  · cases hN : gR N' (x + 30) j with
    | none =>
      have := b7 j a hN h2
      omega
    | some a' =>
      have e := b5 j a' hN
      rw [h2] at e
      cases e
      have := a7 j a h1 hN
      omega
theorem Gw_mono {x i i' : Nat} {N N' : PM} (hi : i ≤ i') (h : Gw x i' N N') : Gw x i N N' := by
  obtain ⟨a1, a2, a3, a4, a5, a6, a7, a8, a9, a10⟩ := h
  exact ⟨fun c j hc hq => a1 c j hc (fun q a h1 h2 h3 => hq q a (by omega) h2 h3), a2, a3, a4, a5, fun j hj => a6 j (by omega), a7, a8, a9, a10⟩
/-- what stands all along -/
def OI (N : PM) (x lo b : Nat) (B : Rw) : Prop := Ob N x ∧ SL N x lo ∧ gR N x 7 = some b ∧ Bo N b ∧ Br N b B ∧ b + 7 < gX N ∧ lo ≤ gX N ∧ (b = x + 6 ∨ lo ≤ b) ∧ x + 43 ≤ lo
theorem sl_o {m : PM} {x q : Nat} (h : q < 8) : sl m x (8 + q) = gR m (x + 30) q := by
  unfold sl
  rw [if_neg (by omega), if_pos (by omega), Nat.add_sub_cancel_left]
theorem Gw_Zr {x i lo q0 a : Nat} {N N' : PM} {R : Rw} (h : Gw x i N N') (hSL : SL N x lo) (hq0 : q0 ≤ i) (hi : i < 8) (ha : gR N (x + 30) q0 = some a) (hZ : Zr N a R) : Zr N' a R := by
  intro s k hk
  have hs := inr_lt hk
  have h0 := hSL (8 + q0) (by omega) a (by rw [sl_o (by omega)]; exact ha)
  rw [h.1 (a + s) k (by omega) (fun q a' h1 h2 h3 => ?_)]
  · exact hZ s k hk
  · have h4 := hSL (8 + q) (by omega) a' (by rw [sl_o (by omega)]; exact h3)
    have hne : a ≠ a' := fun e => by
      subst e
      have := h4.2.2.2 (8 + q0) (by omega) (by rw [sl_o (by omega)]; exact ha)
      omega
    have := St_St_dis h0.1 h4.1 hne
    omega
theorem St_Gw {x i z : Nat} {N N' : PM} (h : Gw x i N N') (hS : St N z) (hz : z + 5 < gX N) (hne : z ≠ x + 30) : St N' z := by
  unfold St at hS ⊢
  have k := fun s (hs : z + s < gX N) => h.2.2.2.1 (z + s) (Or.inl hs)
  have r := fun j => h.2.2.1 z j (by omega) hne
  rw [(h.2.2.2.1 z (by omega)).1, (k 1 (by omega)).1, (k 1 (by omega)).2, (k 2 (by omega)).1, (k 2 (by omega)).2, (k 3 (by omega)).1, (k 3 (by omega)).2, (k 4 (by omega)).1, (k 4 (by omega)).2, (k 5 (by omega)).1, (k 5 (by omega)).2, r, r, r, r, r]
  exact hS
/-- a State written -/
theorem pZ_Gw {x i a : Nat} {N : PM} {Q : Rw} (hi : i + 1 < 8) (ha : gR N (x + 30) (i + 1) = some a) : Gw x i N (pZ N a Q) := by
  refine ⟨fun c j hc hq => ?_, fun _ _ _ => rfl, fun _ _ _ _ => rfl, fun _ _ => ⟨rfl, rfl⟩, fun _ _ h => h, fun _ _ => rfl, fun j a' h h2 => ?_, Nat.le_refl _, rfl, rfl⟩
  · have := hq (i + 1) a (by omega) hi ha
    exact gI_pZo (by omega)
  · have h2 : gR N (x + 30) j = some a' := h2
    rw [h] at h2
    cases h2
theorem pZ_OI {x lo b a k : Nat} {B Q : Rw} {N : PM} (h : OI N x lo b B) (hk : k < 18) (ha : sl N x k = some a) : OI (pZ N a Q) x lo b B := by
  obtain ⟨h1, h2, h3, h4, h5, h6, h7, h8, h9⟩ := h
  have hS := (h2 k hk a ha).1
  have hd := St_Bo_dis hS h4
  exact ⟨h1, h2, h3, h4, Br_pZ h5 (by omega), h6, h7, h8, h9⟩
/-- a new State for the next order -/
def alO (N : PM) (x i : Nat) : PM := sR (stN N) (x + 30) i (some (gX N))
theorem stN_o {m : PM} {c : Nat} (h : c < gX m ∨ gX m + 6 ≤ c) : gK (stN m) c = gK m c ∧ gN (stN m) c = gN m c ∧ (∀ j, gR (stN m) c j = gR m c j) ∧ (∀ j, gJ (stN m) c j = gJ m c j) ∧ (∀ j, gI (stN m) c j = gI m c j) := by
  refine ⟨?_, ?_, fun j => ?_, fun j => ?_, fun j => ?_⟩ <;> simp (disch := omega) only [stN, gI_sR, gI_nw, gJ_sR, gJ_nw, gR_sR, gR_nw, gK_sR, gK_nw, gN_sR, gN_nw, gX_sR, gX_nw, if_pos, if_neg]
theorem gR_alO {N : PM} {x i c j : Nat} (hc : c < gX N) : gR (alO N x i) c j = if c = x + 30 ∧ j = i then some (gX N) else gR N c j := by
  unfold alO
  rw [gR_sR]
  split
  · rfl
  · exact gR_stN hc
theorem nl_alO {N : PM} {x i : Nat} (hx : x + 30 < gX N) (hi : i < 8) (ha : gR N (x + 30) i = none) : nlO (alO N x i) x + 1 = nlO N x := by
  have key : ∀ (f g : Nat → Bool), f i = true → g i = false → (∀ j, j ≠ i → g j = f j) → (List.range 8).countP g + 1 = (List.range 8).countP f := by
    intro f g h1 h2 h3
    have hc : i = 0 ∨ i = 1 ∨ i = 2 ∨ i = 3 ∨ i = 4 ∨ i = 5 ∨ i = 6 ∨ i = 7 := by omega
    have e : List.range 8 = [0, 1, 2, 3, 4, 5, 6, 7] := by decide
    rw [e]
    simp only [List.countP_cons, List.countP_nil]
    rcases hc with rfl | rfl | rfl | rfl | rfl | rfl | rfl | rfl
    all_goals
      have a0 : ∀ j, j ≠ _ → g j = f j := h3
      simp (disch := omega) only [h1, h2, a0]
      simp only [if_true, Bool.false_eq_true, if_false]
      try omega
  unfold nlO
  refine key _ _ ?_ ?_ (fun j hj => ?_)
  · rw [ha]; rfl
  · rw [gR_alO hx, if_pos ⟨rfl, rfl⟩]; rfl
  · rw [gR_alO hx, if_neg (fun q => hj q.2)]
theorem alO_Gw {x i : Nat} {N : PM} (hx : x + 30 < gX N) (hi : i + 1 < 8) (ha : gR N (x + 30) (i + 1) = none) : Gw x i N (alO N x (i + 1)) := by
  have hn := nl_alO hx hi ha
  have eX : gX (alO N x (i + 1)) = gX N + 6 := rfl
  refine ⟨fun c j hc hq => (stN_o (by omega)).2.2.2.2 j, fun c j hc => (stN_o (by omega)).2.2.2.1 j, fun c j hc hne => ?_, fun c hc => ⟨(stN_o (by omega)).1, (stN_o (by omega)).2.1⟩, fun j a h => ?_, fun j hj => ?_, fun j a h1 h2 => ?_, ?_, ?_, ?_⟩
  · unfold alO
    rw [gR_sR, if_neg (fun q => hne q.1)]
    exact (stN_o (by omega)).2.2.1 j
  · rw [gR_alO hx, if_neg (fun q => by rw [q.2, ha] at h; cases h)]; exact h
  · rw [gR_alO hx, if_neg (by omega)]
  · rw [gR_alO hx] at h2
    split at h2
    · cases h2; exact ⟨Nat.le_refl _, by omega⟩
    · rw [h1] at h2; cases h2
  · show gX N ≤ gX N + 6; omega
  · show gX N + 6 + _ = _; omega
  · show gS N + 12 + 42 + 6 + 7 + 7 + 7 + _ = _; omega
theorem St_alO {x i z : Nat} {N : PM} (h : St N z) (hz : z + 5 < gX N) (hne : z ≠ x + 30) : St (alO N x i) z := by
  unfold St alO at *
  simp (disch := omega) only [gK_sR, gN_sR, gR_sR, gK_stN, gN_stN, gR_stN, if_neg]
  exact h
theorem St_alN {x i : Nat} {N : PM} (hx : x + 30 < gX N) : St (alO N x i) (gX N) := by
  have h := stN_St N
  unfold St alO at *
  simp (disch := omega) only [gK_sR, gN_sR, gR_sR, if_neg]
  exact h
theorem alO_OI {x lo b i : Nat} {B : Rw} {N : PM} (h : OI N x lo b B) (hi : i < 8) (ha : gR N (x + 30) i = none) : OI (alO N x i) x lo b B := by
  obtain ⟨h1, h2, h3, h4, h5, h6, h7, h8, h9⟩ := h
  have hx : x + 42 < gX N := by omega
  have hbne : b ≠ x + 30 := Bo_x h4 (Ob_K30 h1)
  refine ⟨?_, ?_, ?_, ?_, ?_, ?_, ?_, h8, h9⟩
  · have q := Ob_stN h1 hx
    unfold Ob alO at *
    simp (disch := omega) only [gK_sR, gN_sR, gR_sR, if_neg]
    exact q
  · have es : ∀ k a, k < 18 → sl (alO N x i) x k = some a → (k = 8 + i ∧ a = gX N) ∨ (k ≠ 8 + i ∧ sl N x k = some a) := by
      intro k a hk e
      unfold sl at e ⊢
      by_cases c1 : k < 8
      · rw [if_pos c1] at e ⊢
        rw [gR_alO (by omega), if_neg (by omega)] at e
        exact Or.inr ⟨by omega, e⟩
      · rw [if_neg c1] at e ⊢
        by_cases c2 : k < 16
        · rw [if_pos c2] at e ⊢
          rw [gR_alO (by omega)] at e
          by_cases c3 : k - 8 = i
          · rw [if_pos ⟨rfl, c3⟩] at e
            cases e
            exact Or.inl ⟨by omega, rfl⟩
          · rw [if_neg (by omega)] at e
            exact Or.inr ⟨by omega, e⟩
        · rw [if_neg c2] at e ⊢
          rw [gR_alO (by omega), if_neg (by omega)] at e
          exact Or.inr ⟨by omega, e⟩
    intro k hk a e
    rcases es k a hk e with ⟨q1, q2⟩ | ⟨q1, q2⟩
    · subst q2
      refine ⟨St_alN (by omega), by omega, by show gX N + 5 < gX N + 6; omega, fun j hj e2 => ?_⟩
      rcases es j _ hj e2 with ⟨p1, p2⟩ | ⟨p1, p2⟩
      · omega
      · have := (h2 j hj _ p2).2.2.1
        omega
    · have g := h2 k hk a q2
      refine ⟨St_alO g.1 g.2.2.1 (by omega), g.2.1, by show a + 5 < gX N + 6; have := g.2.2.1; omega, fun j hj e2 => ?_⟩
      rcases es j _ hj e2 with ⟨p1, p2⟩ | ⟨p1, p2⟩
      · have := g.2.2.1; omega
      · exact g.2.2.2 j hj p2
  · rw [gR_alO (by omega), if_neg (by omega)]; exact h3
  · have q := Bo_stN h4 h6
    unfold Bo alO at *
    simp (disch := omega) only [gK_sR, gN_sR, gR_sR, if_neg]
    exact q
  · exact fun s k hk => Br_stN h5 h6 s k hk
  · show b + 7 < gX N + 6; omega
  · show lo ≤ gX N + 6; omega
/-! how the laid-over rows lie over States -/
theorem pZ_ov {m : PM} {c0 c1 x kb a : Nat} {S row : Nat → Int32} {best : Int32} {R : Rw} (h0 : c0 < a) (h1 : c1 < a) (hx : x < a) : pZ (ov m c0 c1 x kb S row best) a R = ov (pZ m a R) c0 c1 x kb S row best := by
  refine Prod.ext ?_ rfl
  funext c j
  show (if a ≤ c ∧ inr (c - a) j = true then R (c - a) j else if c = x ∧ j = kb then best else if c = c1 then row j else if c = c0 then S j else m.1 c j) = (if c = x ∧ j = kb then best else if c = c1 then row j else if c = c0 then S j else if a ≤ c ∧ inr (c - a) j = true then R (c - a) j else m.1 c j)
  by_cases q : a ≤ c ∧ inr (c - a) j = true
  · rw [if_pos q, if_neg (by omega), if_neg (by omega), if_neg (by omega), if_pos q]
  · simp only [if_neg q]
theorem stN_ov {m : PM} {c0 c1 x kb : Nat} {S row : Nat → Int32} {best : Int32} (h0 : c0 < gX m) (h1 : c1 < gX m) (hx : x < gX m) : stN (ov m c0 c1 x kb S row best) = ov (stN m) c0 c1 x kb S row best := by
  refine Prod.ext ?_ rfl
  funext c j
  show gI (stN (ov m c0 c1 x kb S row best)) c j = gI (ov (stN m) c0 c1 x kb S row best) c j
  by_cases h3 : c < gX m
  · rw [gI_stN (show c < gX (ov m c0 c1 x kb S row best) from h3), gI_ov, gI_ov, gI_stN h3]
  · rw [gI_ov, if_neg (by omega), if_neg (by omega), if_neg (by omega)]
    show (if c = gX m + 5 then (0 : Int32) else if c = gX m + 4 then 0 else if c = gX m + 3 then 0 else if c = gX m + 2 then 0 else if c = gX m + 1 then 0 else if c = gX m then 0 else gI (ov m c0 c1 x kb S row best) c j) = (if c = gX m + 5 then (0 : Int32) else if c = gX m + 4 then 0 else if c = gX m + 3 then 0 else if c = gX m + 2 then 0 else if c = gX m + 1 then 0 else if c = gX m then 0 else gI m c j)
    have e : gI (ov m c0 c1 x kb S row best) c j = gI m c j := by rw [gI_ov, if_neg (by omega), if_neg (by omega), if_neg (by omega)]
    rw [e]
theorem stN_sI {m : PM} {x k : Nat} {v : Int32} (hx : x < gX m) : stN (sI m x k v) = sI (stN m) x k v := by
  refine Prod.ext ?_ rfl
  funext c j
  show gI (stN (sI m x k v)) c j = gI (sI (stN m) x k v) c j
  by_cases h3 : c < gX m
  · rw [gI_stN (show c < gX (sI m x k v) from h3), gI_sI, gI_sI, gI_stN h3]
  · rw [gI_sI, if_neg (by omega)]
    show (if c = gX m + 5 then (0 : Int32) else if c = gX m + 4 then 0 else if c = gX m + 3 then 0 else if c = gX m + 2 then 0 else if c = gX m + 1 then 0 else if c = gX m then 0 else gI (sI m x k v) c j) = (if c = gX m + 5 then (0 : Int32) else if c = gX m + 4 then 0 else if c = gX m + 3 then 0 else if c = gX m + 2 then 0 else if c = gX m + 1 then 0 else if c = gX m then 0 else gI m c j)
    have e : gI (sI m x k v) c j = gI m c j := by rw [gI_sI, if_neg (by omega)]
    rw [e]
