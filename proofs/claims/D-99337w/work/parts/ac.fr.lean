/-! THE WORLD: what stays -/
def scr (x c j : Nat) : Prop := (c = x ∧ j ≠ 14) ∨ c = x + 1 ∨ c = x + 2 ∨ (c = x + 14 ∧ j = 11) ∨ (x + 20 ≤ c ∧ c ≤ x + 25) ∨ ((c = x + 26 ∨ c = x + 27 ∨ c = x + 39) ∧ j ≠ 0) ∨ (x + 31 ≤ c ∧ c ≤ x + 38)
/-- the class' cells of no account apart, all stays -/
def XF (m m' : PM) (x : Nat) : Prop := gX m ≤ gX m' ∧ (∀ c, c < gX m ∨ 1000000 ≤ c → gK m' c = gK m c ∧ gN m' c = gN m c) ∧ (∀ c j, c < gX m ∨ 1000000 ≤ c → c ≠ x + 28 → ¬ (c = x + 26 ∧ j = 8) → gR m' c j = gR m c j) ∧ (∀ c j, c < gX m ∨ 1000000 ≤ c → ¬ (c = x + 2 ∨ c = x + 26 ∨ c = x + 27 ∨ c = x + 39) → gJ m' c j = gJ m c j) ∧ (∀ c j, c < gX m ∨ 1000000 ≤ c → ¬ scr x c j → gI m' c j = gI m c j)
section FR
variable {m m' m2 : PM} {x lo : Nat}
theorem XF_refl (m : PM) (x : Nat) : XF m m x := ⟨Nat.le_refl _, fun _ _ => ⟨rfl, rfl⟩, fun _ _ _ _ _ => rfl, fun _ _ _ _ => rfl, fun _ _ _ _ => rfl⟩
theorem XF_tr (h : XF m m' x) (h' : XF m' m2 x) : XF m m2 x := by
  obtain ⟨a1, a2, a3, a4, a5⟩ := h
  obtain ⟨b1, b2, b3, b4, b5⟩ := h'
  have o : ∀ c, c < gX m ∨ 1000000 ≤ c → c < gX m' ∨ 1000000 ≤ c := fun c hc => by omega
  exact ⟨by omega, fun c hc => ⟨(b2 c (o c hc)).1.trans (a2 c hc).1, (b2 c (o c hc)).2.trans (a2 c hc).2⟩, fun c j hc h1 h2 => (b3 c j (o c hc) h1 h2).trans (a3 c j hc h1 h2), fun c j hc h1 => (b4 c j (o c hc) h1).trans (a4 c j hc h1), fun c j hc h1 => (b5 c j (o c hc) h1).trans (a5 c j hc h1)⟩
theorem XF_I (hR : m'.2 = m.2) (h : ∀ c j, ¬ scr x c j → gI m' c j = gI m c j) : XF m m' x := by
  obtain ⟨i', q'⟩ := m'
  obtain ⟨i, q⟩ := m
  have hR : q' = q := hR
  subst hR
  exact ⟨Nat.le_refl _, fun _ _ => ⟨rfl, rfl⟩, fun _ _ _ _ _ => rfl, fun _ _ _ _ => rfl, fun c j _ hc => h c j hc⟩
theorem XF_sI {a k : Nat} {v : Int32} (h : scr x a k) : XF m (sI m a k v) x := XF_I rfl fun c j hc => by
  rw [gI_sI, if_neg (fun q => hc (by rw [q.1, q.2]; exact h))]
theorem XF_pZ {R : Rw} : XF m (pZ m (x + 20) R) x := XF_I rfl fun c j hc => by
  rw [gI_pZo]
  unfold scr at hc
  omega
theorem XF_wI {a : Nat} {f : Nat → Int32} (h : ∀ k, scr x a k) : XF m (wI m a f) x := XF_I rfl fun c j hc => by
  rw [gI_wI, if_neg (fun q => hc (by rw [q]; exact h j))]
theorem XF_nw {K N s : Nat} (h : gX m < 1000000) : XF m (nw m K N s) x := by
  refine ⟨by show gX m ≤ gX m + 1; omega, fun c hc => ⟨?_, ?_⟩, fun c j hc _ _ => ?_, fun c j hc _ => ?_, fun c j hc _ => ?_⟩
  · exact if_neg (show ¬ c = gX m by omega)
  · exact if_neg (show ¬ c = gX m by omega)
  · exact if_neg (show ¬ c = gX m by omega)
  · exact if_neg (show ¬ c = gX m by omega)
  · exact if_neg (show ¬ c = gX m by omega)
/-! shapes and contents under sameness -/
theorem St_same {z : Nat} (h : St m z) (hK : ∀ s, s ≤ 5 → gK m' (z + s) = gK m (z + s) ∧ gN m' (z + s) = gN m (z + s)) (hR : ∀ j, gR m' z j = gR m z j) : St m' z := by
  have k0 := hK 0 (by omega)
  have k1 := hK 1 (by omega)
  have k2 := hK 2 (by omega)
  have k3 := hK 3 (by omega)
  have k4 := hK 4 (by omega)
  have k5 := hK 5 (by omega)
  rw [Nat.add_zero] at k0
  unfold St at h ⊢
  simp only [k0, k1, k2, k3, k4, k5, hR]
  exact h
theorem Bo_same {z : Nat} (h : Bo m z) (hK : ∀ s, s ≤ 7 → gK m' (z + s) = gK m (z + s) ∧ gN m' (z + s) = gN m (z + s)) (hR : ∀ j, gR m' z j = gR m z j) : Bo m' z := by
  have k0 := hK 0 (by omega)
  have k1 := hK 1 (by omega)
  have k2 := hK 2 (by omega)
  have k3 := hK 3 (by omega)
  have k4 := hK 4 (by omega)
  have k5 := hK 5 (by omega)
  have k6 := hK 6 (by omega)
  have k7 := hK 7 (by omega)
  rw [Nat.add_zero] at k0
  unfold Bo at h ⊢
  simp only [k0, k1, k2, k3, k4, k5, k6, k7, hR]
  exact h
theorem Zr_same {z : Nat} {R : Rw} (h : Zr m z R) (e : ∀ s k, s ≤ 5 → ¬ (s = 0 ∧ k = 11) → gI m' (z + s) k = gI m (z + s) k) : Zr m' z R := fun s k hk => by
  have h2 := of_decide_eq_true hk
  rw [e s k (inr_lt hk) (by omega)]
  exact h s k hk
theorem Br_same {z : Nat} {R : Rw} (h : Br m z R) (e : ∀ s k, s ≤ 7 → gI m' (z + s) k = gI m (z + s) k) : Br m' z R := fun s k hk => by
  rw [e s k (inb_lt hk)]
  exact h s k hk
theorem SL_same (h : SL m x lo) (hX : gX m ≤ gX m') (h29 : ∀ j, gR m' (x + 29) j = gR m (x + 29) j) (h30 : ∀ j, gR m' (x + 30) j = gR m (x + 30) j) (h42 : ∀ j, gR m' (x + 42) j = gR m (x + 42) j) (hSt : ∀ a, St m a → lo ≤ a → a + 5 < gX m → St m' a) : SL m' x lo := by
  have hs : ∀ i, sl m' x i = sl m x i := fun i => by
    unfold sl
    rw [h29, h30, h42]
  intro i hi a ha
  rw [hs] at ha
  obtain ⟨q1, q2, q3, q4⟩ := h i hi a ha
  exact ⟨hSt a q1 q2 q3, q2, by omega, fun j hj hja => q4 j hj (by rw [← hs]; exact hja)⟩
theorem TrF_same {g : Nat → Int32} (hX : gX m ≤ gX m') (h : ∀ c, c < gX m → 16 ≤ gK m c → gK m c ≤ 20 → gK m' c = gK m c ∧ (∀ j, gR m' c j = gR m c j) ∧ (∀ j, gI m' c j = gI m c j)) : ∀ f c k, TrF m g f c k → TrF m' g f c k := by
  intro f
  induction f with
  | zero => intro c k hT; exact hT.elim
  | succ f ih =>
    intro c k hT
    obtain ⟨h0, hT⟩ := hT
    have hk : 16 ≤ gK m c ∧ gK m c ≤ 20 := by
      rcases hT with ⟨-, q, -⟩ | ⟨⟨-, q⟩ | ⟨-, q⟩, -⟩ | ⟨i, o, q, -⟩ | ⟨i, q', n, q, -⟩ <;> omega
    obtain ⟨e1, e2, e3⟩ := h c h0 hk.1 hk.2
    refine ⟨by omega, ?_⟩
    simp only [e1, e2, e3]
    rcases hT with ⟨q0, q, a, j, q1, q2, q3, q4⟩ | ⟨q, a, j, a', j', q1, q2, q3, q4, q5, q6, q7, q8⟩ | q | q
    · exact Or.inl ⟨q0, q, a, j, q1, q2, q3, ih _ _ q4⟩
    · exact Or.inr (Or.inl ⟨q, a, j, a', j', q1, q2, q3, q4, q5, q6, ih _ _ q7, ih _ _ q8⟩)
    · exact Or.inr (Or.inr (Or.inl q))
    · exact Or.inr (Or.inr (Or.inr q))
end FR
