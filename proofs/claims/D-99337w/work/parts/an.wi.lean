/-! THE WORLD: images; orders -/
def ImB (m m' : PM) (x lo k kc b : Nat) (R : Rw) : Prop :=
  (gX m ≤ gX m' ∧ gX m' ≤ gX m + 7 ∧ gS m' ≤ gS m + 91) ∧
  (∀ c, c < gX m ∨ 1000000 ≤ c → gK m' c = gK m c ∧ gN m' c = gN m c) ∧
  (∀ c j, c < gX m ∨ 1000000 ≤ c → ¬ (c = kc ∧ (j = 0 ∨ j = 2)) → ¬ (c = x + 42 ∧ j = k) → gR m' c j = gR m c j) ∧
  (∀ c j, c < gX m ∨ 1000000 ≤ c → gJ m' c j = gJ m c j) ∧
  (∀ c j, c < gX m ∨ 1000000 ≤ c → ¬ (kc + 1 ≤ c ∧ c ≤ kc + 6) → gI m' c j = gI m c j) ∧
  (gR m' (x + 42) k = some kc ∧ gK m' kc = 21 ∧ lo ≤ kc ∧ kc + 6 < gX m' ∧ gR m' kc 0 = some b ∧ gR m' kc 1 = some (kc + 1) ∧ gR m' kc 2 = gR m x 34) ∧ Zr m' (kc + 1) R ∧ SL m' x lo ∧
  (∀ i a', i < 18 → i ≠ 16 + k → sl m x i = some a' → a' + 5 < kc + 1 ∨ kc + 6 < a') ∧
  (∀ z, Bo m z → z + 7 < gX m → (z + 7 < kc + 1 ∨ kc + 6 < z) ∧ z ≠ kc) ∧
  (∀ c, c < gX m → kc ≤ c → c ≤ kc + 6 → gK m c = 4 ∨ gK m c = 100 ∨ (c = kc ∧ gK m c = 21))
section WI
variable {m mm m' mm' : PM} {x y lo b k kc : Nat} {B : Rw} {np nd lw : Nat} {NP ND : Nat → List Nat} {R : Rw} {t u : Nat}
theorem sl_16 {k kc : Nat} (h : gR m (x + 42) k = some kc) : sl m x (16 + k) = some (kc + 1) := by
  unfold sl
  rw [if_neg (by omega), if_neg (by omega), show 16 + k - 16 = k by omega, h]; rfl
theorem im_old (hs : ShC m x y lo) (hk : k < 2) (h1 : gR m (x + 42) k = some kc) (h2 : gK m kc = 21) (h3 : lo ≤ kc) (h4 : kc + 6 < gX m) (h5 : gR m kc 1 = some (kc + 1)) : ImB m (imM m x kc b R) x lo k kc b R := by
  obtain ⟨hOb, hRX, hSt, hSt2, hSL, hlo, hK16⟩ := hs
  obtain ⟨z1, z2, z3, z4⟩ := hSL (16 + k) (by omega) (kc + 1) (sl_16 h1)
  have eR : ∀ c j, gR (imM m x kc b R) c j = if c = kc ∧ j = 2 then gR m x 34 else if c = kc ∧ j = 0 then some b else gR m c j := fun c j => rfl
  have eI : ∀ c j, gI (imM m x kc b R) c j = gI (pZ m (kc + 1) R) c j := fun c j => rfl
  refine ⟨⟨Nat.le_refl _, by show gX m ≤ _; omega, by show gS m ≤ _; omega⟩, fun c hc => ⟨rfl, rfl⟩, fun c j hc q1 q2 => ?_, fun c j hc => rfl, fun c j hc q => ?_, ⟨?_, h2, h3, h4, ?_, ?_, ?_⟩, Zr_pZ _ _ _, ?_, fun i a' hi hne ha => ?_, fun z hz hzX => ⟨?_, ?_⟩, fun c hc c1 c2 => ?_⟩
  · rw [eR, if_neg (by omega), if_neg (by omega)]
  · rw [eI, gI_pZo (by omega)]
  · rw [eR, if_neg (by omega), if_neg (by omega)]; exact h1
  · rw [eR, if_neg (by omega), if_pos ⟨rfl, rfl⟩]
  · rw [eR, if_neg (by omega), if_neg (by omega)]; exact h5
  · rw [eR, if_pos ⟨rfl, rfl⟩]
  · refine SL_same hSL (Nat.le_refl _) (fun j => by rw [eR, if_neg (by omega), if_neg (by omega)]) (fun j => by rw [eR, if_neg (by omega), if_neg (by omega)]) (fun j => by rw [eR, if_neg (by omega), if_neg (by omega)]) (fun a q1 q2 q3 => St_same q1 (fun s hs => ⟨rfl, rfl⟩) (fun j => ?_))
    have hne : a ≠ kc := fun e => by
      have := St_K0 q1
      rw [e, h2] at this
      omega
    rw [eR, if_neg (fun z => hne z.1), if_neg (fun z => hne z.1)]
  · have q := (hSL i hi a' ha).1
    have hne : a' ≠ kc + 1 := fun e => by
      subst e
      have := z4 i hi ha
      omega
    have := St_St_dis q z1 hne
    omega
  · have := St_Bo_dis z1 hz
    omega
  · intro e
    have := Bo_K0 hz
    rw [e, h2] at this
    omega
  · rcases (show c = kc ∨ c = kc + 1 ∨ c = kc + 1 + 1 ∨ c = kc + 1 + 2 ∨ c = kc + 1 + 3 ∨ c = kc + 1 + 4 ∨ c = kc + 1 + 5 by omega) with rfl | rfl | rfl | rfl | rfl | rfl | rfl
    · exact Or.inr (Or.inr ⟨rfl, h2⟩)
    · exact Or.inl (St_K0 z1)
    · exact Or.inr (Or.inl (St_K1 z1))
    · exact Or.inr (Or.inl (St_K2 z1))
    · exact Or.inr (Or.inl (St_K3 z1))
    · exact Or.inr (Or.inl (St_K4 z1))
    · exact Or.inr (Or.inl (St_K5 z1))
theorem kpN_o {c : Nat} (h : c < gX m ∨ gX m + 7 ≤ c) : gK (kpN m) c = gK m c ∧ gN (kpN m) c = gN m c ∧ (∀ j, gR (kpN m) c j = gR m c j) ∧ (∀ j, gJ (kpN m) c j = gJ m c j) ∧ (∀ j, gI (kpN m) c j = gI m c j) := by
  have e : gX (nw m 21 0 3) = gX m + 1 := rfl
  have q := stN_o (m := nw m 21 0 3) (c := c) (by omega)
  refine ⟨q.1.trans ?_, q.2.1.trans ?_, fun j => ?_, fun j => (q.2.2.2.1 j).trans ?_, fun j => (q.2.2.2.2 j).trans ?_⟩
  · rw [gK_nw, if_neg (by omega)]
  · rw [gN_nw, if_neg (by omega)]
  · unfold kpN
    rw [gR_sR, if_neg (by omega), q.2.2.1 j, gR_nw, if_neg (by omega)]
  · rw [gJ_nw, if_neg (by omega)]
  · rw [gI_nw, if_neg (by omega)]
theorem im_new (hs : ShC m x y lo) (hk : k < 2) (h1 : gR m (x + 42) k = none) (hX : gX m + 8 < 900000) : ImB m (imM (imN m x k) x (gX m) b R) x lo k (gX m) b R := by
  obtain ⟨hOb, hRX, hSt, hSt2, hSL, hlo, hK16⟩ := hs
  have eR : ∀ c j, gR (imM (imN m x k) x (gX m) b R) c j = if c = gX m ∧ j = 2 then gR (imN m x k) x 34 else if c = gX m ∧ j = 0 then some b else if c = x + 42 ∧ j = k then some (gX m) else gR (kpN m) c j := fun c j => rfl
  have eI : ∀ c j, gI (imM (imN m x k) x (gX m) b R) c j = gI (pZ (kpN m) (gX m + 1) R) c j := fun c j => rfl
  have gXn : gX (imM (imN m x k) x (gX m) b R) = gX m + 7 := rfl
  have e34 : gR (imN m x k) x 34 = gR m x 34 := by rw [gR_imN (by omega), if_neg (by omega)]
  have eRo : ∀ c j, c < gX m ∨ 1000000 ≤ c → ¬ (c = x + 42 ∧ j = k) → gR (imM (imN m x k) x (gX m) b R) c j = gR m c j := fun c j hc hn => by
    rw [eR, if_neg (by omega), if_neg (by omega), if_neg hn]; exact (kpN_o (by omega)).2.2.1 j
  have hsl : ∀ i, i < 18 → i ≠ 16 + k → sl (imM (imN m x k) x (gX m) b R) x i = sl m x i := fun i hi hne => by
    unfold sl
    rw [eRo _ _ (by omega) (by omega), eRo _ _ (by omega) (by omega)]
    by_cases c : i < 16
    · by_cases c8 : i < 8
      · rw [if_pos c8, if_pos c8]
      · rw [if_neg c8, if_pos c, if_neg c8, if_pos c]
    · rw [if_neg (by omega), if_neg c, if_neg (by omega), if_neg c, eRo _ _ (by omega) (by omega)]
  have h42 : gR (imM (imN m x k) x (gX m) b R) (x + 42) k = some (gX m) := by
    rw [eR, if_neg (by omega), if_neg (by omega), if_pos ⟨rfl, rfl⟩]
  have hStn : St (imM (imN m x k) x (gX m) b R) (gX m + 1) := by
    refine St_same (kpN_St m) (fun s hs => ⟨rfl, rfl⟩) (fun j => ?_)
    rw [eR, if_neg (by omega), if_neg (by omega), if_neg (by omega)]
  refine ⟨⟨by rw [gXn]; omega, by rw [gXn]; omega, by show gS m + 3 + 12 + 42 + 6 + 7 + 7 + 7 ≤ _; omega⟩, fun c hc => ⟨(kpN_o (by omega)).1, (kpN_o (by omega)).2.1⟩, fun c j hc q1 q2 => eRo c j hc q2, fun c j hc => (kpN_o (by omega)).2.2.2.1 j, fun c j hc q => ?_, ⟨h42, kpN_K m, hlo.2.2.1, by rw [gXn]; omega, ?_, ?_, ?_⟩, Zr_pZ _ _ _, ?_, fun i a' hi hne ha => ?_, fun z hz hzX => ⟨Or.inl (by omega), by omega⟩, fun c hc c1 c2 => by omega⟩
  · rw [eI, gI_pZo (by omega)]; exact (kpN_o (by omega)).2.2.2.2 j
  · rw [eR, if_neg (by omega), if_pos ⟨rfl, rfl⟩]
  · rw [eR, if_neg (by omega), if_neg (by omega), if_neg (by omega)]; exact kpN_R m
  · rw [eR, if_pos ⟨rfl, rfl⟩]; exact e34
  · intro i hi a ha
    by_cases e : i = 16 + k
    · subst e
      rw [sl_16 h42] at ha
      cases ha
      refine ⟨hStn, by omega, by rw [gXn]; omega, fun j hj hja => ?_⟩
      by_cases e : j = 16 + k
      · exact e
      · rw [hsl j hj e] at hja
        have := (hSL j hj _ hja).2.2.1
        omega
    · rw [hsl i hi e] at ha
      obtain ⟨q1, q2, q3, q4⟩ := hSL i hi a ha
      refine ⟨St_same q1 (fun s hs => ⟨(kpN_o (by omega)).1, (kpN_o (by omega)).2.1⟩) (fun j => eRo _ _ (by omega) (by omega)), q2, by rw [gXn]; omega, fun j hj hja => ?_⟩
      by_cases e2 : j = 16 + k
      · subst e2
        rw [sl_16 h42] at hja
        cases hja
        omega
      · rw [hsl j hj e2] at hja
        exact q4 j hj hja
  · have := (hSL i hi a' ha).2.2.1
    omega
theorem op_image {k : Int32} : Op 54 237 [.int k] x y lo := by
  rintro m mm ⟨⟨b, B, np, nd, lw, NP, ND, R, t, u, hC⟩, hM, hD⟩ hX; obtain ⟨⟨hOb, hRX, hSt, hSt2, hSL, hlo, hK16⟩, hb, ⟨hBo, hBr, hB, hNP, hND, hbO, hbX⟩, hZ, hR, ⟨hu, hu8, huy, hUn⟩, hSe, hI0, hI1, hMo, hYr, hn1, hn2⟩ := id hC; have hbz : b + 7 < x + 14 ∨ x + 14 + 5 < b := (by omega)
  by_cases hk : inN 2 k = true
  · obtain ⟨k, hk2, rfl⟩ := (inN_iff (by omega)).mp hk
    have hcl : ∃ m' kc, ImB m m' x lo k kc b R ∧ ∀ r, (Run 210 54 [.ref x, .int (nI k)] m r ↔ r = ((0, some (.int 1)), m')) := by
      have hI : ImR m mm x y lo k := by
        rcases (show k = 0 ∨ k = 1 by omega) with rfl | rfl
        · exact hI0
        · exact hI1
      rcases hI with ⟨p1, p2⟩ | ⟨kc, b', B', np', nd', lw', NP', ND', Q, tq, ⟨a1, a2, a3, a4, a5, a6⟩, -⟩
      · have hB1 := im_new (b := b) (R := R) hC.1 hk2 p1 (by omega)
        have hc := fun r => c_imageN (r := r) (d := 210) (R := R) hOb hSt hb hk2 p1 (by omega) (by omega) (by omega)
        rw [pZ_of hZ, pZ_of (Zr_same hZ fun s k hs _ => hB1.2.2.2.2.1 _ _ (by omega) (by omega))] at hc
        exact ⟨_, _, hB1, hc⟩
      · obtain ⟨z1, z2, z3, z4⟩ := hSL (16 + k) (by omega) (kc + 1) (sl_16 a1)
        have hB1 := im_old (b := b) (R := R) hC.1 hk2 a1 a2 a3 a4 a6
        have hc := fun r => c_imageX (r := r) (d := 210) (R := R) hOb hSt hb hk2 a1 a2 a6 z1 (by omega) (by omega)
        rw [pZ_of hZ, pZ_of (Zr_same hZ fun s k hs _ => hB1.2.2.2.2.1 _ _ (by omega) (by omega))] at hc
        exact ⟨_, _, hB1, hc⟩
    obtain ⟨m', kc, ⟨⟨x1, x2, x3⟩, eK, eR, eJ, eI, ⟨n1, n2, n3, n4, n5, n6, n7⟩, hZk, hSL', hdis, hbo, hki⟩, hc⟩ := hcl
    have hq := fun r => q_image (r := r) (d := 210) hMo hk2 (by omega)
    obtain ⟨N, hN⟩ : ∃ N, N = sI (bJ (bW (sI mm y 0 0) (y + 4) (389 * k) 389 (gI mm (y + 2))) (y + 9) (13 * k) 13 (gJ mm (y + 7))) (y + 10) k 1 := ⟨_, rfl⟩
    have yI : ∀ c j, c ≠ y + 4 → c ≠ y + 10 → ¬ (c = y ∧ j = 0) → gI N c j = gI mm c j := fun c j h1 h2 h3 => by
      rw [hN, gI_sI, if_neg (by omega)]
      show gI (bW (sI mm y 0 0) (y + 4) (389 * k) 389 (gI mm (y + 2))) c j = _
      rw [gI_bWo h1, gI_sI, if_neg h3]
    have y4 : ∀ j, j < 389 → gI N (y + 4) (389 * k + j) = gI mm (y + 2) j := fun j hj => by
      rw [hN, gI_sI, if_neg (by omega)]
      show gI (bW (sI mm y 0 0) (y + 4) (389 * k) 389 (gI mm (y + 2))) (y + 4) (389 * k + j) = _
      rw [gI_bWi hj]
    have y4o : ∀ j, (j < 389 * k ∨ 389 * k + 389 ≤ j) → gI N (y + 4) j = gI mm (y + 4) j := fun j hj => by
      rw [hN, gI_sI, if_neg (by omega)]
      show gI (bW (sI mm y 0 0) (y + 4) (389 * k) 389 (gI mm (y + 2))) (y + 4) j = _
      rw [gI_bWx (by omega), gI_sI, if_neg (by omega)]
    have y10 : gI N (y + 10) k = 1 := by rw [hN]; exact if_pos ⟨rfl, rfl⟩
    have y10o : ∀ j, j ≠ k → gI N (y + 10) j = gI mm (y + 10) j := fun j hj => by
      rw [hN, gI_sI, if_neg (by omega)]
      show gI (bW (sI mm y 0 0) (y + 4) (389 * k) 389 (gI mm (y + 2))) (y + 10) j = _
      rw [gI_bWo (by omega), gI_sI, if_neg (by omega)]
    have yJ : ∀ c j, c ≠ y + 9 → gJ N c j = gJ mm c j := fun c j h1 => by
      rw [hN]; exact if_neg (fun z => h1 z.1)
    have y9 : ∀ j, j < 13 → gJ N (y + 9) (13 * k + j) = gJ mm (y + 7) j := fun j hj => by
      rw [hN]
      show (if y + 9 = y + 9 ∧ 13 * k ≤ 13 * k + j ∧ 13 * k + j < 13 * k + 13 then gJ mm (y + 7) (13 * k + j - 13 * k) else _) = _
      rw [if_pos ⟨rfl, by omega, by omega⟩, Nat.add_sub_cancel_left]
    have y9o : ∀ j, (j < 13 * k ∨ 13 * k + 13 ≤ j) → gJ N (y + 9) j = gJ mm (y + 9) j := fun j hj => by
      rw [hN]; exact if_neg (fun z => by omega)
    have hN2 : N.2.2 = mm.2.2 := by rw [hN]; rfl
    rw [← hN] at hq
    have hlo2 : x + 43 ≤ lo := by omega
    have hT : ∀ g f c k, TrF m g f c k → TrF m' g f c k := fun g => TrF_same x1 fun c h1 h2 h3 => by
      have hn : c < x ∨ x + 43 ≤ c := by
        by_cases e : c < x ∨ x + 43 ≤ c
        · exact e
        · exact absurd ⟨h2, by omega⟩ (hK16 c (by omega) (by omega))
      have hnk : ¬ (kc ≤ c ∧ c ≤ kc + 6) := fun q => by
        have := hki c h1 q.1 q.2
        omega
      exact ⟨(eK c (by omega)).1, fun j => eR c j (by omega) (by omega) (by omega), fun j => eI c j (by omega) (by omega)⟩
    have hBdk : ∀ z (B' : Rw) (np' nd' lw' : Nat) (NP' ND' : Nat → List Nat), BdC m x lo z B' np' nd' lw' NP' ND' → BdC m' x lo z B' np' nd' lw' NP' ND' := fun z B' np' nd' lw' NP' ND' h => by
      obtain ⟨p1, p2⟩ := hbo z h.1 h.2.2.2.2.2.2
      have h6 := h.2.2.2.2.2.1
      have h7 := h.2.2.2.2.2.2
      exact BdC_same h x1 (fun s hs => eK _ (by omega)) (fun j => eR z j (by omega) (by omega) (by omega)) (fun s k hs => eI _ _ (by omega) (by omega)) (fun s j _ _ => eJ _ _ (by omega))
    have hFC : FC m m' x lo := ⟨x1, by omega, by omega, fun c hc => ⟨(eK c (by omega)).1, (eK c (by omega)).2, fun j => eR c j (by omega) (by omega) (by omega), fun j => eJ c j (by omega), fun j => eI c j (by omega) (by omega)⟩⟩
    have hSe2 : SeR m' N (gR m x 34) (y + 2) 147 := SeR_same hSe hT (fun j _ _ => yI _ _ (by omega) (by omega) (by omega))
    have hIk : ImR m' N x y lo k := by
      have h7 := GB_n7 hB
      have h6 := GB_d6 hB
      refine Or.inr ⟨kc, b, B, np, nd, lw, NP, ND, R, t, ⟨n1, n2, n3, n4, n5, n6⟩, hBdk _ _ _ _ _ _ _ hC.2.2.1, hZk, hR, y10, fun j hj => ?_, fun j hj => ?_, fun j hj => ?_, ?_⟩
      · rw [y4 j (by omega)]; exact hYr j hj
      · rw [y9 j (by omega)]; exact hn1 j hj
      · rw [show 13 * k + 7 + j = 13 * k + (7 + j) by omega, y9 (7 + j) (by omega)]; exact hn2 j hj
      · rw [n7]
        rcases hSe with ⟨p1, p2⟩ | ⟨c, kk, g, p1, p2, p3, p4, p5, p6⟩
        · exact Or.inl ⟨p1, by rw [y4 147 (by omega)]; exact p2⟩
        · exact Or.inr ⟨c, kk, g, p1, p2, hT _ _ _ _ p3, by rw [y4 147 (by omega)]; exact p4, by rw [show 389 * k + 147 + 1 = 389 * k + 148 by omega, y4 148 (by omega)]; exact p5, fun j hj => by rw [show 389 * k + 147 + 2 + j = 389 * k + (147 + 2 + j) by omega, y4 _ (by omega)]; exact p6 j hj⟩
    have hIo : ∀ i, i < 2 → i ≠ k → ImR m mm x y lo i → ImR m' N x y lo i := fun i hi hne h => by
      rcases h with ⟨h1, h2⟩ | ⟨kc', b', B', np', nd', lw', NP', ND', Q, tq, ⟨a1, a2, a3, a4, a5, a6⟩, b1, b2, b3, b4, b5, b6, b7, b8⟩
      · exact Or.inl ⟨(eR _ _ (by omega) (by omega) (by omega)).trans h1, (y10o i hne).trans h2⟩
      · have hd := hdis (16 + i) (kc' + 1) (by omega) (by omega) (sl_16 a1)
        have h7 := GB_n7 b1.2.2.1
        have h6 := GB_d6 b1.2.2.1
        refine Or.inr ⟨kc', b', B', np', nd', lw', NP', ND', Q, tq, ⟨(eR _ _ (by omega) (by omega) (by omega)).trans a1, ((eK kc' (by omega)).1).trans a2, a3, by omega, (eR _ _ (by omega) (by omega) (by omega)).trans a5, (eR _ _ (by omega) (by omega) (by omega)).trans a6⟩, hBdk _ _ _ _ _ _ _ b1, Zr_same b2 (fun s k hs _ => eI _ _ (by omega) (by omega)), b3, (y10o i hne).trans b4, fun j hj => (y4o _ (by omega)).trans (b5 j hj), fun j hj => (y9o _ (by omega)).trans (b6 j hj), fun j hj => (y9o _ (by omega)).trans (b7 j hj), ?_⟩
        rw [eR kc' 2 (by omega) (by omega) (by omega)]
        exact SeR_same b8 hT (fun j _ _ => y4o _ (by omega))
    have hIall : ImR m' N x y lo 0 ∧ ImR m' N x y lo 1 := by
      rcases (show k = 0 ∨ k = 1 by omega) with rfl | rfl
      · exact ⟨hIk, hIo 1 (by omega) (by omega) hI1⟩
      · exact ⟨hIo 0 (by omega) (by omega) hI0, hIk⟩
    refine ⟨_, _, _, hc, hq, ⟨⟨b, B, np, nd, lw, NP, ND, R, t, u, ⟨?_, ?_, ?_, ?_, hSL', ⟨hlo.1, hlo.2.1, by omega, by omega⟩, fun c c1 c2 => ?_⟩, (eR _ _ (by omega) (by omega) (by omega)).trans hb, hBdk _ _ _ _ _ _ _ hC.2.2.1, Zr_same hZ (fun s k hs _ => eI _ _ (by omega) (by omega)), hR, ⟨(eI _ _ (by omega) (by omega)).trans hu, hu8, (yI _ _ (by omega) (by omega) (by omega)).trans huy, fun i hi => ?_⟩, ?_, hIall.1, hIall.2, Mo_22 hN2 hMo, fun k' hk' => (yI _ _ (by omega) (by omega) (by omega)).trans (hYr k' hk'), fun j hj => (yJ _ _ (by omega)).trans (hn1 j hj), fun j hj => (yJ _ _ (by omega)).trans (hn2 j hj)⟩, Mis_same hM (fun j hj => ?_) (fun i j hi => ?_) (fun j hj => ?_) (fun i j hi => ?_), DTb_FC hD (by omega) (by omega) hFC⟩, hFC, ⟨hN2, fun c hc => ⟨fun j => yJ _ _ (by omega), fun j => yI _ _ (by omega) (by omega) (by omega)⟩⟩⟩
    · exact Ob_cg hOb (fun c hc => (eK c (by omega)).1) (fun c hc => (eK c (by omega)).2) (fun c j hc => eR c j (by omega) (by omega) (by omega))
    · exact RX_cg (X := gX m) hRX (by omega) (fun c hc => (eK c hc).1) (fun c hc => (eK c hc).2) (fun c j hc => eR c j (by omega) (by omega) (by omega)) (fun c j hc => eI c j (by omega) (by omega))
    · exact St_same hSt (fun s hs => eK _ (by omega)) (fun j => eR _ j (by omega) (by omega) (by omega))
    · exact St_same hSt2 (fun s hs => eK _ (by omega)) (fun j => eR _ j (by omega) (by omega) (by omega))
    · rw [(eK c (by omega)).1]; exact hK16 c c1 c2
    · obtain ⟨a', Q, t2, p1, p2, p3, p4⟩ := hUn i hi
      obtain ⟨w1, w2, w3, w4⟩ := hSL i (by omega) a' (by rw [sl_8 (by omega)]; exact p1)
      have hd := hdis i a' (by omega) (by omega) (by rw [sl_8 (by omega)]; exact p1)
      exact ⟨a', Q, t2, (eR _ _ (by omega) (by omega) (by omega)).trans p1, Zr_same p2 (fun s k hs _ => eI _ _ (by omega) (by omega)), p3, fun k' hk' => (yI _ _ (by omega) (by omega) (by omega)).trans (p4 k' hk')⟩
    · rw [eR x 34 (by omega) (by omega) (by omega)]; exact hSe2
    · (try unfold mcx at *); (try unfold mcr at *); (try unfold mmx at *); (try unfold mmr at *); (try unfold mcx2 at *); (try unfold mcr2 at *); (try unfold mmx2 at *); (try unfold mmr2 at *); exact eI _ _ (by omega) (by omega)
    · (try unfold mcx at *); (try unfold mcr at *); (try unfold mmx at *); (try unfold mmr at *); (try unfold mcx2 at *); (try unfold mcr2 at *); (try unfold mmx2 at *); (try unfold mmr2 at *); exact eI _ _ (by omega) (by omega)
    · (try unfold mcx at *); (try unfold mcr at *); (try unfold mmx at *); (try unfold mmr at *); (try unfold mcx2 at *); (try unfold mcr2 at *); (try unfold mmx2 at *); (try unfold mmr2 at *); exact yI _ _ (by omega) (by omega) (by omega)
    · (try unfold mcx at *); (try unfold mcr at *); (try unfold mmx at *); (try unfold mmr at *); (try unfold mcx2 at *); (try unfold mcr2 at *); (try unfold mmx2 at *); (try unfold mmr2 at *); exact yI _ _ (by omega) (by omega) (by omega)
  · have hk : inN 2 k = false := by simpa using hk
    have hc := fun r => c_image0 (r := r) (d := 210) (k := k) hOb hk (by omega)
    have hq := fun r => q_image0 (r := r) (d := 210) (k := k) hMo hk (by omega)
    exact Swt_XY hC hD hX hc hq (XF_refl _ _) (by omega) (by omega) (YF_sI (by unfold ysc; omega)) (Mis_y0 hM)
theorem op_order : Op 26 189 [] x y lo := by
  rintro m mm ⟨⟨b, B, np, nd, lw, NP, ND, R, t, u, hC⟩, hM, hD⟩ hX; obtain ⟨⟨hOb, hRX, hSt, hSt2, hSL, hlo, hK16⟩, hb, ⟨hBo, hBr, hB, hNP, hND, hbO, hbX⟩, hZ, hR, ⟨hu, hu8, huy, hUn⟩, hSe, hI0, hI1, hMo, hYr, hn1, hn2⟩ := id hC; have hbz : b + 7 < x + 14 ∨ x + 14 + 5 < b := (by omega)
  obtain ⟨L, hL, hLv⟩ := liv_set (R := R) (GB_n hB) (GB_n7 hB)
  have hpc : ∀ L, L < 128 → pc7 L ≤ 7 := by decide +kernel
  have hp7 := hpc L (by have := p2_128 np (GB_n7 hB); omega)
  have hnl : nlO m x ≤ 8 := by
    unfold nlO
    exact List.countP_le_length (l := List.range 8)
  obtain ⟨N', S0, row0, many0, hG, ⟨o1, o2, o3, o4, o5, o6, o7, o8, o9⟩, hc⟩ := c_orderX (d := 210) (lo := lo) (R := R) ⟨hOb, hSL, hb, hBo, hBr, hbX, hlo.2.2.1, hbO, by omega⟩ hSt hB hR hL hLv (by omega) (by omega)
  obtain ⟨h', S1, row1, hq⟩ := q_order (d := 210) (r := ((0, none), m)) (R := R) hMo hB hR hL hLv (by omega)
  obtain ⟨s1, s2, s3⟩ := or_same (S := S0) (S' := S1) (row := row0) (row' := row1) (many := many0) (many' := 0) hB hR hL
  rw [pZ_of hZ] at hc hG
  rw [pY_of hYr] at hq
  generalize orF B np cpC (pc7 L) 0 L R (S0, nI 100000, row0, many0) = V at hc s1 s2 s3
  generalize orF B np cpM (pc7 L) 0 L R (S1, nI 1000000, row1, 0) = W at hq s1 s2
  obtain ⟨g1, g2, g3, g4, g5, g6, g7, g8, g9, g10⟩ := hG
  have gX1 : gX N' ≤ gX m + 48 := by omega
  have gS1 : gS N' ≤ gS m + 648 := by omega
  have eO : ∀ c, c < gX m ∨ 1000000 ≤ c → c < gX m ∨ (1000000 ≤ c ∧ gX N' ≤ 1000000) := fun c hc => by omega
  have eK : ∀ c, c < gX m ∨ 1000000 ≤ c → gK N' c = gK m c ∧ gN N' c = gN m c := fun c hc => g4 c (eO c hc)
  have eR : ∀ c j, c < gX m ∨ 1000000 ≤ c → c ≠ x + 30 → gR N' c j = gR m c j := fun c j hc hn => g3 c j (eO c hc) hn
  have eJ : ∀ c j, c < gX m ∨ 1000000 ≤ c → gJ N' c j = gJ m c j := fun c j hc => g2 c j (eO c hc)
  have hst : ∀ q a, q < 8 → gR m (x + 30) q = some a → St m a ∧ lo ≤ a ∧ a + 5 < gX m ∧ ∀ j, j < 18 → sl m x j = some a → j = 8 + q := fun q a h1 h2 => hSL (8 + q) (by omega) a (by rw [sl_o h1]; exact h2)
  have eI : ∀ c j, c < gX m ∨ 1000000 ≤ c → (∀ q a, q < 8 → gR m (x + 30) q = some a → ¬ (a ≤ c ∧ c ≤ a + 5)) → gI N' c j = gI m c j := fun c j hc h => g1 c j (eO c hc) h
  have eIl : ∀ c j, c < lo ∨ 1000000 ≤ c → gI N' c j = gI m c j := fun c j hc => eI c j (by omega) (fun q a h1 h2 => by have := hst q a h1 h2; omega)
  have eIs : ∀ i a', i < 18 → (i < 8 ∨ 16 ≤ i) → sl m x i = some a' → ∀ s k, s ≤ 5 → gI N' (a' + s) k = gI m (a' + s) k := fun i a' hi h8 ha s k hs => by
    obtain ⟨z1, z2, z3, z4⟩ := hSL i hi a' ha
    refine eI _ _ (by omega) (fun q a h1 h2 => ?_)
    obtain ⟨w1, w2, w3, w4⟩ := hst q a h1 h2
    have hne : a' ≠ a := fun e => by
      subst e
      have := w4 i hi ha
      omega
    have := St_St_dis z1 w1 hne
    omega
  have hKF : KF m N' x lo := by
    refine ⟨g8, eK, fun z hz hzX hzB => ⟨fun j => eR z j (by omega) (by omega), fun s k hs => ?_, fun s j _ _ => eJ _ _ (by omega)⟩, fun c hc c1 c2 => ?_, fun j => eR _ j (by omega) (by omega)⟩
    · refine eI _ _ (by omega) (fun q a h1 h2 => ?_)
      have := St_Bo_dis (hst q a h1 h2).1 hzB
      omega
    · have hn : c < x ∨ x + 43 ≤ c := by
        by_cases e : c < x ∨ x + 43 ≤ c
        · exact e
        · exact absurd ⟨c1, c2⟩ (hK16 c (by omega) (by omega))
      refine ⟨fun j => eR c j (by omega) (by omega), fun j => eI c j (by omega) (fun q a h1 h2 h3 => ?_)⟩
      obtain ⟨w1, w2, w3, w4⟩ := hst q a h1 h2
      rcases (show c = a ∨ c = a + 1 ∨ c = a + 2 ∨ c = a + 3 ∨ c = a + 4 ∨ c = a + 5 by omega) with e | e | e | e | e | e <;> subst e
      · rw [St_K0 w1] at c1; omega
      · rw [St_K1 w1] at c2; omega
      · rw [St_K2 w1] at c2; omega
      · rw [St_K3 w1] at c2; omega
      · rw [St_K4 w1] at c2; omega
      · rw [St_K5 w1] at c2; omega
  have hIm : ∀ i, i < 2 → ∀ kc Q, gR m (x + 42) i = some kc → lo ≤ kc → kc + 6 < gX m → Zr m (kc + 1) Q → Zr N' (kc + 1) Q := fun i hi kc Q h1 h2 h3 h4 => Zr_same h4 fun s k hs _ => eIs (16 + i) (kc + 1) (by omega) (by omega) (sl_16 h1) s k hs
  have hC' : Cor N' mm x y lo b B np nd lw NP ND R t u := by
    refine ⟨⟨o1, ?_, ?_, ?_, o2, ⟨hlo.1, hlo.2.1, by omega, by omega⟩, fun c c1 c2 => ?_⟩, o3, KF_Bd hKF hC.2.2.1, Zr_same hZ (fun s k hs _ => eIl _ _ (by omega)), hR, ⟨(eIl _ _ (by omega)).trans hu, hu8, huy, fun i hi => ?_⟩, ?_, KF_Im hKF (hIm 0 (by omega)) (fun _ => rfl) rfl (fun _ => rfl) hI0, KF_Im hKF (hIm 1 (by omega)) (fun _ => rfl) rfl (fun _ => rfl) hI1, hMo, hYr, hn1, hn2⟩
    · exact RX_cg (X := gX m) hRX (by omega) (fun c hc => (eK c hc).1) (fun c hc => (eK c hc).2) (fun c j hc => eR c j (by omega) (by omega)) (fun c j hc => eIl c j (by omega))
    · exact St_same hSt (fun s hs => eK _ (by omega)) (fun j => eR _ j (by omega) (by omega))
    · exact St_same hSt2 (fun s hs => eK _ (by omega)) (fun j => eR _ j (by omega) (by omega))
    · rw [(eK c (by omega)).1]; exact hK16 c c1 c2
    · obtain ⟨a', Q, t2, p1, p2, p3, p4⟩ := hUn i hi
      exact ⟨a', Q, t2, (eR _ _ (by omega) (by omega)).trans p1, Zr_same p2 (fun s k hs _ => eIs i a' (by omega) (by omega) (by rw [sl_8 (by omega)]; exact p1) s k hs), p3, p4⟩
    · rw [eR x 34 (by omega) (by omega)]
      exact SeR_same hSe (KF_Tr hKF) (fun _ _ _ => rfl)
  have hF : XF N' (ov (sI N' x 19 V.2.2.2) (x + 31) (x + 32) x 18 V.1 V.2.2.1 V.2.1) x := XF_tr (XF_sI (by unfold scr; omega)) (XF_ov (fun k => by unfold scr; omega) (fun k => by unfold scr; omega) (by unfold scr; omega))
  have hY : YF mm (ov (wI (sI (sI mm y 0 0) y 29 (nI (pc7 L))) (y + 13) h') (y + 11) (y + 12) y 30 W.1 W.2.2.1 W.2.1) y := YF_tr (YF_tr (YF_tr (YF_sI (by unfold ysc; omega)) (YF_sI (by unfold ysc; omega))) (YF_wI (fun k => by unfold ysc; omega))) (YF_ov (fun k => by unfold ysc; omega) (fun k => by unfold ysc; omega) (by unfold ysc; omega))
  rw [YF_pY hY hYr, ← s1] at hq
  have hFC1 : FC N' (ov (sI N' x 19 V.2.2.2) (x + 31) (x + 32) x 18 V.1 V.2.2.1 V.2.1) x lo := XF_FC hF (by omega) (by show gX N' ≤ _; omega) (by show gS N' ≤ _; omega) (by omega)
  have hFC : FC m (ov (sI N' x 19 V.2.2.2) (x + 31) (x + 32) x 18 V.1 V.2.2.1 V.2.1) x lo := ⟨Nat.le_trans g8 hFC1.1, by show gX N' ≤ _; omega, by show gS N' ≤ _; omega, fun c hc => ⟨((hFC1.2.2.2 c hc).1).trans (eK c (by omega)).1, ((hFC1.2.2.2 c hc).2.1).trans (eK c (by omega)).2, fun j => ((hFC1.2.2.2 c hc).2.2.1 j).trans (eR c j (by omega) (by omega)), fun j => ((hFC1.2.2.2 c hc).2.2.2.1 j).trans (eJ c j (by omega)), fun j => ((hFC1.2.2.2 c hc).2.2.2.2 j).trans (eIl c j (by omega))⟩⟩
  have xI : ∀ c j, c < lo → c ≠ x + 31 → c ≠ x + 32 → ¬ (c = x ∧ (j = 18 ∨ j = 19)) → gI (ov (sI N' x 19 V.2.2.2) (x + 31) (x + 32) x 18 V.1 V.2.2.1 V.2.1) c j = gI m c j := fun c j h1 h2 h3 h4 => by
    rw [gI_ov, if_neg (by omega), if_neg h3, if_neg h2, gI_sI, if_neg (by omega)]; exact eIl c j (by omega)
  refine ⟨_, _, _, hc, hq, ⟨⟨b, B, np, nd, lw, NP, ND, R, t, u, Cor_XY hC' hF (by show gX N' < _; omega) (s1 ▸ hY)⟩, ⟨Tp_same hM.1 (xI _ _ (by omega) (by omega) (by omega) (by omega)) (fun k => xI _ _ (by omega) (by omega) (by omega) (by omega)) ?_ (fun k => ?_), ?_, ⟨pc7 L, hp7, Or.inl ?_, ?_, fun k hk => ?_⟩, Ea_same hM.2.2.2.1 (xI _ _ (by omega) (by omega) (by omega) (by omega)) (xI _ _ (by omega) (by omega) (by omega) (by omega)) (xI _ _ (by omega) (by omega) (by omega) (by omega)) ?_ ?_, St_sameR hM.2.2.2.2.1 (xI _ _ (by omega) (by omega) (by omega) (by omega)) (fun k => xI _ _ (by omega) (by omega) (by omega) (by omega)) ?_ (fun k => ?_), Tx_same hM.2.2.2.2.2.1 (xI _ _ (by omega) (by omega) (by omega) (by omega)) (fun k => xI _ _ (by omega) (by omega) (by omega) (by omega)) ?_ (fun k => ?_), To_same hM.2.2.2.2.2.2 (xI _ _ (by omega) (by omega) (by omega) (by omega)) (fun k => xI _ _ (by omega) (by omega) (by omega) (by omega)) ?_ (fun k => ?_)⟩, DTb_FC hD (by omega) (by omega) hFC⟩, hFC, YF_FM (s1 ▸ hY)⟩
  all_goals first
    | (simp (disch := omega) only [gI_ov, gI_sI, gI_wI, if_neg]; done)
    | skip
  · rw [xI _ _ (by omega) (by omega) (by omega) (by omega)]
    simp (disch := omega) only [gI_ov, gI_sI, gI_wI, if_neg]
    exact hM.2.1
  · simp (disch := omega) only [gI_ov, gI_sI, gI_wI, if_pos, if_neg, and_self, if_true]
    exact s3
  · simp (disch := omega) only [gI_ov, gI_sI, gI_wI, if_pos, if_neg, and_self, if_true]
  · simp (disch := omega) only [gI_ov, gI_sI, gI_wI, if_pos, if_neg, and_self, if_true]
    exact s2 k hk
end WI
