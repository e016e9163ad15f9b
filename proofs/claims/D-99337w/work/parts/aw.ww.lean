/-! THE WORLD: wills; persons -/
section WW
variable {x y lo : Nat}
theorem op_will {p : Int32} : Op 43 209 [.int p] x y lo := by
  rintro m mm ⟨⟨b, B, np, nd, lw, NP, ND, R, t, u, hC⟩, hM, hD⟩ hX; obtain ⟨⟨hOb, hRX, hSt, hSt2, hSL, hlo, hK16⟩, hb, ⟨hBo, hBr, hB, hNP, hND, hbO, hbX⟩, hZ, hR, ⟨hu, hu8, huy, hUn⟩, hSe, hI0, hI1, hMo, hYr, hn1, hn2⟩ := id hC; have hbz : b + 7 < x + 14 ∨ x + 14 + 5 < b := (by omega)
  by_cases hp : inN np p = true
  · have h7 := GB_n7 hB
    obtain ⟨p, hpn, rfl⟩ := (inN_iff (by omega)).mp hp
    obtain ⟨N, hN, hon⟩ := on_nat hR (show p < 7 by omega)
    obtain ⟨lh, hlh, hll⟩ : ∃ lh : List Nat, ((∃ h, heirF B R np p (R 0 6 ||| R 0 7) = some h ∧ lh = (NP h).reverse) ∨ (heirF B R np p (R 0 6 ||| R 0 7) = none ∧ lh = kwS 31)) ∧ lh.length ≤ 7 := by
      cases hh : heirF B R np p (R 0 6 ||| R 0 7) with
      | none => exact ⟨kwS 31, Or.inr ⟨rfl, rfl⟩, by decide⟩
      | some h => exact ⟨(NP h).reverse, Or.inl ⟨h, rfl, rfl⟩, by rw [List.length_reverse]; exact (hNP h (heirF_lt hh)).2.2.2⟩
    have hq := fun r => q_willX (r := r) (d := 210) (NP := NP) hMo hYr hB (fun k hk => (hNP k hk).2) hn1 hpn hN hon hlh (by omega)
    have hlen : (wlL (NP p) N lh).length ≤ 48 := by
      have h1 := (hNP p hpn).2.2.2
      have h2 := (dgs_len (n := N)).2
      have k1 : (kwS 28).length = 8 := rfl
      have k2 : (kwS 29).length = 7 := rfl
      have k3 : (kwS 30).length = 4 := rfl
      unfold wlL
      by_cases h0 : N = 0
      · rw [if_pos h0, List.length_append, List.length_reverse, List.length_append]
        omega
      · rw [if_neg h0, List.length_append, List.length_reverse, List.length_append, List.length_append, List.length_append]
        omega
    have hY : YF mm (txM (sI mm y 0 0) (y + 18) y 40 (wlL (NP p) N lh).length (ap (gI mm (y + 18)) 0 (wlL (NP p) N lh))) y := by
      unfold txM
      exact YF_tr (YF_tr (YF_sI (by unfold ysc; omega)) (YF_wI (fun k => by unfold ysc; omega))) (YF_sI (by unfold ysc; omega))
    have hcl : ∃ M', (XF m M' x ∧ gX M' ≤ gX m + 2 ∧ gS M' ≤ gS m + 20 ∧ (∀ c j, c < gX m → c ≠ x + 37 → ¬ (c = x ∧ j = 30) → gI M' c j = gI m c j)) ∧ ∀ r, (Run 210 43 [.ref x, .int (nI p)] m r ↔ r = ((0, some (.int (nI (wlL (NP p) N lh).length))), txM M' (x + 37) x 30 (wlL (NP p) N lh).length (ap (gI m (x + 37)) 0 (wlL (NP p) N lh)))) := by
      by_cases h0 : N = 0
      · subst h0
        exact ⟨m, ⟨XF_refl _ _, by omega, by omega, fun _ _ _ _ _ => rfl⟩, fun r => c_willZ hOb hSt hb hBo hBr hbz (by omega) hZ hB hRX.1 (by omega) hNP hpn hon (by omega)⟩
      · exact c_willY hOb hSt hb hBo hBr hbz (by omega) hbX (by omega) hZ hB hRX hD (by omega) hNP hpn h0 hN hon hlh (by omega)
    obtain ⟨M', ⟨x1, x2, x3, x4⟩, hc⟩ := hcl
    refine Swt_XY hC hD hX hc hq (XF_tr x1 txM_XF) (by show gX M' ≤ _; omega) (by show gS M' ≤ _; omega) hY ?_
    generalize wlL (NP p) N lh = W at hlen ⊢
    refine ⟨Tp_same hM.1 ?_ (fun k => ?_) ?_ (fun k => ?_), ?_, Or_same hM.2.2.1 ?_ (fun k => ?_) ?_ (fun k => ?_), Ea_same hM.2.2.2.1 ?_ ?_ ?_ ?_ ?_, St_sameR hM.2.2.2.2.1 ?_ (fun k => ?_) ?_ (fun k => ?_), ⟨W.length, hlen, tx_q, tx_q, fun k hk => ?_⟩, To_same hM.2.2.2.2.2.2 ?_ (fun k => ?_) ?_ (fun k => ?_)⟩
    all_goals first
      | (rw [tx_o (by omega) (by omega)]; exact x4 _ _ (by omega) (by omega) (by omega))
      | (rw [tx_o (by omega) (by omega), gI_sI, if_neg (by omega)]; done)
      | skip
    · rw [tx_o (by omega) (by omega), tx_o (by omega) (by omega), gI_sI, if_neg (by omega), x4 _ _ (by omega) (by omega) (by omega)]
      exact hM.2.1
    · rw [tx_g (by omega), tx_g (by omega)]
      have h1 := ap_at W (gI m (x + 37)) 0 k hk
      have h2 := ap_at W (gI mm (y + 18)) 0 k hk
      rw [Nat.zero_add] at h1 h2
      rw [h1, h2]
  · have hc := fun r => c_will0 (r := r) (d := 210) (R := R) hOb hSt hb hBo hBr hbz hB hp (by omega)
    have hq := fun r => q_will0 (r := r) (d := 210) hMo hYr hB hp (by omega)
    rw [pZ_of hZ] at hc
    exact Swt_XY hC hD hX hc hq (XF_refl _ _) (by omega) (by omega) (YF_sI (by unfold ysc; omega)) (Mis_y0 hM)
/-- person: the class may refuse by throwing -/
def OpP (x y lo : Nat) (p w : Int32) : Prop := ∀ m mm, Wor m mm x y lo → gX m + 100 < 900000 → (∃ A mm', (∀ r, (Run 210 57 [.ref x, .int p, .int w] m r ↔ r = ((0, some (.int A)), m))) ∧ (∀ r, (Run 210 154 [.ref y, .int p, .int w] mm r ↔ r = ((0, some (.int A)), mm'))) ∧ gI mm' y 0 = 0 ∧ Wor m mm' x y lo ∧ FM mm mm' y) ∨ (∃ mm', (∀ r, (Run 210 57 [.ref x, .int p, .int w] m r ↔ r = ((2, none), m))) ∧ (∀ r, (Run 210 154 [.ref y, .int p, .int w] mm r ↔ r = ((0, some (.int 0)), mm'))) ∧ gI mm' y 0 = 1 ∧ Wor m mm' x y lo ∧ FM mm mm' y)
theorem op_person {p w : Int32} : OpP x y lo p w := by
  rintro m mm ⟨⟨b, B, np, nd, lw, NP, ND, R, t, u, hC⟩, hM, hD⟩ hX; obtain ⟨⟨hOb, hRX, hSt, hSt2, hSL, hlo, hK16⟩, hb, ⟨hBo, hBr, hB, hNP, hND, hbO, hbX⟩, hZ, hR, ⟨hu, hu8, huy, hUn⟩, hSe, hI0, hI1, hMo, hYr, hn1, hn2⟩ := id hC; have hbz : b + 7 < x + 14 ∨ x + 14 + 5 < b := (by omega)
  have hc := fun r => c_personX (r := r) (d := 210) (p := p) (w := w) (R := R) hOb hSt hb hBo hBr hbz hB (by omega)
  have hq := fun r => q_person (r := r) (d := 210) (p := p) (w := w) (B := B) (R := R) hMo hB (by omega)
  rw [pZ_of hZ] at hc
  rw [pY_of hYr, pY0 (by omega) hYr, pY0 (by omega) hYr] at hq
  have hW : ∀ v, Wor m (sI mm y 0 v) x y lo := fun v => ⟨⟨b, B, np, nd, lw, NP, ND, R, t, u, Cor_y0 (by omega) hC⟩, Mis_y0 hM, hD⟩
  by_cases h : inN np p = true ∧ inN 9 w = true
  · simp only [if_pos h] at hc hq
    exact Or.inl ⟨_, _, hc, hq, if_pos ⟨rfl, rfl⟩, hW 0, YF_FM (YF_sI (by unfold ysc; omega))⟩
  · simp only [if_neg h] at hc hq
    exact Or.inr ⟨_, hc, hq, if_pos ⟨rfl, rfl⟩, hW 1, YF_FM (YF_sI (by unfold ysc; omega))⟩
end WW
