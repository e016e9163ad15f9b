/-! THE WORLD: small things, steps -/
def TpR (m mm : PM) (x y : Nat) : Prop := ∃ (n : Nat) (T : Nat → Nat), n ≤ 940 ∧ gI m x 1 = nI n ∧ gI mm y 2 = nI n ∧ (∀ k, k < n → gI m (x + 1) k = (nI (T k)).toInt8.toInt32) ∧ (∀ k, k < n → gI mm (y + 1) k = nI (T k)) ∧ ∀ k, T k < 256
def OrR (m mm : PM) (x y : Nat) : Prop := ∃ q, q ≤ 7 ∧ (gI m x 19 = nI q ∨ (q = 0 ∧ gI m x 19 = -1)) ∧ gI mm y 29 = nI q ∧ ∀ k, k < q → gI m (x + 32) k = gI mm (y + 12) k
def EaR (m mm : PM) (x y : Nat) : Prop := (if gI m x 22 = 0 then -1 else gI m x 20) = gI mm y 32 ∧ (if gI m x 22 = 0 then -1 else gI m x 21) = gI mm y 33
def StR (m mm : PM) (x y : Nat) : Prop := ∃ q, q ≤ 7 ∧ (gI m x 28 = nI q ∨ (q = 0 ∧ gI m x 28 = -1)) ∧ gI mm y 37 = nI q ∧ ∀ k, k < q → gI m (x + 36) k = gI mm (y + 17) k
def TxR (m mm : PM) (x y : Nat) : Prop := ∃ q, q ≤ 48 ∧ gI m x 30 = nI q ∧ gI mm y 40 = nI q ∧ ∀ k, k < q → gI m (x + 37) k = gI mm (y + 18) k
def ToR (m mm : PM) (x y : Nat) : Prop := gI m x 32 = gI mm y 45 ∧ ∀ k, k < 4 → gI m (x + 38) k = gI mm (y + 20) k
def Mis (m mm : PM) (x y : Nat) : Prop := TpR m mm x y ∧ gI m x 12 = gI mm y 10 ∧ OrR m mm x y ∧ EaR m mm x y ∧ StR m mm x y ∧ TxR m mm x y ∧ ToR m mm x y
/-- the two tables of digits -/
def DTb (m : PM) : Prop := gK m 1900000 = 201 ∧ gN m 1900000 = 100 ∧ gK m 1900001 = 201 ∧ gN m 1900001 = 100 ∧ ∀ k, k < 100 → gI m 1900000 k = nI (48 + k % 10) ∧ gI m 1900001 k = nI (48 + k / 10)
def Wor (m mm : PM) (x y lo : Nat) : Prop := (∃ b B np nd lw NP ND R t u, Cor m mm x y lo b B np nd lw NP ND R t u) ∧ Mis m mm x y ∧ DTb m
def Swt (i1 i2 : Nat) (args : List Value) (x y lo : Nat) (m mm : PM) : Prop := ∃ (A : Int32) (m' mm' : PM), (∀ r, (Run 210 i1 (.ref x :: args) m r ↔ r = ((0, some (.int A)), m'))) ∧ (∀ r, (Run 210 i2 (.ref y :: args) mm r ↔ r = ((0, some (.int A)), mm'))) ∧ Wor m' mm' x y lo ∧ FC m m' x lo ∧ FM mm mm' y
def Op (i1 i2 : Nat) (args : List Value) (x y lo : Nat) : Prop := ∀ m mm, Wor m mm x y lo → gX m + 100 < 900000 → Swt i1 i2 args x y lo m mm
section WP
variable {m mm m' mm' : PM} {x y lo b : Nat} {B : Rw} {np nd lw : Nat} {NP ND : Nat → List Nat} {R R' : Rw} {t u i1 i2 : Nat} {args : List Value}
theorem Tp_same (h : TpR m mm x y) (e1 : gI m' x 1 = gI m x 1) (e2 : ∀ k, gI m' (x + 1) k = gI m (x + 1) k) (e3 : gI mm' y 2 = gI mm y 2) (e4 : ∀ k, gI mm' (y + 1) k = gI mm (y + 1) k) : TpR m' mm' x y := by
  unfold TpR at *
  simp only [e1, e2, e3, e4]
  exact h
theorem Tp_zero (e1 : gI m' x 1 = 0) (e3 : gI mm' y 2 = 0) : TpR m' mm' x y := ⟨0, fun _ => 0, by omega, e1, e3, fun k hk => by omega, fun k hk => by omega, fun _ => by show 0 < 256; omega⟩
theorem Or_same (h : OrR m mm x y) (e1 : gI m' x 19 = gI m x 19) (e2 : ∀ k, gI m' (x + 32) k = gI m (x + 32) k) (e3 : gI mm' y 29 = gI mm y 29) (e4 : ∀ k, gI mm' (y + 12) k = gI mm (y + 12) k) : OrR m' mm' x y := by
  unfold OrR at *
  simp only [e1, e2, e3, e4]
  exact h
theorem Ea_same (h : EaR m mm x y) (e1 : gI m' x 20 = gI m x 20) (e2 : gI m' x 21 = gI m x 21) (e0 : gI m' x 22 = gI m x 22) (e3 : gI mm' y 32 = gI mm y 32) (e4 : gI mm' y 33 = gI mm y 33) : EaR m' mm' x y := by
  unfold EaR at *
  simp only [e0, e1, e2, e3, e4]
  exact h
theorem St_sameR (h : StR m mm x y) (e1 : gI m' x 28 = gI m x 28) (e2 : ∀ k, gI m' (x + 36) k = gI m (x + 36) k) (e3 : gI mm' y 37 = gI mm y 37) (e4 : ∀ k, gI mm' (y + 17) k = gI mm (y + 17) k) : StR m' mm' x y := by
  unfold StR at *
  simp only [e1, e2, e3, e4]
  exact h
theorem Tx_same (h : TxR m mm x y) (e1 : gI m' x 30 = gI m x 30) (e2 : ∀ k, gI m' (x + 37) k = gI m (x + 37) k) (e3 : gI mm' y 40 = gI mm y 40) (e4 : ∀ k, gI mm' (y + 18) k = gI mm (y + 18) k) : TxR m' mm' x y := by
  unfold TxR at *
  simp only [e1, e2, e3, e4]
  exact h
theorem To_same (h : ToR m mm x y) (e1 : gI m' x 32 = gI m x 32) (e2 : ∀ k, gI m' (x + 38) k = gI m (x + 38) k) (e3 : gI mm' y 45 = gI mm y 45) (e4 : ∀ k, gI mm' (y + 20) k = gI mm (y + 20) k) : ToR m' mm' x y := by
  unfold ToR at *
  simp only [e1, e2, e3, e4]
  exact h
/-- where the class' and the model's small things stay -/
def mcx (j : Nat) : Prop := j = 1 ∨ j = 12 ∨ j = 19 ∨ j = 20 ∨ j = 21 ∨ j = 22 ∨ j = 28 ∨ j = 30 ∨ j = 32
def mcr (i : Nat) : Prop := i = 1 ∨ i = 32 ∨ i = 36 ∨ i = 37 ∨ i = 38
def mmx (j : Nat) : Prop := j = 2 ∨ j = 10 ∨ j = 29 ∨ j = 32 ∨ j = 33 ∨ j = 37 ∨ j = 40 ∨ j = 45
def mmr (i : Nat) : Prop := i = 1 ∨ i = 12 ∨ i = 17 ∨ i = 18 ∨ i = 20
theorem Mis_same (h : Mis m mm x y) (hx : ∀ j, mcx j → gI m' x j = gI m x j) (hc : ∀ i j, mcr i → gI m' (x + i) j = gI m (x + i) j) (hy : ∀ j, mmx j → gI mm' y j = gI mm y j) (hd : ∀ i j, mmr i → gI mm' (y + i) j = gI mm (y + i) j) : Mis m' mm' x y := by
  obtain ⟨h1, h2, h3, h4, h5, h6, h7⟩ := h
  unfold mcx mcr mmx mmr at *
  exact ⟨Tp_same h1 (hx 1 (by omega)) (fun k => hc 1 k (by omega)) (hy 2 (by omega)) (fun k => hd 1 k (by omega)), by rw [hx 12 (by omega), hy 10 (by omega)]; exact h2, Or_same h3 (hx 19 (by omega)) (fun k => hc 32 k (by omega)) (hy 29 (by omega)) (fun k => hd 12 k (by omega)), Ea_same h4 (hx 20 (by omega)) (hx 21 (by omega)) (hx 22 (by omega)) (hy 32 (by omega)) (hy 33 (by omega)), St_sameR h5 (hx 28 (by omega)) (fun k => hc 36 k (by omega)) (hy 37 (by omega)) (fun k => hd 17 k (by omega)), Tx_same h6 (hx 30 (by omega)) (fun k => hc 37 k (by omega)) (hy 40 (by omega)) (fun k => hd 18 k (by omega)), To_same h7 (hx 32 (by omega)) (fun k => hc 38 k (by omega)) (hy 45 (by omega)) (fun k => hd 20 k (by omega))⟩
theorem DTb_FC (h : DTb m) (hx : x + 43 ≤ lo) (hlo : lo ≤ 900000) (hF : FC m m' x lo) : DTb m' := by
  obtain ⟨h1, h2, h3, h4, h5⟩ := h
  have e0 := hF.2.2.2 1900000 (by omega)
  have e1 := hF.2.2.2 1900001 (by omega)
  exact ⟨e0.1.trans h1, e0.2.1.trans h2, e1.1.trans h3, e1.2.1.trans h4, fun k hk => ⟨(e0.2.2.2.2 k).trans (h5 k hk).1, (e1.2.2.2.2 k).trans (h5 k hk).2⟩⟩
theorem FC_refl (m : PM) (x lo : Nat) : FC m m x lo := ⟨Nat.le_refl _, by omega, by omega, fun c _ => ⟨rfl, rfl, fun _ => rfl, fun _ => rfl, fun _ => rfl⟩⟩
theorem Cor_lo (h : Cor m mm x y lo b B np nd lw NP ND R t u) : x + 43 ≤ y ∧ y + 22 ≤ lo ∧ lo ≤ gX m ∧ gX m < 900000 := h.1.2.2.2.2.2.1
/-- a step where only cells of no account change -/
theorem Swt_XY {A : Int32} (h : Cor m mm x y lo b B np nd lw NP ND R t u) (hD : DTb m) (hX : gX m + 100 < 900000) (hc : ∀ r, (Run 210 i1 (.ref x :: args) m r ↔ r = ((0, some (.int A)), m'))) (hq : ∀ r, (Run 210 i2 (.ref y :: args) mm r ↔ r = ((0, some (.int A)), mm'))) (hF : XF m m' x) (hb1 : gX m' ≤ gX m + 100) (hb2 : gS m' ≤ gS m + 700) (hY : YF mm mm' y) (hM : Mis m' mm' x y) : Swt i1 i2 args x y lo m mm := by
  have hl := Cor_lo h
  have hFC : FC m m' x lo := XF_FC hF (by omega) hb1 hb2 (by omega)
  exact ⟨A, m', mm', hc, hq, ⟨⟨b, B, np, nd, lw, NP, ND, R, t, u, Cor_XY h hF (by omega) hY⟩, hM, DTb_FC hD (by omega) (by omega) hFC⟩, hFC, YF_FM hY⟩
theorem pY0 {v : Int32} {a k : Nat} (ha : a ≠ y + 2) (h : Yr mm y B R) : pY (sI mm a k v) y B R = sI mm a k v := pY_of fun k hk => by
  rw [gI_sI, if_neg (fun z => ha z.1.symm)]; exact h k hk
/-- the class only looks -/
theorem Op_ro (h : ∀ m mm b B np nd lw NP ND R t u, Cor m mm x y lo b B np nd lw NP ND R t u → Mis m mm x y → ∃ A : Int32, (∀ r, (Run 210 i1 (.ref x :: args) (pZ m (x + 14) R) r ↔ r = ((0, some (.int A)), pZ m (x + 14) R))) ∧ (∀ r, (Run 210 i2 (.ref y :: args) (pY mm y B R) r ↔ r = ((0, some (.int A)), pY (sI mm y 0 0) y B R)))) : Op i1 i2 args x y lo := by
  rintro m mm ⟨⟨b, B, np, nd, lw, NP, ND, R, t, u, hC⟩, hM, hD⟩ hX
  obtain ⟨A, hc, hq⟩ := h m mm b B np nd lw NP ND R t u hC hM
  have hZ := hC.2.2.2.1
  have hYr := hC.2.2.2.2.2.2.2.2.2.2.1
  rw [pZ_of hZ] at hc
  rw [pY_of hYr, pY0 (by omega) hYr] at hq
  refine Swt_XY hC hD hX hc hq (XF_refl _ _) (by omega) (by omega) (YF_sI (by unfold ysc; omega)) (Mis_same hM (fun _ _ => rfl) (fun _ _ _ => rfl) (fun j hj => ?_) (fun i j hi => ?_))
  · unfold mmx at hj; rw [gI_sI, if_neg (by omega)]
  · unfold mmr at hi; rw [gI_sI, if_neg (by omega)]
theorem Mis_y0 {v : Int32} (hM : Mis m mm x y) : Mis m (sI mm y 0 v) x y := Mis_same hM (fun _ _ => rfl) (fun _ _ _ => rfl) (fun j hj => by unfold mmx at hj; rw [gI_sI, if_neg (by omega)]) (fun i j hi => by unfold mmr at hi; rw [gI_sI, if_neg (by omega)])
theorem act_Mis (hM : Mis m mm x y) {m1 : PM} {a u' : Nat} {f : Nat → Option Nat} (hs : ShC m x y lo) (hX : gX m + 6 < 900000) (hk : KS m x u m1 a f u') : Mis (pZ (kpM m1 x a u' R f) (x + 14) R') (pY (snpM mm y u R) y B R') x y := by
  obtain ⟨h1, h2, h3, h4, h5, h6, h7⟩ := hs
  obtain ⟨k1, k2, k3, k4, k5, k6, k7, k8, k9, k10⟩ := KS_at h5 h6.2.2.1 hX hk
  obtain ⟨e1, e2, e3, e4⟩ := kp_eqs (m := m) (x := x) (a := a) (u' := u') (R := R) (R' := R') (f := f) (lo := lo) (by omega) k1 (by omega) k7
  refine Mis_same hM (fun j hj => ?_) (fun i j hi => ?_) (fun j hj => ?_) (fun i j hi => ?_)
  · unfold mcx at hj; exact e4 x j (by omega) (by omega) (by omega) (by omega)
  · unfold mcr at hi; exact e4 _ j (by omega) (by omega) (by omega) (by omega)
  · unfold mmx at hj; rw [gI_pYo (by omega), sn_o (by omega) (by omega)]
  · unfold mmr at hi; rw [gI_pYo (by omega), sn_o (by omega) (by omega)]
theorem Cor_y0 {v : Int32} {k : Nat} (hk : k ≠ 23) (h : Cor m mm x y lo b B np nd lw NP ND R t u) : Cor m (sI mm y k v) x y lo b B np nd lw NP ND R t u := Cor_XY h (XF_refl _ _) (Cor_lo h).2.2.2 (YF_sI (by unfold ysc; omega))
/-- a state is kept, a new one stands -/
theorem Swt_keep {A : Int32} {m1 : PM} {a u' t' : Nat} {f : Nat → Option Nat} (h : Cor m mm x y lo b B np nd lw NP ND R t u) (hM : Mis m mm x y) (hD : DTb m) (hX : gX m + 100 < 900000) (hk : KS m x u m1 a f u') (hG : GR B R' nd t') (hc : ∀ r, (Run 210 i1 (.ref x :: args) m r ↔ r = ((0, some (.int A)), pZ (kpM m1 x a u' R f) (x + 14) R'))) (hq : ∀ r, (Run 210 i2 (.ref y :: args) mm r ↔ r = ((0, some (.int A)), pY (snpM (sI mm y 0 0) y u R) y B R'))) : Swt i1 i2 args x y lo m mm := by
  have hl := Cor_lo h
  have hFC := kp_FC (R := R) (R' := R') h.1 (by omega) hk
  exact ⟨A, _, _, hc, hq, ⟨⟨b, B, np, nd, lw, NP, ND, R', t', u', Cor_keep (Cor_y0 (by omega) h) hk hG (by omega)⟩, act_Mis (Mis_y0 hM) h.1 (by omega) hk, DTb_FC hD (by omega) (by omega) hFC⟩, hFC, FM_tr (YF_FM (YF_sI (by unfold ysc; omega))) sn_FM⟩
theorem Op_act (h : ∀ m mm b B np nd lw NP ND R t u, Cor m mm x y lo b B np nd lw NP ND R t u → gX m + 100 < 900000 → ∃ (v : Prop) (w : Int32) (R' Q : Rw), ActP 210 i1 (.ref x :: args) m x u R v w R' ∧ (v → w = 0 → Q = R' ∧ ∃ t', GR B R' nd t') ∧ (v → ∀ r, (Run 210 i2 (.ref y :: args) (pY mm y B R) r ↔ r = if w = 0 then ((0, some (.int 0)), pY (snpM (sI mm y 0 0) y u R) y B Q) else ((0, some (.int w)), pY (sI mm y 0 0) y B R))) ∧ (¬ v → ∀ r, (Run 210 i2 (.ref y :: args) (pY mm y B R) r ↔ r = ((0, some (.int (-1))), pY (sI mm y 0 0) y B R)))) : Op i1 i2 args x y lo := by
  rintro m mm ⟨⟨b, B, np, nd, lw, NP, ND, R, t, u, hC⟩, hM, hD⟩ hX
  obtain ⟨v, w, R', Q, ⟨a1, a2, a3⟩, hG, q1, q2⟩ := h m mm b B np nd lw NP ND R t u hC hX
  have hZ := hC.2.2.2.1
  have hYr := hC.2.2.2.2.2.2.2.2.2.2.1
  rw [pZ_of hZ] at a1 a2 a3
  rw [pY_of hYr, pY0 (by omega) hYr] at q1 q2
  have hmm : Mis m (sI mm y 0 0) x y := Mis_same hM (fun _ _ => rfl) (fun _ _ _ => rfl) (fun j hj => by unfold mmx at hj; rw [gI_sI, if_neg (by omega)]) (fun i j hi => by unfold mmr at hi; rw [gI_sI, if_neg (by omega)])
  by_cases hv : v
  · by_cases hw : w = 0
    · obtain ⟨m1, a, f, u', hk, hc⟩ := a1 hv hw
      obtain ⟨e, t', hG⟩ := hG hv hw
      subst e
      have q1 := q1 hv
      rw [if_pos hw] at q1
      exact Swt_keep hC hM hD hX hk hG hc q1
    · have q1 := q1 hv
      rw [if_neg hw] at q1
      exact Swt_XY hC hD hX (a2 hv hw) q1 (XF_refl _ _) (by omega) (by omega) (YF_sI (by unfold ysc; omega)) hmm
  · exact Swt_XY hC hD hX (a3 hv) (q2 hv) (XF_refl _ _) (by omega) (by omega) (YF_sI (by unfold ysc; omega)) hmm
end WP
