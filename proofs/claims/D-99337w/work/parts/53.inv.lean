/-! WHAT IS ALWAYS SO of a board and of a state (no program in sight) -/
def smI (f : Nat → Int) : Nat → Int
  | 0 => 0
  | n + 1 => smI f n + f n
theorem smI_cg {f g : Nat → Int} (n : Nat) (h : ∀ i, i < n → f i = g i) : smI f n = smI g n := by
  induction n with
  | zero => rfl
  | succ n ih =>
    show smI f n + f n = smI g n + g n
    rw [ih (fun i hi => h i (by omega)), h n (by omega)]
theorem smI_upd {f g : Nat → Int} {k : Nat} (n : Nat) (hk : k < n) (h : ∀ i, i < n → i ≠ k → g i = f i) : smI g n = smI f n + (g k - f k) := by
  induction n with
  | zero => omega
  | succ n ih =>
    show smI g n + g n = smI f n + f n + (g k - f k)
    by_cases c : k = n
    · subst c
      rw [smI_cg (f := g) (g := f) k (fun i hi => h i (by omega) (by omega))]
      omega
    · rw [ih (by omega) (fun i hi hne => h i (by omega) hne), h n (by omega) (by omega)]
      omega
theorem smI_nn {f : Nat → Int} (n : Nat) (h : ∀ i, i < n → 0 ≤ f i) : 0 ≤ smI f n := by
  induction n with
  | zero => exact Int.le_refl 0
  | succ n ih =>
    show 0 ≤ smI f n + f n
    have h1 := ih (fun i hi => h i (by omega))
    have h2 := h n (by omega)
    omega
theorem smI_le {f : Nat → Int} {k : Nat} (n : Nat) (h : ∀ i, i < n → 0 ≤ f i) (hk : k < n) : f k ≤ smI f n := by
  induction n with
  | zero => omega
  | succ n ih =>
    show f k ≤ smI f n + f n
    by_cases c : k = n
    · subst c
      have h1 := smI_nn k (fun i hi => h i (by omega))
      omega
    · have h1 := ih (fun i hi => h i (by omega)) (by omega)
      have h2 := h n (by omega)
      omega
/-- all there is of a dish -/
def tot (R : Rw) (d : Nat) : Int := (R 2 d).toInt + smI (fun p => (R 1 (6 * p + d)).toInt) 7
theorem tot_up1 {R : Rw} {p d e : Nat} {v : Int32} (hp : p < 7) (hd : d < 6) (he : e < 6) : tot (up R 1 (6 * p + d) v) e = tot R e + (if e = d then v.toInt - (R 1 (6 * p + d)).toInt else 0) := by
  have h1 : ∀ k, up R 1 (6 * p + d) v 1 k = if k = 6 * p + d then v else R 1 k := fun k => by simp only [up_e, true_and]
  have h2 : up R 1 (6 * p + d) v 2 e = R 2 e := if_neg (by omega)
  unfold tot
  rw [h2]
  by_cases c : e = d
  · subst c
    rw [if_pos rfl]
    have h3 := smI_upd (f := fun q => (R 1 (6 * q + e)).toInt) (g := fun q => (up R 1 (6 * p + e) v 1 (6 * q + e)).toInt) (k := p) 7 hp (fun i hi hne => by
      show (up R 1 (6 * p + e) v 1 (6 * i + e)).toInt = (R 1 (6 * i + e)).toInt
      rw [h1, if_neg (by omega)])
    have h4 : (up R 1 (6 * p + e) v 1 (6 * p + e)).toInt = v.toInt := by rw [h1, if_pos rfl]
    simp only [h4] at h3
    rw [h3]
    omega
  · rw [if_neg c, smI_cg (g := fun q => (R 1 (6 * q + e)).toInt) 7 (fun i hi => by
      show (up R 1 (6 * p + d) v 1 (6 * i + e)).toInt = (R 1 (6 * i + e)).toInt
      rw [h1, if_neg (by omega)])]
    omega
theorem tot_up2 {R : Rw} {d e : Nat} {v : Int32} : tot (up R 2 d v) e = tot R e + (if e = d then v.toInt - (R 2 d).toInt else 0) := by
  unfold tot
  have h1 : ∀ k, up R 2 d v 1 k = R 1 k := fun k => if_neg (by omega)
  simp only [h1]
  rw [up_e]
  by_cases c : e = d
  · subst c
    rw [if_pos ⟨rfl, rfl⟩, if_pos rfl]
    omega
  · rw [if_neg (by omega), if_neg c]
    omega
theorem tot_upo {R : Rw} {s k e : Nat} {v : Int32} (h1 : s ≠ 1) (h2 : s ≠ 2) : tot (up R s k v) e = tot R e := by
  unfold tot
  have a1 : ∀ j, up R s k v 1 j = R 1 j := fun j => if_neg (by omega)
  have a2 : ∀ j, up R s k v 2 j = R 2 j := fun j => if_neg (by omega)
  simp only [a1, a2]
/-- a board: n persons, nd dishes, law l -/
def GB (B : Rw) (n nd l : Nat) : Prop := B 0 7 = nI n ∧ n ≤ 7 ∧ B 0 8 = nI nd ∧ nd ≤ 6 ∧ B 0 9 = nI l ∧ l < 3 ∧ (0 ≤ (B 0 10).toInt ∧ (B 0 10).toInt ≤ 9) ∧ (∀ p, p < 7 → 0 ≤ (B 3 p).toInt ∧ (B 3 p).toInt ≤ 20) ∧ (∀ p, p < n → B 4 p = -1 ∨ ∃ q, q < p ∧ B 4 p = nI q) ∧ (∀ d, d < 6 → 0 ≤ (B 6 d).toInt ∧ (B 6 d).toInt ≤ 9) ∧ (∀ d, nd ≤ d → d < 6 → B 6 d = 0) ∧ (∀ d, d < 6 → 0 ≤ (B 5 d).toInt ∧ (B 5 d).toInt ≤ 99) ∧ (∀ p d, p < 7 → d < 6 → 0 ≤ (B 7 (6 * p + d)).toInt ∧ (B 7 (6 * p + d)).toInt ≤ 40) ∧ (∀ p d, nd ≤ d → d < 6 → B 7 (6 * p + d) = 0)
section GBs
variable {B R : Rw} {n nd l t : Nat}
theorem GB_n (h : GB B n nd l) : B 0 7 = nI n := h.1
theorem GB_n7 (h : GB B n nd l) : n ≤ 7 := h.2.1
theorem GB_d (h : GB B n nd l) : B 0 8 = nI nd := h.2.2.1
theorem GB_d6 (h : GB B n nd l) : nd ≤ 6 := h.2.2.2.1
theorem GB_l (h : GB B n nd l) : B 0 9 = nI l := h.2.2.2.2.1
theorem GB_l3 (h : GB B n nd l) : l < 3 := h.2.2.2.2.2.1
theorem GB_g (h : GB B n nd l) : 0 ≤ (B 0 10).toInt ∧ (B 0 10).toInt ≤ 9 := h.2.2.2.2.2.2.1
theorem GB_w (h : GB B n nd l) : ∀ p, p < 7 → 0 ≤ (B 3 p).toInt ∧ (B 3 p).toInt ≤ 20 := h.2.2.2.2.2.2.2.1
theorem GB_p (h : GB B n nd l) : ∀ p, p < n → B 4 p = -1 ∨ ∃ q, q < p ∧ B 4 p = nI q := h.2.2.2.2.2.2.2.2.1
theorem GB_s (h : GB B n nd l) : ∀ d, d < 6 → 0 ≤ (B 6 d).toInt ∧ (B 6 d).toInt ≤ 9 := h.2.2.2.2.2.2.2.2.2.1
theorem GB_s0 (h : GB B n nd l) : ∀ d, nd ≤ d → d < 6 → B 6 d = 0 := h.2.2.2.2.2.2.2.2.2.2.1
theorem GB_5 (h : GB B n nd l) : ∀ d, d < 6 → 0 ≤ (B 5 d).toInt ∧ (B 5 d).toInt ≤ 99 := h.2.2.2.2.2.2.2.2.2.2.2.1
theorem GB_7 (h : GB B n nd l) : ∀ p d, p < 7 → d < 6 → 0 ≤ (B 7 (6 * p + d)).toInt ∧ (B 7 (6 * p + d)).toInt ≤ 40 := h.2.2.2.2.2.2.2.2.2.2.2.2.1
theorem GB_70 (h : GB B n nd l) : ∀ p d, nd ≤ d → d < 6 → B 7 (6 * p + d) = 0 := h.2.2.2.2.2.2.2.2.2.2.2.2.2
/-- nobody is his own parent -/
theorem GB_pp (h : GB B n nd l) : ∀ p, p < n → ¬ B 4 p = nI p := by
  intro p hp e
  have h7 := GB_n7 h
  rcases GB_p h p hp with h1 | ⟨q, hq, h1⟩
  · rw [h1] at e
    exact (nI_m1 (a := p) (by omega)).mp e.symm
  · rw [h1, nI_eqi (by omega) (by omega)] at e
    omega
/-- a state: meal t -/
def GR (B R : Rw) (nd t : Nat) : Prop := ZD R nd ∧ (∀ p d, p < 7 → d < 6 → 0 ≤ (R 1 (6 * p + d)).toInt) ∧ (∀ d, d < 6 → 0 ≤ (R 2 d).toInt) ∧ (∀ d, d < 6 → tot R d ≤ 379) ∧ (∀ p, p < 7 → 0 ≤ (R 4 p).toInt ∧ (R 4 p).toInt ≤ (B 3 p).toInt) ∧ R 0 5 = nI t ∧ t ≤ 200
theorem GR_z (h : GR B R nd t) : ZD R nd := h.1
theorem GR_t (h : GR B R nd t) : R 0 5 = nI t := h.2.2.2.2.2.1
theorem GR_t2 (h : GR B R nd t) : t ≤ 200 := h.2.2.2.2.2.2
theorem GR_m (h : GR B R nd t) : ∀ p, p < 7 → 0 ≤ (R 4 p).toInt ∧ (R 4 p).toInt ≤ (B 3 p).toInt := h.2.2.2.2.1
theorem GR_pl (h : GR B R nd t) {p d : Nat} (hp : p < 7) (hd : d < 6) : 0 ≤ (R 1 (6 * p + d)).toInt ∧ (R 1 (6 * p + d)).toInt ≤ 379 := by
  refine ⟨h.2.1 p d hp hd, ?_⟩
  have h1 := h.2.2.2.1 d hd
  have h2 := h.2.2.1 d hd
  have h3 : (R 1 (6 * p + d)).toInt ≤ smI (fun p => (R 1 (6 * p + d)).toInt) 7 := smI_le (f := fun p => (R 1 (6 * p + d)).toInt) (k := p) 7 (fun i hi => h.2.1 i d hi hd) hp
  unfold tot at h1
  omega
theorem GR_pa (h : GR B R nd t) {d : Nat} (hd : d < 6) : 0 ≤ (R 2 d).toInt ∧ (R 2 d).toInt ≤ 379 := by
  refine ⟨h.2.2.1 d hd, ?_⟩
  have h1 := h.2.2.2.1 d hd
  have h3 : 0 ≤ smI (fun p => (R 1 (6 * p + d)).toInt) 7 := smI_nn (f := fun p => (R 1 (6 * p + d)).toInt) 7 (fun i hi => h.2.1 i d hi hd)
  unfold tot at h1
  omega
theorem GR_cg {R' : Rw} (h : GR B R nd t) (h1 : ∀ k, R' 1 k = R 1 k) (h2 : ∀ k, R' 2 k = R 2 k) (h4 : ∀ k, R' 4 k = R 4 k) (h0 : R' 0 5 = R 0 5) : GR B R' nd t := by
  unfold GR ZD tot at h ⊢
  simp only [h1, h2, h4, h0]
  exact h
theorem GR_up0 {k : Nat} {v : Int32} (h : GR B R nd t) (hk : k ≠ 5) : GR B (up R 0 k v) nd t :=
  GR_cg h (fun _ => if_neg (by omega)) (fun _ => if_neg (by omega)) (fun _ => if_neg (by omega)) (if_neg (by omega))
theorem GR_up3 {k : Nat} {v : Int32} (h : GR B R nd t) : GR B (up R 3 k v) nd t :=
  GR_cg h (fun _ => if_neg (by omega)) (fun _ => if_neg (by omega)) (fun _ => if_neg (by omega)) (if_neg (by omega))
theorem GR_up5 {k : Nat} {v : Int32} (h : GR B R nd t) : GR B (up R 5 k v) nd t :=
  GR_cg h (fun _ => if_neg (by omega)) (fun _ => if_neg (by omega)) (fun _ => if_neg (by omega)) (if_neg (by omega))
theorem GR_up05 {t' : Nat} (h : GR B R nd t) (ht : t' ≤ 200) : GR B (up R 0 5 (nI t')) nd t' := by
  obtain ⟨z, pl, pa, tt, ml, t5, tb⟩ := h
  refine ⟨ZD_up z (by omega), fun p d hp hd => ?_, fun d hd => ?_, fun d hd => ?_, fun p hp => ?_, up_at _ _ _ _, ht⟩
  · rw [up_e, if_neg (by omega)]; exact pl p d hp hd
  · rw [up_e, if_neg (by omega)]; exact pa d hd
  · rw [tot_upo (by omega) (by omega)]; exact tt d hd
  · rw [up_e, if_neg (by omega)]; exact ml p hp
/-- a plate set -/
theorem GR_up1 {p d : Nat} {v : Int32} (h : GR B R nd t) (hp : p < 7) (hd : d < nd) (hnd : nd ≤ 6) (h0 : 0 ≤ v.toInt) (hv : tot R d + (v.toInt - (R 1 (6 * p + d)).toInt) ≤ 379) : GR B (up R 1 (6 * p + d) v) nd t := by
  obtain ⟨z, pl, pa, tt, ml, t5, tb⟩ := h
  refine ⟨ZD_up z (by omega), fun p' d' hp' hd' => ?_, fun d' hd' => ?_, fun d' hd' => ?_, fun p' hp' => ?_, ?_, tb⟩
  · rw [up_e]
    split
    · exact h0
    · exact pl p' d' hp' hd'
  · rw [up_e, if_neg (by omega)]; exact pa d' hd'
  · rw [tot_up1 hp (by omega) hd']
    by_cases c : d' = d
    · rw [if_pos c, c]; exact hv
    · rw [if_neg c]; have := tt d' hd'; omega
  · rw [up_e, if_neg (by omega)]; exact ml p' hp'
  · rw [up_e, if_neg (by omega)]; exact t5
theorem GR_up2 {d : Nat} {v : Int32} (h : GR B R nd t) (h0 : 0 ≤ v.toInt) (hv : tot R d + (v.toInt - (R 2 d).toInt) ≤ 379) : GR B (up R 2 d v) nd t := by
  obtain ⟨z, pl, pa, tt, ml, t5, tb⟩ := h
  refine ⟨ZD_up z (by omega), fun p' d' hp' hd' => ?_, fun d' hd' => ?_, fun d' hd' => ?_, fun p' hp' => ?_, ?_, tb⟩
  · rw [up_e, if_neg (by omega)]; exact pl p' d' hp' hd'
  · rw [up_e]
    split
    · exact h0
    · exact pa d' hd'
  · rw [tot_up2]
    by_cases c : d' = d
    · rw [if_pos c, c]; exact hv
    · rw [if_neg c]; have := tt d' hd'; omega
  · rw [up_e, if_neg (by omega)]; exact ml p' hp'
  · rw [up_e, if_neg (by omega)]; exact t5
theorem GR_up4 {p : Nat} {v : Int32} (h : GR B R nd t) (h0 : 0 ≤ v.toInt) (hv : v.toInt ≤ (B 3 p).toInt) : GR B (up R 4 p v) nd t := by
  obtain ⟨z, pl, pa, tt, ml, t5, tb⟩ := h
  refine ⟨ZD_up z (by omega), fun p' d' hp' hd' => ?_, fun d' hd' => ?_, fun d' hd' => ?_, fun p' hp' => ?_, ?_, tb⟩
  · rw [up_e, if_neg (by omega)]; exact pl p' d' hp' hd'
  · rw [up_e, if_neg (by omega)]; exact pa d' hd'
  · rw [tot_upo (by omega) (by omega)]; exact tt d' hd'
  · rw [up_e]
    by_cases c : p' = p
    · rw [if_pos ⟨rfl, c⟩, c]; exact ⟨h0, hv⟩
    · rw [if_neg (by omega)]; exact ml p' hp'
  · rw [up_e, if_neg (by omega)]; exact t5
theorem GR_tt (h : GR B R nd t) {d : Nat} (hd : d < 6) : tot R d ≤ 379 := h.2.2.2.1 d hd
theorem GR_eat {p d : Nat} {a : Int32} (h : GR B R nd t) (hw : ∀ p, p < 7 → 0 ≤ (B 3 p).toInt ∧ (B 3 p).toInt ≤ 20) (hp : p < 7) (hd : d < nd) (hnd : nd ≤ 6) (h0 : 0 ≤ a.toInt) (h1 : a.toInt ≤ (R 1 (6 * p + d)).toInt) (h2 : (R 4 p).toInt + a.toInt ≤ (B 3 p).toInt) : GR B (eatF R p d a) nd t := by
  have b1 := GR_pl h hp (show d < 6 by omega)
  have b2 := GR_m h p hp
  have b3 := GR_tt h (show d < 6 by omega)
  have b4 := hw p hp
  have e1 : (R 1 (6 * p + d) - a).toInt = (R 1 (6 * p + d)).toInt - a.toInt := tI_sub (by omega) (by omega)
  have e2 : (R 4 p + a).toInt = (R 4 p).toInt + a.toInt := tI_add (by omega) (by omega)
  unfold eatF
  exact GR_up3 (GR_up4 (GR_up1 h hp hd hnd (by omega) (by omega)) (by omega) (by omega))
theorem GR_eatsS {p d : Nat} (h : GR B R nd t) (hw : ∀ p, p < 7 → 0 ≤ (B 3 p).toInt ∧ (B 3 p).toInt ≤ 20) (hp : p < 7) (hd : d < 6) (hnd : nd ≤ 6) : GR B (eatsS B p d R) nd t := by
  unfold eatsS
  have b1 := GR_pl h hp hd
  have b2 := GR_m h p hp
  have b4 := hw p hp
  have e1 : (B 3 p - R 4 p).toInt = (B 3 p).toInt - (R 4 p).toInt := tI_sub (by omega) (by omega)
  have e2 := mn_tI (R 1 (6 * p + d)) (B 3 p - R 4 p)
  by_cases c : d < nd
  · exact GR_eat h hw hp c hnd (by omega) (by omega) (by omega)
  · have z : R 1 (6 * p + d) = 0 := GR_z h p d (by omega) hd
    rw [z, mn_comm, mn_0 (i32_0le.mpr (by omega)), eatF_0]
    exact h
theorem GR_eats {p k : Nat} (h : GR B R nd t) (hw : ∀ p, p < 7 → 0 ≤ (B 3 p).toInt ∧ (B 3 p).toInt ≤ 20) (hp : p < 7) (hk : k ≤ 6) (hnd : nd ≤ 6) : GR B (it (eatsS B p) k R) nd t :=
  it_inv (P := fun R => GR B R nd t) k h (fun i x hi hx => GR_eatsS hx hw hp (by omega) hnd)
theorem GR_eatsF {p : Nat} (h : GR B R nd t) (hw : ∀ p, p < 7 → 0 ≤ (B 3 p).toInt ∧ (B 3 p).toInt ≤ 20) (hp : p < 7) (hnd : nd ≤ 6) : GR B (eatsF B R p) nd t := GR_eats h hw hp (Nat.le_refl 6) hnd
theorem eats_n {p : Nat} (h : GR B R nd t) (hw : ∀ p, p < 7 → 0 ≤ (B 3 p).toInt ∧ (B 3 p).toInt ≤ 20) (hp : p < 7) (hnd : nd ≤ 6) : it (eatsS B p) nd R = eatsF B R p := by
  refine eats_6 hnd (GR_z h) (fun k hk => ?_)
  have g := GR_m (GR_eats h hw hp hk hnd) p hp
  have b4 := hw p hp
  rw [i32_0le, tI_sub (by omega) (by omega)]
  omega
theorem GR_srv {p d : Nat} {a : Int32} (h : GR B R nd t) (hp : p < 7) (hd : d < nd) (hnd : nd ≤ 6) (h0 : 0 ≤ a.toInt) (h1 : a.toInt ≤ (R 2 d).toInt) : GR B (srvF R p d a) nd t := by
  have b1 := GR_pl h hp (show d < 6 by omega)
  have b2 := GR_pa h (show d < 6 by omega)
  have b3 := GR_tt h (show d < 6 by omega)
  have e1 : (R 2 d - a).toInt = (R 2 d).toInt - a.toInt := tI_sub (by omega) (by omega)
  have e2 : (R 1 (6 * p + d) + a).toInt = (R 1 (6 * p + d)).toInt + a.toInt := tI_add (by omega) (by omega)
  unfold srvF
  have g1 : GR B (up R 2 d (R 2 d - a)) nd t := GR_up2 h (by omega) (by omega)
  refine GR_up1 g1 hp hd hnd (by omega) ?_
  have e3 : up R 2 d (R 2 d - a) 1 (6 * p + d) = R 1 (6 * p + d) := if_neg (by omega)
  rw [e3, tot_up2, if_pos rfl]
  omega
theorem pasS_0 {h : Option Nat} {p i : Nat} {x : Rw × Int32} (z : x.1 1 (6 * p + i) = 0) (i2 : 0 ≤ x.2) : pasS h p i x = x := by
  have e1 : up x.1 1 (6 * p + i) 0 = x.1 := by
    conv => lhs; rw [← z]
    exact up_self _ _ _
  unfold pasS
  rw [z, mn_0 i2]
  simp only [Int32.sub_zero, Int32.add_zero, up_self]
  cases h with
  | none => simp only [up_self, e1]
  | some q => simp only [up_self, e1]
theorem GR_pasS {h : Option Nat} {p d : Nat} {x : Rw × Int32} (hh : ∀ j, h = some j → j < 7) (hp : p < 7) (hd : d < 6) (hnd : nd ≤ 6) (g : GR B x.1 nd t ∧ 0 ≤ x.2.toInt ∧ x.2.toInt ≤ 9) : GR B (pasS h p d x).1 nd t ∧ 0 ≤ (pasS h p d x).2.toInt ∧ (pasS h p d x).2.toInt ≤ 9 := by
  obtain ⟨g, hb1, hb2⟩ := g
  by_cases c : d < nd
  · have b1 := GR_pl g hp hd
    have b3 := GR_tt g hd
    have e0 := mn_tI x.2 (x.1 1 (6 * p + d))
    have e1 : (x.2 - mn x.2 (x.1 1 (6 * p + d))).toInt = x.2.toInt - (mn x.2 (x.1 1 (6 * p + d))).toInt := tI_sub (by omega) (by omega)
    have e2 : (x.1 1 (6 * p + d) - mn x.2 (x.1 1 (6 * p + d))).toInt = (x.1 1 (6 * p + d)).toInt - (mn x.2 (x.1 1 (6 * p + d))).toInt := tI_sub (by omega) (by omega)
    have z0 : (0 : Int32).toInt = 0 := rfl
    have g1 : GR B (up (up x.1 0 8 (x.1 0 8 + mn x.2 (x.1 1 (6 * p + d)))) 1 (6 * p + d) 0) nd t := by
      refine GR_up1 (GR_up0 g (by omega)) hp c hnd (by omega) ?_
      have e3 : up x.1 0 8 (x.1 0 8 + mn x.2 (x.1 1 (6 * p + d))) 1 (6 * p + d) = x.1 1 (6 * p + d) := if_neg (by omega)
      rw [e3, tot_upo (by omega) (by omega)]
      omega
    have t1 : tot (up (up x.1 0 8 (x.1 0 8 + mn x.2 (x.1 1 (6 * p + d)))) 1 (6 * p + d) 0) d = tot x.1 d - (x.1 1 (6 * p + d)).toInt := by
      have e3 : up x.1 0 8 (x.1 0 8 + mn x.2 (x.1 1 (6 * p + d))) 1 (6 * p + d) = x.1 1 (6 * p + d) := if_neg (by omega)
      rw [tot_up1 hp hd hd, if_pos rfl, e3, tot_upo (by omega) (by omega)]
      omega
    unfold pasS
    refine ⟨?_, by simp only; omega, by simp only; omega⟩
    cases h with
    | none =>
      simp only
      have q1 := GR_pa g1 hd
      have e4 := tI_add (a := up (up x.1 0 8 (x.1 0 8 + mn x.2 (x.1 1 (6 * p + d)))) 1 (6 * p + d) 0 2 d) (b := x.1 1 (6 * p + d) - mn x.2 (x.1 1 (6 * p + d))) (by omega) (by omega)
      exact GR_up2 g1 (by omega) (by omega)
    | some q =>
      simp only
      have hq := hh q rfl
      have q1 := GR_pl g1 hq hd
      have e4 := tI_add (a := up (up x.1 0 8 (x.1 0 8 + mn x.2 (x.1 1 (6 * p + d)))) 1 (6 * p + d) 0 1 (6 * q + d)) (b := x.1 1 (6 * p + d) - mn x.2 (x.1 1 (6 * p + d))) (by omega) (by omega)
      exact GR_up1 g1 hq c hnd (by omega) (by omega)
  · rw [pasS_0 (GR_z g p d (by omega) hd) (i32_0le.mpr hb1)]
    exact ⟨g, hb1, hb2⟩
theorem GR_pasX {p k : Nat} (hB : GB B n nd l) (g : GR B R nd t) (hp : p < 7) (hk : k ≤ 6) : GR B (pasX B R n p k).1 nd t ∧ 0 ≤ (pasX B R n p k).2.toInt ∧ (pasX B R n p k).2.toInt ≤ 9 := by
  unfold pasX
  have h7 := GB_n7 hB
  exact it_inv (P := fun x : Rw × Int32 => GR B x.1 nd t ∧ 0 ≤ x.2.toInt ∧ x.2.toInt ≤ 9) k ⟨g, GB_g hB⟩ (fun i x hi hx => GR_pasS (fun j e => by have := heirF_lt e; omega) hp (by omega) (GB_d6 hB) hx)
theorem pas_n {p : Nat} (hB : GB B n nd l) (g : GR B R nd t) (hp : p < 7) : pasX B R n p nd = pasX B R n p 6 :=
  pas_6 (GB_d6 hB) (GR_z g) (i32_0le.mpr (GB_g hB).1) (fun d hd => (GR_pl g hp hd).1)
theorem GR_pasF {p : Nat} (hB : GB B n nd l) (g : GR B R nd t) (hp : p < 7) : GR B (pasF B R n p) nd t :=
  GR_up0 (GR_pasX hB g hp (Nat.le_refl 6)).1 (by omega)
theorem GR_passF {p : Nat} (hB : GB B n nd l) (g : GR B R nd t) (hp : p < 7) : GR B (passF B R n p) nd t := by
  unfold passF
  split
  · exact g
  · exact GR_pasF hB g hp
theorem GR_dieF {p : Nat} (hB : GB B n nd l) (g : GR B R nd t) (hp : p < 7) : GR B (dieF B R n p) nd t := GR_passF hB (GR_up0 g (by omega)) hp
theorem splS_0 {p d : Nat} (hs : B 6 d = 0) (z : R 1 (6 * p + d) = 0) : splS B p d R = R := by
  unfold splS
  have e : mn (0 : Int32) 0 = 0 := by decide
  rw [hs, z, e, Int32.sub_zero, Int32.add_zero]
  have e1 : up R 1 (6 * p + d) 0 = R := by
    conv => lhs; rw [← z]
    exact up_self _ _ _
  rw [e1, up_self]
theorem GR_splS {p d : Nat} (hB : GB B n nd l) (g : GR B R nd t) (hp : p < 7) (hd : d < 6) : GR B (splS B p d R) nd t := by
  by_cases c : d < nd
  · have b1 := GR_pl g hp hd
    have b2 := GB_s hB d hd
    have b3 := GR_tt g hd
    have e0 := mn_tI (B 6 d) (R 1 (6 * p + d))
    have e1 : (R 1 (6 * p + d) - mn (B 6 d) (R 1 (6 * p + d))).toInt = (R 1 (6 * p + d)).toInt - (mn (B 6 d) (R 1 (6 * p + d))).toInt := tI_sub (by omega) (by omega)
    unfold splS
    exact GR_up0 (GR_up1 g hp c (GB_d6 hB) (by omega) (by omega)) (by omega)
  · rw [splS_0 (GB_s0 hB d (by omega) hd) (GR_z g p d (by omega) hd)]
    exact g
theorem GR_spl {p k : Nat} (hB : GB B n nd l) (g : GR B R nd t) (hp : p < 7) (hk : k ≤ 6) : GR B (it (splS B p) k R) nd t :=
  it_inv (P := fun R => GR B R nd t) k g (fun i x hi hx => GR_splS hB hx hp (by omega))
theorem GR_hng {p : Nat} (g : GR B R nd t) : GR B (hngF B p R) nd t := by
  unfold hngF
  split
  · exact g
  · exact GR_up5 g
theorem GR_gonS {p : Nat} (hB : GB B n nd l) (g : GR B R nd t) (hp : p < 7) : GR B (gonS B p R) nd t := by
  unfold gonS
  have b := GB_w hB p hp
  have z0 : (0 : Int32).toInt = 0 := rfl
  exact GR_spl hB (GR_up4 (GR_hng g) (by omega) (by omega)) hp (Nat.le_refl 6)
theorem GR_gons {k : Nat} (hB : GB B n nd l) (g : GR B R nd t) (hk : k ≤ 7) : GR B (it (gonS B) k R) nd t :=
  it_inv (P := fun R => GR B R nd t) k g (fun i x hi hx => GR_gonS hB hx (by omega))
theorem GR_gonF (hB : GB B n nd l) (g : GR B R nd t) (ht : t < 200) : GR B (gonF B R n) nd (t + 1) := by
  have g1 := GR_gons hB g (GB_n7 hB)
  unfold gonF
  rw [GR_t g1, show (1 : Int32) = nI 1 from rfl, nI_ad]
  exact GR_up05 g1 (by omega)
theorem GR_mealF {k : Nat} (hB : GB B n nd l) (g : GR B R nd t) (hk : t + k ≤ 200) : GR B (mealF B R n k) nd (t + k) := by
  unfold mealF
  induction k with
  | zero => exact g
  | succ k ih =>
    rw [it_s, show t + (k + 1) = t + k + 1 by omega]
    exact GR_gonF hB (ih (by omega)) (by omega)
theorem GR_drP {p : Nat} {x : Rw × Int32} (hB : GB B n nd l) (g : GR B x.1 nd t) (hp : p < 7) : GR B (drP B n p x).1 nd t := by
  unfold drP
  split
  · exact g
  · split
    · exact GR_passF hB g hp
    · split
      · simp only
        split
        · exact GR_dieF hB g hp
        · exact g
      · exact GR_eatsF g (GB_w hB) hp (GB_d6 hB)
theorem GR_drPs {k : Nat} {x : Rw × Int32} (hB : GB B n nd l) (g : GR B x.1 nd t) (hk : k ≤ 7) : GR B (it (drP B n) k x).1 nd t :=
  it_inv (P := fun x : Rw × Int32 => GR B x.1 nd t) k g (fun i x hi hx => GR_drP hB hx (by omega))
theorem GR_drD {x : Rw × Int32} (hB : GB B n nd l) (g : GR B x.1 nd t) (ht : t < 200) : GR B (drD B n x).1 nd (t + 1) :=
  GR_gonF hB (GR_drPs hB g (GB_n7 hB)) ht
theorem GR_drs {k : Nat} {x : Rw × Int32} (hB : GB B n nd l) (g : GR B x.1 nd t) (hk : t + k ≤ 200) : GR B (drsF B n k x).1 nd (t + k) := by
  unfold drsF
  induction k with
  | zero => exact g
  | succ k ih =>
    rw [it_s, show t + (k + 1) = t + k + 1 by omega]
    exact GR_drD hB (ih (by omega)) (by omega)
/-- what lies on a plate: a small number -/
theorem onF_tI {p : Nat} (g : GR B R nd t) (hp : p < 7) : (onF R p).toInt = (R 1 (6 * p)).toInt + (R 1 (6 * p + 1)).toInt + (R 1 (6 * p + 2)).toInt + (R 1 (6 * p + 3)).toInt + (R 1 (6 * p + 4)).toInt + (R 1 (6 * p + 5)).toInt := by
  have a0 := GR_pl g hp (show 0 < 6 by omega)
  have a1 := GR_pl g hp (show 1 < 6 by omega)
  have a2 := GR_pl g hp (show 2 < 6 by omega)
  have a3 := GR_pl g hp (show 3 < 6 by omega)
  have a4 := GR_pl g hp (show 4 < 6 by omega)
  have a5 := GR_pl g hp (show 5 < 6 by omega)
  rw [Nat.add_zero] at a0
  have z0 : (0 : Int32).toInt = 0 := rfl
  have e : onF R p = 0 + R 1 (6 * p) + R 1 (6 * p + 1) + R 1 (6 * p + 2) + R 1 (6 * p + 3) + R 1 (6 * p + 4) + R 1 (6 * p + 5) := rfl
  have c0 := tI_add (a := 0) (b := R 1 (6 * p)) (by omega) (by omega)
  have c1 := tI_add (a := 0 + R 1 (6 * p)) (b := R 1 (6 * p + 1)) (by omega) (by omega)
  have c2 := tI_add (a := 0 + R 1 (6 * p) + R 1 (6 * p + 1)) (b := R 1 (6 * p + 2)) (by omega) (by omega)
  have c3 := tI_add (a := 0 + R 1 (6 * p) + R 1 (6 * p + 1) + R 1 (6 * p + 2)) (b := R 1 (6 * p + 3)) (by omega) (by omega)
  have c4 := tI_add (a := 0 + R 1 (6 * p) + R 1 (6 * p + 1) + R 1 (6 * p + 2) + R 1 (6 * p + 3)) (b := R 1 (6 * p + 4)) (by omega) (by omega)
  have c5 := tI_add (a := 0 + R 1 (6 * p) + R 1 (6 * p + 1) + R 1 (6 * p + 2) + R 1 (6 * p + 3) + R 1 (6 * p + 4)) (b := R 1 (6 * p + 5)) (by omega) (by omega)
  rw [e]
  omega
theorem onF_b {p : Nat} (g : GR B R nd t) (hp : p < 7) : 0 ≤ (onF R p).toInt ∧ (onF R p).toInt ≤ 2274 := by
  have a0 := GR_pl g hp (show 0 < 6 by omega)
  have a1 := GR_pl g hp (show 1 < 6 by omega)
  have a2 := GR_pl g hp (show 2 < 6 by omega)
  have a3 := GR_pl g hp (show 3 < 6 by omega)
  have a4 := GR_pl g hp (show 4 < 6 by omega)
  have a5 := GR_pl g hp (show 5 < 6 by omega)
  rw [Nat.add_zero] at a0
  rw [onF_tI g hp]
  omega
theorem onF_le {p : Nat} (g : GR B R nd t) (hp : p < 7) : onF R p ≤ 0 ↔ onF R p = 0 := by
  have h := onF_b g hp
  rw [Int32.le_iff_toInt_le, i32_eq, show (0 : Int32).toInt = 0 from rfl]
  omega
/-- what the reference's act does is what the class' acts do -/
theorem liv_die {p k : Nat} {a : Int32} (g : GR B R nd t) (hp : p < 7) : livF B R n 5 p k a = dieF B R n p := by
  unfold livF dieF passF
  have g1 : GR B (up R 0 6 (R 0 6 ||| bit p)) nd t := GR_up0 g (by omega)
  have e := onF_le g1 hp
  by_cases c : onF (up R 0 6 (R 0 6 ||| bit p)) p = 0
  · simp only [Nat.reduceEqDiff, if_false, or_self, if_pos c, if_pos (e.mpr c)]
  · simp only [Nat.reduceEqDiff, if_false, or_self, if_neg c, if_neg (fun z => c (e.mp z))]
theorem liv_rise {p k : Nat} {a : Int32} (h : ¬ onF R p = 0) : livF B R n 2 p k a = passF B R n p := by
  unfold livF passF
  rw [if_neg (by omega), if_neg (by omega), if_pos rfl, if_neg h]
end GBs
