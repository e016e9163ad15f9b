/-! THE PURE MEMORY AS A WORLD OF THE KIT -/
def cv (ρ : Nat → Nat) : Value → Value
  | .ref a => .ref (ρ a)
  | v => v
def tyL (dA : Nat → ClassId) : List (ClassId × FieldType) := [(dA 0, .int), (dA 1, .byte), (dA 2, .boolean), (dA 3, .long), (dA 4, .object "SecondHelpings$State"), (dA 5, .object "SecondHelpings$Line"), (dA 6, .object "SecondHelpings$Kept"), (dA 7, .object "java/lang/String")]
def kcl (K : Nat) : Nat := if K = 50 then 21 else K - 1
def kar (K : Nat) : Nat := if K = 201 then 1 else if K = 200 then 0 else K - 100
def nfK (K : Nat) : Nat := ((clL[kcl K]?).map fun q => q.2.2).getD 0
def ftK (K j : Nat) : FieldType := tyF (kcl K) j
def cnt (t : Nat) (ρ : Nat → Nat) (m : PM) (a : Nat) : ((Nat → Int32) ⊕ (Nat → Int64) ⊕ (Nat → UInt32) ⊕ (Nat → UInt64) ⊕ (Nat → Option Nat)) :=
  if t ≤ 2 then .inl (gI m a) else if t = 3 then .inr (.inl (gJ m a)) else .inr (.inr (.inr (.inr (fun k => (gR m a k).map ρ))))
def eE (dA : Nat → ClassId) (ρ : Nat → Nat) (m : PM) (a : Nat) : va_E :=
  if gK m a < 100 then .inr (kcl (gK m a), (List.range (nfK (gK m a))).map fun k => cv ρ (pvF m (ftK (gK m a) k) a k))
  else .inl (dA (kar (gK m a)), gN m a, cnt (kar (gK m a)) ρ m a)
def wsW (dA : Nat → ClassId) (ρ : Nat → Nat) (m : PM) : va_W := (List.range (gX m)).map fun a => (ρ a, eE dA ρ m a)
def csL : List Nat := (List.range 64).map (1000000 + ·) ++ [1900000, 1900001, 1900002]
def wsK (dA : Nat → ClassId) (ρ : Nat → Nat) (m : PM) : va_W := csL.map fun a => (ρ a, eE dA ρ m a)
def lvI (m : PM) (b : Nat) : Prop := b < gX m ∨ b ∈ csL
def vK (K : Nat) : Prop := (1 ≤ K ∧ K ≤ 22) ∨ (100 ≤ K ∧ K ≤ 107)
def Wf (m : PM) : Prop := gX m ≤ 1000000 ∧ (∀ a, a < gX m → vK (gK m a)) ∧ (∀ a, gK m a ≠ 0 → lvI m a) ∧ (∀ a ∈ csL, gK m a = 50 ∨ gK m a = 201 ∨ gK m a = 200) ∧ (∀ a k b, gR m a k = some b → lvI m b)
def lvV (m : PM) : Value → Prop
  | .ref b => lvI m b
  | _ => True
theorem csL_ge {a : Nat} (h : a ∈ csL) : 1000000 ≤ a := by
  unfold csL at h
  rcases List.mem_append.mp h with h | h
  · obtain ⟨b, -, rfl⟩ := List.mem_map.mp h
    omega
  · simp only [List.mem_cons, List.not_mem_nil, or_false] at h
    omega
theorem wsW_at {dA : Nat → ClassId} {ρ : Nat → Nat} {m : PM} {a : Nat} (h : a < gX m) : (wsW dA ρ m)[a]? = some (ρ a, eE dA ρ m a) := by
  unfold wsW
  rw [List.getElem?_map, List.getElem?_range h]
  rfl
theorem wsW_len {dA : Nat → ClassId} {ρ : Nat → Nat} {m : PM} : (wsW dA ρ m).length = gX m := by
  unfold wsW
  rw [List.length_map, List.length_range]
theorem wsW_out {dA : Nat → ClassId} {ρ : Nat → Nat} {m : PM} {a : Nat} (h : gX m ≤ a) : (wsW dA ρ m)[a]? = none := List.getElem?_eq_none (by rw [wsW_len]; exact h)
theorem wsW_set {dA : Nat → ClassId} {ρ : Nat → Nat} {m m' : PM} {a : Nat} (hx : gX m' = gX m) (hb : ∀ b, b < gX m → b ≠ a → eE dA ρ m' b = eE dA ρ m b) : wsW dA ρ m' = (wsW dA ρ m).set a (ρ a, eE dA ρ m' a) := by
  apply List.ext_getElem?
  intro b
  by_cases hl : b < gX m
  · rw [wsW_at (by rw [hx]; exact hl)]
    by_cases e : a = b
    · subst e
      rw [List.getElem?_set_self (by rw [wsW_len]; exact hl)]
    · rw [List.getElem?_set_ne e, wsW_at hl, hb b hl (Ne.symm e)]
  · rw [wsW_out (by rw [hx]; omega)]
    by_cases e : a = b
    · subst e
      rw [List.getElem?_eq_none (by rw [List.length_set, wsW_len]; omega)]
    · rw [List.getElem?_set_ne e, wsW_out (by omega)]
theorem wsW_push {dA : Nat → ClassId} {ρ ρ' : Nat → Nat} {m m' : PM} (hx : gX m' = gX m + 1) (hb : ∀ b, b < gX m → ρ' b = ρ b ∧ eE dA ρ' m' b = eE dA ρ m b) : wsW dA ρ' m' = wsW dA ρ m ++ [(ρ' (gX m), eE dA ρ' m' (gX m))] := by
  unfold wsW
  rw [hx, List.range_succ, List.map_append]
  congr 1
  apply List.map_congr_left
  intro b hb2
  have := hb b (List.mem_range.mp hb2)
  rw [this.1, this.2]
theorem eE_cong {dA : Nat → ClassId} {ρ ρ' : Nat → Nat} {m m' : PM} {a : Nat} (hK : gK m' a = gK m a) (hN : gN m' a = gN m a) (hI : ∀ k, gI m' a k = gI m a k) (hJ : ∀ k, gJ m' a k = gJ m a k) (hR : ∀ k, (gR m' a k).map ρ' = (gR m a k).map ρ) : eE dA ρ' m' a = eE dA ρ m a := by
  have hc : ∀ t, cnt t ρ' m' a = cnt t ρ m a := by
    intro t
    unfold cnt
    rw [show gI m' a = gI m a from funext hI, show gJ m' a = gJ m a from funext hJ, show (fun k => (gR m' a k).map ρ') = (fun k => (gR m a k).map ρ) from funext hR]
  have hv : ∀ ty k, cv ρ' (pvF m' ty a k) = cv ρ (pvF m ty a k) := by
    intro ty k
    have hr : cv ρ' (va_rf (gR m' a k)) = cv ρ (va_rf (gR m a k)) := by
      have := hR k
      cases h1 : gR m' a k with
      | none =>
        cases h2 : gR m a k with
        | none => rfl
        | some y => rw [h1, h2] at this; cases this
      | some x =>
        cases h2 : gR m a k with
        | none => rw [h1, h2] at this; cases this
        | some y => rw [h1, h2] at this; exact congrArg Value.ref (Option.some.inj this)
    unfold pvF
    cases ty <;> first | exact hr | (simp only [hI, hJ]; rfl)
  unfold eE
  rw [hK, hN, hc]
  simp only [hv]
theorem eE_obj {dA : Nat → ClassId} {ρ : Nat → Nat} {m : PM} {a : Nat} (h : gK m a < 100) : eE dA ρ m a = .inr (kcl (gK m a), (List.range (nfK (gK m a))).map fun k => cv ρ (pvF m (ftK (gK m a) k) a k)) := if_pos h
theorem eE_arr {dA : Nat → ClassId} {ρ : Nat → Nat} {m : PM} {a : Nat} (h : 100 ≤ gK m a) : eE dA ρ m a = .inl (dA (kar (gK m a)), gN m a, cnt (kar (gK m a)) ρ m a) := if_neg (by omega)
theorem map_some_eq {ρ ρ' : Nat → Nat} {m : PM} (hW : Wf m) (hρ : ∀ b, lvI m b → ρ' b = ρ b) (a k : Nat) : (gR m a k).map ρ' = (gR m a k).map ρ := by
  cases h : gR m a k with
  | none => rfl
  | some b => simp only [Option.map_some, hρ b (hW.2.2.2.2 a k b h)]
theorem cv_eq {ρ ρ' : Nat → Nat} {m : PM} (hρ : ∀ b, lvI m b → ρ' b = ρ b) {v : Value} (h : lvV m v) : cv ρ' v = cv ρ v := by
  cases v with
  | ref b => exact congrArg Value.ref (hρ b h)
  | _ => rfl
theorem cv_cat (ρ : Nat → Nat) (v : Value) : (cv ρ v).category = v.category := by cases v <;> rfl
theorem cv_rf (ρ : Nat → Nat) (r : Option Nat) : cv ρ (va_rf r) = va_rf (r.map ρ) := by cases r <;> rfl
/-- a live cell can be read: of the moving world or of the constants -/
theorem rdW {D : va_G} {dA : Nat → ClassId} {A : Nat → Prop} {ρ : Nat → Nat} {m : PM} {H0 H : Heap} {WK : va_W} {locs : List Loc} (hP : va_P D clL (wsW dA ρ m) H) (hS : va_S A H0 H locs) (hC : wsK dA ρ m = WK) (hKP : va_P D clL WK H0) (hKA : ∀ (k : Nat) (q : Nat × va_E), WK[k]? = some q → ¬ A q.1) {a : Nat} (hl : lvI m a) : ∃ (ws' : va_W) (q0 : Nat), va_P D clL ws' H ∧ ws'[q0]? = some (ρ a, eE dA ρ m a) := by
  rcases hl with hl | hl
  · exact ⟨_, a, hP, wsW_at hl⟩
  · refine ⟨WK, ?_⟩
    obtain ⟨i, hi⟩ := List.getElem?_of_mem hl
    refine ⟨i, ?_, ?_⟩
    · refine hKP.kept (fun k q hk => ?_)
      have h1 := (hKP k q hk).lt
      exact hS.2.1 q.1 h1 (hKA k q hk)
    · rw [← hC]
      unfold wsK
      rw [List.getElem?_map, hi]
      rfl
