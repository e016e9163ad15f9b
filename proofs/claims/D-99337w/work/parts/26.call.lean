/-! SOUNDNESS: calls -/
/-- a call that goes on behind len bytes, or throws -/
def RunL (len : Nat) (p : Program) (l : Launch) (e : Env) (R : Room) (s : State) (m : MethodId) (args : Array Value) (below : List Frame) (meth : Method) (c : Code) (H : Heap) (locs : List Loc) (cells slots mc ms : Nat) (g : JFrame) (rest : List Value) (Qa : State → Outcome → State → Prop) (XC : String → Addr → State → State → Prop) (free : Addr → Prop) : Prop :=
  ∀ T : State, T.heap = H → Stand p l e R s m args below meth c T locs cells slots →
    (∃ (v : Option Value) (st₀ t T' : State) (L : List Loc), st₀.heap = H ∧ Stand p l e R s m args below meth c T' (locs ++ L) (cells + mc) (slots + ms) ∧ (∀ q ∈ L, free q.base) ∧ T'.heap = t.heap ∧ T'.vm = t.vm ∧ Qa st₀ (.returned v) t ∧
      Goes p e below T g T' { g with pc := g.pc + len, stack := v.toList ++ rest }) ∨
    (∃ (q : Addr) (st₀ t T' : State) (L : List Loc) (E : String) (ce : Cell), st₀.heap = H ∧ Stand p l e R s m args below meth c T' (locs ++ L) (cells + mc) (slots + ms) ∧ (∀ z ∈ L, free z.base) ∧ T'.heap = t.heap ∧ T'.vm = t.vm ∧ XC E q st₀ t ∧ t.heap[q]? = some ce ∧ ce.vm = .none ∧ s.vm.findClass E = some ce.cls ∧
      Steps p.tables e below (T.setTop g) ((T'.setTop { g with stack := rest }).pushFrame (.throwing q)))
def Ht (c : Code) (hh : Nat → Option Nat) (own : String) : Prop := (∀ pc, hh pc = none → ∀ x ∈ c.exceptionTable.toList, covers x pc = false) ∧ (∀ pc z, hh pc = some z → ∃ x, c.exceptionTable.toList = [x] ∧ covers x pc = true ∧ x.catchType ≠ 0 ∧ x.handlerPc = z ∧ Cond.classLink own x.catchType RX2 ∈ lw_all)
section CAL
variable {p : Program} {l : Launch} {e : Env} {R : Room} {s : State} {mth : MethodId} {args : Array Value} {below : List Frame} {meth : Method} {c : Code} {Q : State → Prop}
variable {D : va_G} {dA : Nat → ClassId} {A : Nat → Prop} {WK : va_W} {ρ0 : Nat → Nat} {m0 : PM} {nL o : Nat} {cc : ByteArray} {rt : Option FieldType} {len : Nat}
/-- what a callee may change, the caller may -/
theorem A1_sub {ρ : Nat → Nat} {m : PM} {H : Heap} {locs : List Loc} (hD : va_D A (wsW dA ρ m)) (hS : va_S A s.heap H locs) (hA : ∀ q : Nat, s.heap.size ≤ q → A q) : ∀ q, va_A (wsW dA ρ m) H.size q → A q := by
  intro q h
  rcases h with ⟨k, e, h⟩ | h
  · exact hD.2 k _ h
  · exact hA q (Nat.le_trans hS.1 h)
theorem iv_back {ρ ρ' : Nat → Nat} {m mF : PM} {L : PLs} {st st' : List Value} {H : Heap} {locs L2 : List Loc} {ls : Array Slot} {t st₀ : State} (hA : ∀ q : Nat, s.heap.size ≤ q → A q) (iv : Iv D dA A WK s ρ0 m0 nL ρ m L st H locs ls) (h0 : st₀.heap = H) (hF : Fin_ D dA (va_A (wsW dA ρ m) H.size) ρ m ρ' mF t) (hf : va_F (va_A (wsW dA ρ m) H.size) st₀ t) (hL : ∀ q ∈ L2, va_A (wsW dA ρ m) H.size q.base) (hst : ∀ v ∈ st', lvV mF v) : Iv D dA A WK s ρ0 m0 nL ρ' mF L st' t.heap (locs ++ L2) ls := by
  have hsub := A1_sub iv.1.2.1 iv.1.2.2.1 hA
  obtain ⟨f1, f2, f3, f4, f5, f6, f7⟩ := hF
  obtain ⟨⟨g1, g2, g3, g4, g5⟩, ⟨gl1, gl2, gl3, gl4⟩, gs, gL, gx, gy, gr⟩ := iv
  have hlv : ∀ b, lvI m b → lvI mF b := fun b hb => by
    rcases hb with hb | hb
    · exact Or.inl (by omega)
    · exact Or.inr hb
  refine ⟨⟨f2, f3.weaken (fun _ q _ h => hsub q.1 h), ⟨?_, fun q h1 h2 => ?_, fun q hq => ?_⟩, by rw [f4, g4], f5⟩, ⟨gl1, gl2, fun i v hv => ?_, gl4⟩, hst, fun i v hv => ?_, by omega, by omega, fun a ha => ?_⟩
  · have := hf.1
    rw [h0] at this
    exact Nat.le_trans g3.1 this
  · have h3 := hf.2 q (by rw [h0]; exact Nat.lt_of_lt_of_le h1 g3.1) (fun z => h2 (hsub q z))
    rw [h3, h0]
    exact g3.2.1 q h1 h2
  · rcases List.mem_append.mp hq with h | h
    · exact g3.2.2 q h
    · exact hsub _ (hL q h)
  · rw [gl3 i v hv, cv_eq f1 (gL i v hv)]
  · have := gL i v hv
    cases v with
    | ref b => exact hlv b this
    | _ => trivial
  · have hl0 : lvI m a := by
      rcases ha with ha | ha
      · exact Or.inl (by omega)
      · exact Or.inr ha
    rw [f1 a hl0]
    exact gr a ha
theorem map_live {ρ ρ' : Nat → Nat} {m : PM} {st : List Value} (hρ : ∀ b, lvI m b → ρ' b = ρ b) (h : ∀ v ∈ st, lvV m v) : st.map (cv ρ') = st.map (cv ρ) := List.map_congr_left fun v hv => cv_eq hρ (h v hv)
theorem call_go {ρ : Nat → Nat} {m : PM} {L : PLs} {st rest : List Value} {H : Heap} {locs : List Loc} {ls : Array Slot} {pc : Nat} {r rF : PRes} {hh : Nat → Option Nat} {st0 : List Value} {a : Array Value} (hA : ∀ q : Nat, s.heap.size ≤ q → A q) (hown : s.vm.findClass (onm (o % 100)) = some mth.cls) (hts : ∀ w ∈ lw_all, w.before args s = true) (hNx : NxW s) (hlocks : meth.locks = false) (hWK : WK = wsK dA ρ0 m0) (hHt : Ht c hh (onm (o % 100)))
    (iv : Iv D dA A WK s ρ0 m0 nL ρ m L st H locs ls) (hrest : ∀ v ∈ rest, lvV m v)
    (hr : RunL len p l e R s mth args below meth c H locs (gX m - gX m0) (gS m - gS m0) (xX r m) (xS r m) (F0 mth pc ls st0) (rest.map (cv ρ)) (QcP D dA (va_A (wsW dA ρ m) H.size) ρ m r a) (XcP D dA (va_A (wsW dA ρ m) H.size) ρ m r) (va_A (wsW dA ρ m) H.size))
    (k0 : r.1.1 = 0 → Gl p l e R s mth args below meth c (Qr D dA A ρ0 m0 rF below args s) D dA A WK ρ0 m0 nL (pc + len) L (r.1.2.toList ++ rest) r.2)
    (k1 : ∀ z, r.1.1 = 1 → hh pc = some z → Gl p l e R s mth args below meth c (Qr D dA A ρ0 m0 rF below args s) D dA A WK ρ0 m0 nL z L r.1.2.toList r.2)
    (k2 : r.1.1 ≠ 0 → (r.1.1 = 2 → hh pc = none) ∧ (hh pc = none → rF = r)) : W p l e R s mth args below meth c H locs (gX m - gX m0) (gS m - gS m0) (Qr D dA A ρ0 m0 rF below args s) (F0 mth pc ls st0) := by
  intro T hT X
  have gxm := iv.2.2.2.2.1
  have gsm := iv.2.2.2.2.2.1
  rcases hr T hT X with ⟨v, st₀, t, T', L2, h0, X', hL, e1, e2, ⟨hr0, ⟨ρ', hF, hov, hlive⟩, hf⟩, st2⟩ | ⟨q, st₀, t, T', L2, E, ce, h0, X', hL, e1, e2, ⟨⟨ρ', hF, hcase⟩, hf⟩, hq, hvm, hcl, st2⟩
  · cases hov
    have f6 := hF.2.2.2.2.2.1
    have f7 := hF.2.2.2.2.2.2
    have hst' : ∀ v ∈ r.1.2.toList ++ rest, lvV r.2 v := by
      intro w hw
      rcases List.mem_append.mp hw with h | h
      · exact hlive w (Option.mem_toList.mp h)
      · have := hrest w h
        cases w with
        | ref b => rcases this with hb | hb; exact Or.inl (by omega); exact Or.inr hb
        | _ => trivial
    have kk := k0 hr0 ρ' t.heap (locs ++ L2) ls (iv_back hA iv h0 hF hf hL hst')
    rw [List.map_append, map_live hF.1 hrest, show gX r.2 - gX m0 = gX m - gX m0 + (gX r.2 - gX m) by omega, show gS r.2 - gS m0 = gS m - gS m0 + (gS r.2 - gS m) by omega] at kk
    rw [(xX0 (m := m) (Or.inl hr0)).1, (xX0 (m := m) (Or.inl hr0)).2] at X'
    obtain ⟨t2, a1, b1⟩ := kk T' e1 X'
    refine ⟨t2, st2 t2 ?_, b1⟩
    have e9 : (Option.map (cv ρ') r.1.2).toList = r.1.2.toList.map (cv ρ') := by cases r.1.2 <;> rfl
    rw [e9]
    exact a1
  · have f6 := hF.2.2.2.2.2.1
    have f7 := hF.2.2.2.2.2.2
    have key : vx_W p l e R s mth args below meth c t.heap (locs ++ L2) (gX m - gX m0 + xX r m) (gS m - gS m0 + xS r m) (Qr D dA A ρ0 m0 rF below args s) (F0 mth pc ls (rest.map (cv ρ))) q := by
      have hout : hh pc = none → r.1.1 ≠ 0 → vx_W p l e R s mth args below meth c t.heap (locs ++ L2) (gX m - gX m0 + xX r m) (gS m - gS m0 + xS r m) (Qr D dA A ρ0 m0 rF below args s) (F0 mth pc ls (rest.map (cv ρ))) q := by
        intro hn hne
        have er := (k2 hne).2 hn
        have ivB := iv_back (st' := []) hA iv h0 hF hf hL (fun v hv => by cases hv)
        rw [er]
        refine vx_out (hHt.1 pc hn) hlocks hq hvm hcl (fun t' ht' _ => ?_) ivB.1.2.2.1.2.2 (by unfold xX; omega) (by unfold xS; omega)
        refine ⟨⟨ρ', (fin_of ivB hWK ht').1, ?_⟩, (fin_of ivB hWK ht').2⟩
        exact hcase
      rcases hcase with ⟨hc1, hE, a', ha', hqa, hla, hka⟩ | ⟨hc2, hno, hE⟩
      · cases hz : hh pc with
        | none => exact hout hz (by omega)
        | some z =>
          obtain ⟨x, hx1, hx2, hx3, hx4, hx5⟩ := hHt.2 pc z hz
          have hst' : ∀ v ∈ r.1.2.toList, lvV r.2 v := by
            intro w hw
            have := Option.mem_toList.mp hw
            rw [ha'] at this
            cases this
            exact hla
          have kk := k1 z hc1 hz ρ' t.heap (locs ++ L2) ls (iv_back hA iv h0 hF hf hL hst')
          rw [show gX r.2 - gX m0 = gX m - gX m0 + (gX r.2 - gX m) by omega, show gS r.2 - gS m0 = gS m - gS m0 + (gS r.2 - gS m) by omega, ha'] at kk
          subst hE
          refine vx_catch (own := onm (o % 100)) (name := RX2) (E := RX2) hown [] x [] hx1 (fun z hz => by cases hz) hx2 hx3 (hts _ hx5) (va_Nw.use rfl (hNx _ q140 rfl)) hq hvm hcl ?_
          rw [hx4, hqa, (xX0 (m := m) (Or.inr hc1)).1, (xX0 (m := m) (Or.inr hc1)).2]
          exact kk
      · exact hout ((k2 (by omega)).1 hc2) (by omega)
    obtain ⟨t2, a1, b1⟩ := key T' e1 X'
    exact ⟨t2, st2.trans a1, b1⟩
end CAL
