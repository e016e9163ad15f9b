/-! CONTRACTS of the pure machine's methods over the real one; ends of methods -/
def cndL : List String := ["SecondHelpings$Any", "SecondHelpings$Both", "SecondHelpings$Counts", "SecondHelpings$Marks", "SecondHelpings$Not"]
def cndX : MethodName := ⟨"SecondHelpings$Cond", "is", "(LSecondHelpings;I)Z"⟩
def FwW (U : State) : Prop := ∀ C ∈ cndL, va_Fw C cndX ⟨C, "is", "(LSecondHelpings;I)Z"⟩ U
def ThW (A : Nat → Prop) (U : State) (H : Heap) : Prop := vx_Zq Bundle.tN "UNASSIGNED_STACK" Bundle.steD A U H ∧ vx_Zq Bundle.tN "SUPPRESSED_SENTINEL" Bundle.listD A U H
def rdL : List String := ["SecondHelpings$BoardReader", "SecondHelpings$BookReader", "SecondHelpings$SentenceReader"]
def rdY : List MethodName := [yX5_peek, yX5_isLetter, yX5_isDigit, yX5_run]
/-- private methods of the abstract reader are selected in its heirs -/
def RdW (U : State) : Prop := ∀ C ∈ rdL, ∀ y ∈ rdY, (Cond.selects C y y).before #[] U = true
theorem RdW.warm {s U : State} (hW : s.WarmedH U.vm) (h : RdW s) : RdW U := fun C hC y hy => word_at hW (Or.inl rfl) (h C hC y hy)
theorem RdW.same {s U : State} (hv : s.vm = U.vm) (h : RdW s) : RdW U := fun C hC y hy => va_tabs (c := Cond.selects C y y) rfl hv (h C hC y hy)
/-- of the tables alone -/
def Kt (D : va_G) (dA : Nat → ClassId) (U : State) : Prop := va_K D clL (tyL dA) U ∧ NxW U ∧ (∀ C ∈ caL, va_AO C U) ∧ FwW U ∧ RdW U
/-- a method's start -/
def Pr (D : va_G) (dA : Nat → ClassId) (ρ : Nat → Nat) (m : PM) (sz : Nat) (U : State) : Prop :=
  U.heap.size = sz ∧ Kt D dA U ∧ va_P D clL (wsW dA ρ m) U.heap ∧ va_D (fun _ => True) (wsW dA ρ m) ∧ va_P D clL (wsK dA ρ m) U.heap ∧ (∀ a ∈ csL, ¬ va_A (wsW dA ρ m) sz (ρ a)) ∧ StW ρ U ∧ ZsW ρ (va_A (wsW dA ρ m) sz) U U.heap ∧ ThW (va_A (wsW dA ρ m) sz) U U.heap
theorem Kt.warm {D : va_G} {dA : Nat → ClassId} {s U : State} (hW : s.WarmedH U.vm) (h : Kt D dA s) : Kt D dA U :=
  ⟨va_K.moved hW.alike h.1, h.2.1.warm hW, fun C hC => (h.2.2.1 C hC).moved hW.alike, fun C hC => (h.2.2.2.1 C hC).moved (by decide) hW.alike, h.2.2.2.2.warm hW⟩
theorem Kt.same {D : va_G} {dA : Nat → ClassId} {s U : State} (hv : s.vm = U.vm) (h : Kt D dA s) : Kt D dA U :=
  have hA : s.vm.Alike U.vm := by rw [hv]; exact Vm.Alike.refl U.vm
  ⟨va_K.moved hA h.1, h.2.1.same hv, fun C hC => (h.2.2.1 C hC).moved hA, fun C hC => (h.2.2.2.1 C hC).moved (by decide) hA, h.2.2.2.2.same hv⟩
theorem Pr.same {D : va_G} {dA : Nat → ClassId} {ρ : Nat → Nat} {m : PM} {sz : Nat} {s U : State} (hv : s.vm = U.vm) (hh : s.heap = U.heap) (h : Pr D dA ρ m sz s) : Pr D dA ρ m sz U := by
  have hA : s.vm.Alike U.vm := by rw [hv]; exact Vm.Alike.refl U.vm
  obtain ⟨h1, h2, h3, h4, h5, h6, h7, ⟨z1, z2, z3⟩, t1, t2⟩ := h
  rw [hh] at h1 h3 h5 z1 z2 z3 t1 t2
  exact ⟨h1, h2.same hv, h3, h4, h5, h6, fun own k i hi hw => (h7 own k i hi hw).same hv.symm, ⟨z1.moved hA, z2.moved hA, z3.moved hA⟩, t1.moved hA, t2.moved hA⟩
/-- a method's end -/
def Fin_ (D : va_G) (dA : Nat → ClassId) (A : Nat → Prop) (ρ0 : Nat → Nat) (m0 : PM) (ρ' : Nat → Nat) (mF : PM) (t : State) : Prop :=
  (∀ a, lvI m0 a → ρ' a = ρ0 a) ∧ va_P D clL (wsW dA ρ' mF) t.heap ∧ va_D A (wsW dA ρ' mF) ∧ wsK dA ρ' mF = wsK dA ρ0 m0 ∧ Wf mF ∧ gX m0 ≤ gX mF ∧ gS m0 ≤ gS mF
def QcP (D : va_G) (dA : Nat → ClassId) (A : Nat → Prop) (ρ0 : Nat → Nat) (m0 : PM) (r : PRes) : Array Value → State → Outcome → State → Prop := fun _ st oc t => r.1.1 = 0 ∧ (∃ ρ', Fin_ D dA A ρ0 m0 ρ' r.2 t ∧ oc = .returned (r.1.2.map (cv ρ')) ∧ ∀ v, r.1.2 = some v → lvV r.2 v) ∧ va_F A st t
def XcP (D : va_G) (dA : Nat → ClassId) (A : Nat → Prop) (ρ0 : Nat → Nat) (m0 : PM) (r : PRes) : String → Addr → State → State → Prop := fun E q st t => (∃ ρ', Fin_ D dA A ρ0 m0 ρ' r.2 t ∧ ((r.1.1 = 1 ∧ E = RX2 ∧ ∃ a, r.1.2 = some (.ref a) ∧ q = ρ' a ∧ lvI r.2 a ∧ gK r.2 a = 2) ∨ (r.1.1 = 2 ∧ r.1.2 = none ∧ E = "java/util/NoSuchElementException"))) ∧ va_F A st t
section RET
variable {p : Program} {l : Launch} {e : Env} {R : Room} {s : State} {mth : MethodId} {args : Array Value} {below : List Frame} {meth : Method} {c : Code} {Q : State → Prop}
variable {D : va_G} {dA : Nat → ClassId} {A : Nat → Prop} {WK : va_W} {ρ0 : Nat → Nat} {m0 : PM} {nL o : Nat} {cc : ByteArray} {rt : Option FieldType} {len : Nat}
theorem fin_of {ρ : Nat → Nat} {m : PM} {L : PLs} {st : List Value} {H : Heap} {locs : List Loc} {ls : Array Slot} (iv : Iv D dA A WK s ρ0 m0 nL ρ m L st H locs ls) (hWK : WK = wsK dA ρ0 m0) {t : State} (ht : t.heap = H) : Fin_ D dA A ρ0 m0 ρ m t ∧ va_F A s t :=
  ⟨⟨iv.2.2.2.2.2.2, by rw [ht]; exact iv.1.1, iv.1.2.1, by rw [iv.1.2.2.2.1, hWK], iv.1.2.2.2.2, iv.2.2.2.2.1, iv.2.2.2.2.2.1⟩, iv.1.2.2.1.F ht⟩
def xc : Nat → Nat
  | 2 => 1
  | _ => 0
/-- cells and slots that a run takes: the exception that isn't a Fault is counted -/
def xX (r : PRes) (m : PM) : Nat := gX r.2 - gX m + xc r.1.1
def xS (r : PRes) (m : PM) : Nat := gS r.2 - gS m + 6 * xc r.1.1
theorem xX0 {r : PRes} {m : PM} (h : r.1.1 = 0 ∨ r.1.1 = 1) : xX r m = gX r.2 - gX m ∧ xS r m = gS r.2 - gS m := by
  unfold xX xS
  rcases h with h | h <;> rw [h] <;> exact ⟨rfl, rfl⟩
def Qr (D : va_G) (dA : Nat → ClassId) (A : Nat → Prop) (ρ0 : Nat → Nat) (m0 : PM) (r : PRes) (below : List Frame) (args : Array Value) (s : State) : State → Prop := vx_MQ below (QcP D dA A ρ0 m0 r) (XcP D dA A ρ0 m0 r) args s (xX r m0) (xS r m0) A
theorem rxe {c : Nat} {v : Option Value} {m : PM} {r : PRes} (h : rx c v m = some (.inr (.inl r))) : r = ((c, v), m) := by cases h; rfl
theorem sim_ireturn {pc : Nat} {L : PLs} {st : List Value} {m : PM} {r : PRes} (hx : p.tables.exec = Jvm.exec) (hb : c.code = cc) (hrt : meth.sig.returnType = rt) (hlocks : meth.locks = false) (hWK : WK = wsK dA ρ0 m0) (hd : decode cc pc = .ok (.ireturn, len)) (hl : iln .ireturn = 0 ∨ iln .ireturn = len) (hs : sx pT pM o rt pc L st m .ireturn = some (.inr (.inl r))) : Gl p l e R s mth args below meth c (Qr D dA A ρ0 m0 r below args s) D dA A WK ρ0 m0 nL pc L st m := by
  intro ρ H locs ls iv
  obtain rfl : len = 1 := ln_of hl rfl
  rcases st with _ | ⟨v1, _ | ⟨v2, st⟩⟩
  · exact nn hs
  · cases v1
    case int v =>
      obtain ⟨ty, hty, hs⟩ := mso hs
      obtain ⟨hn, hs⟩ := its hs
      have er := rxe hs
      subst er
      exact vx_ret (W.zret hx hb (hrt.trans hty) hn (fun t ht hW => ⟨rfl, ⟨ρ, (fin_of iv hWK ht).1, rfl, fun w hw => by cases hw; trivial⟩, (fin_of iv hWK ht).2⟩) iv.1.2.2.1.2.2 hd hlocks)
    all_goals exact nn hs
  · cases v1 <;> exact nn hs
theorem sim_lreturn {pc : Nat} {L : PLs} {st : List Value} {m : PM} {r : PRes} (hx : p.tables.exec = Jvm.exec) (hb : c.code = cc) (hrt : meth.sig.returnType = rt) (hlocks : meth.locks = false) (hWK : WK = wsK dA ρ0 m0) (hd : decode cc pc = .ok (.lreturn, len)) (hl : iln .lreturn = 0 ∨ iln .lreturn = len) (hs : sx pT pM o rt pc L st m .lreturn = some (.inr (.inl r))) : Gl p l e R s mth args below meth c (Qr D dA A ρ0 m0 r below args s) D dA A WK ρ0 m0 nL pc L st m := by
  intro ρ H locs ls iv
  obtain rfl : len = 1 := ln_of hl rfl
  rcases st with _ | ⟨v1, _ | ⟨v2, st⟩⟩
  · exact nn hs
  · cases v1
    case long v =>
      obtain ⟨hty, hs⟩ := its hs
      have er := rxe hs
      subst er
      exact vx_ret (W.lret hx hb (hrt.trans hty) (fun t ht hW => ⟨rfl, ⟨ρ, (fin_of iv hWK ht).1, rfl, fun w hw => by cases hw; trivial⟩, (fin_of iv hWK ht).2⟩) iv.1.2.2.1.2.2 hd hlocks)
    all_goals exact nn hs
  · cases v1 <;> exact nn hs
theorem isOb_e {rt : Option FieldType} (h : isOb rt = true) : ∃ C, rt = some (.object C) := by
  unfold isOb at h
  split at h
  · exact ⟨_, rfl⟩
  · cases h
theorem sim_areturn {pc : Nat} {L : PLs} {st : List Value} {m : PM} {r : PRes} (hx : p.tables.exec = Jvm.exec) (hb : c.code = cc) (hrt : meth.sig.returnType = rt) (hlocks : meth.locks = false) (hWK : WK = wsK dA ρ0 m0) (hd : decode cc pc = .ok (.areturn, len)) (hl : iln .areturn = 0 ∨ iln .areturn = len) (hs : sx pT pM o rt pc L st m .areturn = some (.inr (.inl r))) : Gl p l e R s mth args below meth c (Qr D dA A ρ0 m0 r below args s) D dA A WK ρ0 m0 nL pc L st m := by
  intro ρ H locs ls iv
  obtain rfl : len = 1 := ln_of hl rfl
  rcases st with _ | ⟨v1, _ | ⟨v2, st⟩⟩
  · exact nn hs
  · cases v1
    case ref a =>
      obtain ⟨hty, hs⟩ := its hs
      obtain ⟨C, hty⟩ := isOb_e hty
      have er := rxe hs
      subst er
      exact vx_ret (W.aret (v := .ref (ρ a)) hx hb (hrt.trans hty) (Or.inl ⟨C, rfl⟩) (Or.inr ⟨_, rfl⟩) (fun t ht hW => ⟨rfl, ⟨ρ, (fin_of iv hWK ht).1, rfl, fun w hw => by cases hw; exact lvh iv.2.2.1⟩, (fin_of iv hWK ht).2⟩) iv.1.2.2.1.2.2 hd hlocks)
    case null =>
      obtain ⟨hty, hs⟩ := its hs
      obtain ⟨C, hty⟩ := isOb_e hty
      have er := rxe hs
      subst er
      exact vx_ret (W.aret (v := .null) hx hb (hrt.trans hty) (Or.inl ⟨C, rfl⟩) (Or.inl rfl) (fun t ht hW => ⟨rfl, ⟨ρ, (fin_of iv hWK ht).1, rfl, fun w hw => by cases hw; trivial⟩, (fin_of iv hWK ht).2⟩) iv.1.2.2.1.2.2 hd hlocks)
    all_goals exact nn hs
  · cases v1 <;> exact nn hs
theorem sim_return {pc : Nat} {L : PLs} {st : List Value} {m : PM} {r : PRes} (hx : p.tables.exec = Jvm.exec) (hb : c.code = cc) (hrt : meth.sig.returnType = rt) (hlocks : meth.locks = false) (hWK : WK = wsK dA ρ0 m0) (hd : decode cc pc = .ok (.return_, len)) (hl : iln .return_ = 0 ∨ iln .return_ = len) (hs : sx pT pM o rt pc L st m .return_ = some (.inr (.inl r))) : Gl p l e R s mth args below meth c (Qr D dA A ρ0 m0 r below args s) D dA A WK ρ0 m0 nL pc L st m := by
  intro ρ H locs ls iv
  obtain rfl : len = 1 := ln_of hl rfl
  rcases st with _ | ⟨v1, st⟩
  · obtain ⟨hty, hs⟩ := its hs
    have er := rxe hs
    subst er
    exact vx_ret (W.vret hx hb (hrt.trans hty) (fun t ht hW => ⟨rfl, ⟨ρ, (fin_of iv hWK ht).1, rfl, fun w hw => by cases hw⟩, (fin_of iv hWK ht).2⟩) iv.1.2.2.1.2.2 hd hlocks)
  · exact nn hs
/-- the cell of a fault -/
theorem fault_cell {ρ : Nat → Nat} {m : PM} {L : PLs} {st : List Value} {H : Heap} {locs : List Loc} {ls : Array Slot} (hK : va_K D clL (tyL dA) s) (iv : Iv D dA A WK s ρ0 m0 nL ρ m L st H locs ls) {a : Nat} (hl : lvI m a) (hk : gK m a = 2) : ∃ ce : Cell, H[ρ a]? = some ce ∧ ce.vm = .none ∧ s.vm.findClass RX2 = some ce.cls := by
  have hlt := lt_of_lv iv.1.2.2.2.2 hl (by omega) (by omega)
  have he := wsW_at (dA := dA) (ρ := ρ) hlt
  rw [eE_obj (by omega), hk] at he
  obtain ⟨r, h1, cell, h2, h3, h4, -⟩ := iv.1.1 a _ he
  exact ⟨cell, h2, h4, by rw [h3]; exact (hK.1 1 _ rfl).2.1⟩
theorem sim_athrow {pc : Nat} {L : PLs} {st : List Value} {m : PM} {r : PRes} (hx : p.tables.exec = Jvm.exec) (hb : c.code = cc) (hK : va_K D clL (tyL dA) s) (hlocks : meth.locks = false) (hWK : WK = wsK dA ρ0 m0) (hout : ∀ x ∈ c.exceptionTable.toList, covers x pc = false) (hd : decode cc pc = .ok (.athrow, len)) (hl : iln .athrow = 0 ∨ iln .athrow = len) (hs : sx pT pM o rt pc L st m .athrow = some (.inr (.inl r))) : Gl p l e R s mth args below meth c (Qr D dA A ρ0 m0 r below args s) D dA A WK ρ0 m0 nL pc L st m := by
  intro ρ H locs ls iv
  obtain rfl : len = 1 := ln_of hl rfl
  rcases st with _ | ⟨v1, _ | ⟨v2, st⟩⟩
  · exact nn hs
  · cases v1
    case ref a =>
      obtain ⟨hk, hs⟩ := its hs
      have er := rxe hs
      subst er
      have hlv : lvI m a := lvh iv.2.2.1
      obtain ⟨ce, h1, h2, h3⟩ := fault_cell hK iv hlv hk
      exact vx_athrow hx hb hd (vx_out hout hlocks h1 h2 h3 (fun t ht _ => ⟨⟨ρ, (fin_of iv hWK ht).1, Or.inl ⟨rfl, rfl, a, rfl, rfl, hlv, hk⟩⟩, (fin_of iv hWK ht).2⟩) iv.1.2.2.1.2.2 (Nat.le_refl _) (Nat.le_refl _))
    all_goals exact nn hs
  · cases v1 <;> exact nn hs
theorem sim_getstatic {pc pc' : Nat} {L L' : PLs} {st st' : List Value} {m m' : PM} {idx : Nat} (hx : p.tables.exec = Jvm.exec) (hb : c.code = cc) (hown : s.vm.findClass (onm (o % 100)) = some mth.cls) (hts : ∀ w ∈ lw_all, w.before args s = true) (hZ : ZsW ρ0 A s s.heap) (hd : decode cc pc = .ok (.getstatic idx, len)) (hl : iln (.getstatic idx) = 0 ∨ iln (.getstatic idx) = len) (hs : sx pT pM o rt pc L st m (.getstatic idx) = some (.inl (pc', L', st', m'))) (k : Gl p l e R s mth args below meth c Q D dA A WK ρ0 m0 nL pc' L' st' m') : Gl p l e R s mth args below meth c Q D dA A WK ρ0 m0 nL pc L st m := by
  intro ρ H locs ls iv
  obtain rfl : len = 3 := ln_of hl rfl
  obtain ⟨v, hq, hs⟩ := mso hs
  obtain ⟨rfl, rfl, rfl, rfl⟩ := nxe hs
  obtain ⟨hm, e1, e2⟩ := lk5_e hq
  have c0 : 1900000 ∈ csL := by decide
  have c1 : 1900001 ∈ csL := by decide
  obtain ⟨z1, z2, z3⟩ := hZ
  rw [← iv.2.2.2.2.2.2 _ (Or.inr c0)] at z2
  rw [← iv.2.2.2.2.2.2 _ (Or.inr c1)] at z3
  have ki := fun (x : Int32) (h : Value.int x = v) => h
  unfold tG at hm
  simp only [List.mem_cons, List.not_mem_nil, or_false, Prod.mk.injEq] at hm
  have key : ∀ o' : Nat, o % 100 = o' → s.vm.findClass (onm o') = some mth.cls := fun o' h => by rw [← h]; exact hown
  rcases hm with ⟨h1, rfl⟩ | ⟨h1, rfl⟩ | ⟨h1, rfl⟩ | ⟨h1, rfl⟩ | ⟨h1, rfl⟩ | ⟨h1, rfl⟩
  · rw [h1] at e1 e2
    subst e2
    exact va_gets hx hb z1 iv.1.2.2.1 (key 33 e1.symm) (hts _ q706) (fun _ h => h) hd (k ρ H locs ls (iv_st iv (lvn trivial iv.2.2.1)))
  · rw [h1] at e1 e2
    subst e2
    exact va_gets hx hb z2 iv.1.2.2.1 (key 36 e1.symm) (hts _ q1136) (fun _ h => h) hd (k ρ H locs ls (iv_st iv (lvn (show lvI m _ from Or.inr c0) iv.2.2.1)))
  · rw [h1] at e1 e2
    subst e2
    exact va_gets hx hb z3 iv.1.2.2.1 (key 36 e1.symm) (hts _ q1140) (fun _ h => h) hd (k ρ H locs ls (iv_st iv (lvn (show lvI m _ from Or.inr c1) iv.2.2.1)))
  · rw [h1] at e1 e2
    subst e2
    exact va_gets hx hb z1 iv.1.2.2.1 (key 40 e1.symm) (hts _ q1108) (fun _ h => h) hd (k ρ H locs ls (iv_st iv (lvn trivial iv.2.2.1)))
  · rw [h1] at e1 e2
    subst e2
    exact va_gets hx hb z2 iv.1.2.2.1 (key 40 e1.symm) (hts _ q1112) (fun _ h => h) hd (k ρ H locs ls (iv_st iv (lvn (show lvI m _ from Or.inr c0) iv.2.2.1)))
  · rw [h1] at e1 e2
    subst e2
    exact va_gets hx hb z3 iv.1.2.2.1 (key 40 e1.symm) (hts _ q1114) (fun _ h => h) hd (k ρ H locs ls (iv_st iv (lvn (show lvI m _ from Or.inr c1) iv.2.2.1)))
end RET
