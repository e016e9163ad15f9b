/-! SOUNDNESS: runs of callees by their contracts -/
/-- what a frame knows from its start -/
def Fx (p : Program) (s : State) (mth : MethodId) (args : Array Value) (meth : Method) (c : Code) (D : va_G) (dA : Nat → ClassId) (A : Nat → Prop) (WK : va_W) (ρ0 : Nat → Nat) (m0 : PM) (nL o : Nat) (cc : ByteArray) (rt : Option FieldType) (hh : Nat → Option Nat) : Prop :=
  (p.tables.exec = Jvm.exec ∧ c.code = cc ∧ c.maxLocals = nL ∧ s.vm.findClass (onm (o % 100)) = some mth.cls ∧ ∀ w ∈ lw_all, w.before args s = true) ∧
  (Kt D dA s ∧ ApD D ∧ (∀ q : Nat, s.heap.size ≤ q → A q)) ∧
  (va_P D clL WK s.heap ∧ (∀ (k : Nat) (q : Nat × va_E), WK[k]? = some q → ¬ A q.1) ∧ WK = wsK dA ρ0 m0) ∧
  (StW ρ0 s ∧ ZsW ρ0 A s s.heap ∧ ThW A s s.heap) ∧
  ((100 ≤ o → meth.name = "<init>") ∧ o < 200 ∧ meth.sig.returnType = rt ∧ meth.locks = false ∧ Ht c hh (onm (o % 100)))
def rmD (d mc ms : Nat) : Room := { frames := d, cells := mc, slots := ms, locals := 64 * d }
/-- a method's contract: from the memory m it comes to r -/
def Cn (l : Launch) (D : va_G) (dA : Nat → ClassId) (d mid : Nat) (args : List Value) (m : PM) (r : PRes) : Prop := ∀ (ρ : Nat → Nat) (sz : Nat), vx_Met l (yN mid) (ws_ (yN mid) (pM.2.1 mid) (pM.2.2.1 mid) (pM.2.2.2.1 mid)) (rmD d (xX r m) (xS r m)) (va_Pc (args.map (cv ρ)) (Pr D dA ρ m sz)) (QcP D dA (va_A (wsW dA ρ m) sz) ρ m r) (XcP D dA (va_A (wsW dA ρ m) sz) ρ m r) (xX r m) (xS r m) (va_A (wsW dA ρ m) sz)
theorem cx_e {st : List Value} {mid : Nat} {args rest : List Value} (h : cx pM st mid = some (args, rest)) : st = args.reverse ++ rest ∧ args.length = pM.2.2.2.2.1 mid ∧ (rest.map fun v => v.category).sum ≤ 8 := by
  unfold cx at h
  obtain ⟨h1, h⟩ := itn h
  obtain ⟨h2, h⟩ := itn h
  cases h
  refine ⟨?_, ?_, by omega⟩
  · rw [List.reverse_reverse, List.take_append_drop]
  · rw [List.length_reverse, List.length_take]
    omega
theorem cat_map (ρ : Nat → Nat) (st : List Value) : ((st.map (cv ρ)).map fun v => v.category) = st.map fun v => v.category := by
  rw [List.map_map]
  exact List.map_congr_left fun v _ => cv_cat ρ v
section RUN
variable {p : Program} {l : Launch} {e : Env} {R : Room} {s : State} {mth : MethodId} {args : Array Value} {below : List Frame} {meth : Method} {c : Code} {Q : State → Prop}
variable {D : va_G} {dA : Nat → ClassId} {A : Nat → Prop} {WK : va_W} {ρ0 : Nat → Nat} {m0 : PM} {nL o : Nat} {cc : ByteArray} {rt : Option FieldType} {hh : Nat → Option Nat}
variable {ρ : Nat → Nat} {m : PM} {L : PLs} {st : List Value} {H : Heap} {locs : List Loc} {ls : Array Slot}
theorem pre_of (F : Fx p s mth args meth c D dA A WK ρ0 m0 nL o cc rt hh) (iv : Iv D dA A WK s ρ0 m0 nL ρ m L st H locs ls) : ∀ U : State, U.heap = H → s.WarmedH U.vm → Pr D dA ρ m H.size U := by
  intro U hU hW
  obtain ⟨-, ⟨hKt, -, hA⟩, ⟨hKP, hKA, hWK⟩, ⟨hSt, ⟨z1, z2, z3⟩, t1, t2⟩, -⟩ := F
  have hsub := A1_sub iv.1.2.1 iv.1.2.2.1 hA
  have hS := iv.1.2.2.1
  have hC := iv.1.2.2.2.1
  have hρ : ∀ a ∈ csL, ρ a = ρ0 a := fun a ha => iv.2.2.2.2.2.2 a (Or.inr ha)
  have hq : ∀ a : Nat, a < s.heap.size → ¬ A a → H[a]? = s.heap[a]? := fun a h1 h2 => hS.2.1 a h1 h2
  refine ⟨by rw [hU], hKt.warm hW, by rw [hU]; exact iv.1.1, iv.1.2.1.weaken (fun _ _ _ _ => trivial), ?_, fun a ha z => ?_, fun own k i hi hw => ?_, ⟨?_, ?_, ?_⟩, ?_, ?_⟩
  · rw [hU, hC]
    exact hKP.kept (fun k q hk => hS.2.1 q.1 (hKP k q hk).lt (hKA k q hk))
  · obtain ⟨i, hi⟩ := List.getElem?_of_mem ha
    have h1 : WK[i]? = some (ρ a, eE dA ρ m a) := by
      rw [← hC]
      unfold wsK
      rw [List.getElem?_map, hi]
      rfl
    exact hKA i _ h1 (hsub _ z)
  · rw [hρ _ (cs_str hi)]
    exact (hSt own k i hi hw).warm hW
  · rw [hU]; exact ((z1.kept hq).moved hW.alike).narrow hsub
  · rw [hU, hρ _ (by decide)]; exact ((z2.kept hq).moved hW.alike).narrow hsub
  · rw [hU, hρ _ (by decide)]; exact ((z3.kept hq).moved hW.alike).narrow hsub
  · rw [hU]; exact ((t1.kept hq).moved hW.alike).narrow hsub
  · rw [hU]; exact ((t2.kept hq).moved hW.alike).narrow hsub
theorem blind (D : va_G) (dA : Nat → ClassId) (ρ : Nat → Nat) (m : PM) (sz : Nat) (av : List Value) : FrameBlind (va_Pc av (Pr D dA ρ m sz)) := fun a U g mk q => ⟨q.1, Pr.same (s := U) rfl rfl q.2⟩
theorem run_S {pc idx mid d : Nat} {As rest : List Value} {r : PRes} (F : Fx p s mth args meth c D dA A WK ρ0 m0 nL o cc rt hh) (iv : Iv D dA A WK s ρ0 m0 nL ρ m L st H locs ls) (hRf : d + 1 ≤ R.frames) (hRl : 64 * d + 64 ≤ R.locals) (hf : gX m - gX m0 + (xX r m) ≤ R.cells ∧ gS m - gS m0 + (xS r m) ≤ R.slots) (hC : Cn l D dA d mid As m r) (hok : OKs (o % 100 * 100000 + idx) mid) (e1 : (o % 100 * 100000 + idx) / 100000 = o % 100) (e2 : (o % 100 * 100000 + idx) % 100000 = idx) (hno : ¬ ∃ x, Cond.methodLink (onm (o % 100)) idx x ∈ lw_all ∧ Cond.sameMethod x.cls (yN mid).cls x.name x.desc ∈ lw_all ∧ x.name = (yN mid).name ∧ x.desc = (yN mid).desc) (hcx : cx pM st mid = some (As, rest)) (hd : decode cc pc = .ok (.invokestatic idx, 3)) :
    RunL 3 p l e R s mth args below meth c H locs (gX m - gX m0) (gS m - gS m0) (xX r m) (xS r m) (F0 mth pc ls (st.map (cv ρ))) (rest.map (cv ρ)) (QcP D dA (va_A (wsW dA ρ m) H.size) ρ m r (As.map (cv ρ)).toArray) (XcP D dA (va_A (wsW dA ρ m) H.size) ρ m r) (va_A (wsW dA ρ m) H.size) := by
  obtain ⟨hst, hlen, hsum⟩ := cx_e hcx
  obtain ⟨n, ⟨hcode, hini, hdd, hmL⟩, hn, hstat, halt⟩ := hok
  rw [e1, e2] at halt
  have hstack : (F0 mth pc ls (st.map (cv ρ))).stack = (As.map (cv ρ)).reverse ++ rest.map (cv ρ) := by
    show st.map (cv ρ) = _
    rw [hst, List.map_append, List.map_reverse]
  have hroom : 2 * (F0 mth pc ls (st.map (cv ρ))).monitorRoom + ((rest.map (cv ρ)).map fun v => v.category).sum ≤ 8 := lv_room (by rw [cat_map]; exact hsum)
  have hp : PreS s H (va_Pc (As.map (cv ρ)) (Pr D dA ρ m H.size)) (As.map (cv ρ)) := ⟨blind _ _ _ _ _ _, fun U hU hW => ⟨rfl, pre_of F iv U hU hW⟩⟩
  rcases halt with h | ⟨host, h⟩ | h
  · exact vx_runS F.1 (hC ρ H.size) (va_cwS n F.1.2.2.2.2 (lw_S h hstat hini hcode) rfl rfl rfl hdd ⟨hRf, by show 8 + (_ + 11) + 64 * d ≤ _; omega⟩) hp rfl (by rw [List.length_map, hlen, hn]) iv.2.1.1 hstack hroom hd hf
  · exact vx_runSN F.1 (hC ρ H.size) ⟨va_cnB n F.1.2.2.2.2 (lw_meth hcode) rfl rfl rfl (F.2.1.1.2.1 _ h rfl) (F.1.2.2.2.2 _ hini) hdd ⟨hRf, by show 8 + (_ + 11) + 64 * d ≤ _; omega⟩, F.1.2.2.2.2 _ hstat, trivial⟩ hp rfl (by rw [List.length_map, hlen, hn]) iv.2.1.1 hstack hroom hd hf
  · exact absurd h hno
end RUN
