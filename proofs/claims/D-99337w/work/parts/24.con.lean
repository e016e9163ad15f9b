/-! SOUNDNESS: new arrays, constants, statics -/
theorem ldcWS {p : Program} {l : Launch} {e : Env} {R : Room} {s : State} {m : MethodId} {args : Array Value} {below : List Frame} {meth : Method} {c : Code} {T : State} {locs : List Loc} {cells slots : Nat}
    (X : Stand p l e R s m args below meth c T locs cells slots) (hexec : p.tables.exec = Jvm.exec) {own text : String} {index : Nat} {a : Addr} (hown : s.vm.findClass own = some m.cls)
    (hconst : (Cond.stringRef own index text).before #[] s = true) (hev : (Term.string own index).eval #[] s none [] s = some (.ref a)) {g : JFrame} (hg : g.method = m) (hdg : decode c.code g.pc = .ok (.ldc_w index, 3)) :
    ∀ target, Steps p.tables e below (T.setTop { g with pc := g.pc + 3, stack := .ref a :: g.stack }) target → Steps p.tables e below (T.setTop g) target := by
  obtain ⟨k, cf, i, a', hk, hcf, hcp, -, hr, hev'⟩ := Cond.stringRef_spec hown hconst
  cases hev.symm.trans hev'
  obtain ⟨k', hk', he⟩ := X.warmed.alike.2.2 _ _ hk
  have hr' : k'.resolved[index]? = some (some (.string a)) := by
    rcases X.warmed.entry hk hk' index with h | ⟨h, -⟩
    · rw [h]; exact hr
    · rw [hr] at h; cases h
  intro target hrest
  subst hg
  jvm_step X.here [hexec, hdg, ldc_w.wp_string (e := e) (s := T) (f := g) X.here.top hk' (by rw [he]; exact hcf) hcp hr']
  exact hrest
/-- the strings and statics, as they are known at a method's start -/
def StW (ρ : Nat → Nat) (U : State) : Prop := ∀ (own : String) (k i : Nat), i < 32 → Cond.stringRef own k (txL.getD i "") ∈ lw_tbl → vk_R own k (txL.getD i "") (ρ (1000000 + 2 * i)) U
def ZsW (ρ : Nat → Nat) (A : Nat → Prop) (U : State) (H : Heap) : Prop := va_Z "java/lang/String" "COMPACT_STRINGS" "Z" (.int 1) A U H ∧ va_Z "java/lang/Integer" "DigitOnes" "[B" (.ref (ρ 1900000)) A U H ∧ va_Z "java/lang/Integer" "DigitTens" "[B" (.ref (ρ 1900001)) A U H
theorem cs_str {i : Nat} (h : i < 32) : 1000000 + 2 * i ∈ csL := by
  unfold csL
  exact List.mem_append_left _ (List.mem_map.mpr ⟨2 * i, List.mem_range.mpr (by omega), rfl⟩)
section CON
variable {p : Program} {l : Launch} {e : Env} {R : Room} {s : State} {mth : MethodId} {args : Array Value} {below : List Frame} {meth : Method} {c : Code} {Q : State → Prop}
variable {D : va_G} {dA : Nat → ClassId} {A : Nat → Prop} {WK : va_W} {ρ0 : Nat → Nat} {m0 : PM} {nL o : Nat} {cc : ByteArray} {rt : Option FieldType} {len : Nat}
theorem va_ldcWS {H : Heap} {locs : List Loc} {cells slots pc : Nat} {ls : Array Slot} {rest : List Value} (hexec : p.tables.exec = Jvm.exec) (hb : c.code = cc) {own tx : String} {index q : Nat} (hown : s.vm.findClass own = some mth.cls) (hZ : vk_R own index tx q s) (hdg : decode cc pc = .ok (.ldc_w index, 3))
    (k : W p l e R s mth args below meth c H locs cells slots Q (F0 mth (pc + 3) ls (.ref q :: rest))) : W p l e R s mth args below meth c H locs cells slots Q (F0 mth pc ls rest) := by
  intro T hT X
  obtain ⟨t, a1, b1⟩ := k T hT X
  exact ⟨t, ldcWS X hexec hown (text := tx) (a := q) hZ.1 hZ.2 (g := F0 mth pc ls rest) rfl (by rw [hb]; exact hdg) t a1, b1⟩
theorem sim_newarray {pc pc' : Nat} {L L' : PLs} {st st' : List Value} {m m' : PM} {t : ArrayType} (hx : p.tables.exec = Jvm.exec) (hb : c.code = cc) (hts : ∀ w ∈ lw_all, w.before args s = true) (hK : va_K D clL (tyL dA) s) (hA : ∀ q : Nat, s.heap.size ≤ q → A q) (hd : decode cc pc = .ok (.newarray t, len)) (hl : iln (.newarray t) = 0 ∨ iln (.newarray t) = len) (hs : sx pT pM o rt pc L st m (.newarray t) = some (.inl (pc', L', st', m'))) (hrc : gX m' - gX m0 ≤ R.cells) (hrs : gS m' - gS m0 ≤ R.slots) (k : Gl p l e R s mth args below meth c Q D dA A WK ρ0 m0 nL pc' L' st' m') : Gl p l e R s mth args below meth c Q D dA A WK ρ0 m0 nL pc L st m := by
  intro ρ H locs ls iv
  obtain rfl : len = 2 := ln_of hl rfl
  rcases st with _ | ⟨v1, st⟩
  · exact nn hs
  · cases v1
    case int n =>
      obtain ⟨⟨hX, hn0, hn1⟩, hs⟩ := its hs
      obtain ⟨K, hKt, hs⟩ := mso hs
      obtain ⟨rfl, rfl, rfl, rfl⟩ := nxe hs
      have gxm := iv.2.2.2.2.1
      have gsm := iv.2.2.2.2.2.1
      rw [gX_nw] at hrc
      rw [gS_nw] at hrs
      have hst := lvc iv.2.2.1
      generalize hN : n.toNatClampNeg = N at *
      have fin : ∀ (K t0 : Nat) (q : Nat) (cA : ClassId) (H1 : Heap) (ty : FieldType) (a0 : vp_A), K = 100 + t0 → t0 < 4 → (tyL dA)[t0]? = some (dA t0, ty) → (∀ ρ', (N, cnt t0 ρ' (nw m K N N) (gX m)) = a0) → Gl p l e R s mth args below meth c Q D dA A WK ρ0 m0 nL (pc + 2) L (.ref (gX m) :: st) (nw m K N N) → va_K D clL (tyL dA ++ [(cA, ty)]) s → va_P D clL (wsW dA ρ m ++ [(q, .inl (cA, a0))]) H1 → va_D A (wsW dA ρ m ++ [(q, .inl (cA, a0))]) → va_S A s.heap H1 locs → W p l e R s mth args below meth c H1 locs (gX m - gX m0 + 1) (gS m - gS m0 + N) Q (F0 mth (pc + 2) ls (.ref q :: st.map (cv ρ))) := by
        intro K t0 q cA H1 ty a0 eK ht0 hty hcn k hK1 hP1 hD1 hS1
        have ec := k_uniq hK1 hty
        subst ec
        have hk : gK (nw m K N N) (gX m) = K := by rw [gK_nw, if_pos rfl]
        have hka : kar K = t0 := by unfold kar; rw [if_neg (by omega), if_neg (by omega)]; omega
        have hE : eE dA (upρ ρ (gX m) q) (nw m K N N) (gX m) = .inl (dA t0, a0) := by
          rw [eE_arr (by rw [hk]; omega), hk, hka, ← hcn (upρ ρ (gX m) q)]
          rw [gN_nw, if_pos rfl]
        rw [← hE] at hP1 hD1
        have k1 := k _ H1 locs ls (iv_new iv hX (Or.inr ⟨by omega, by omega⟩) hP1 hD1 hS1 hst)
        rw [gX_nw, gS_nw, List.map_cons, st_up iv.1.2.2.2.2 hX hst] at k1
        have e3 : cv (upρ ρ (gX m) q) (.ref (gX m)) = .ref q := by show Value.ref (upρ ρ (gX m) q (gX m)) = _; unfold upρ; rw [if_pos rfl]
        rw [e3, show gX m + 1 - gX m0 = gX m - gX m0 + 1 by omega, show gS m + N - gS m0 = gS m - gS m0 + N by omega] at k1
        exact k1
      have hI0 : ∀ K, gI (nw m K N N) (gX m) = fun _ => 0 := fun K => funext fun j => by rw [gI_nw, if_pos rfl]
      have hJ0 : ∀ K, gJ (nw m K N N) (gX m) = fun _ => 0 := fun K => funext fun j => by rw [gJ_nw, if_pos rfl]
      cases t <;> first | (cases hKt; done) | cases hKt
      · exact va_newa (a0 := (N, .inl (fun _ => 0))) (atype := .boolean) (ty := .boolean) hx hb (hts _ q1761) rfl hK iv.1.1 iv.1.2.1 iv.1.2.2.1 hA (fun cA => rfl) hn0 hN (by show N * 1 ≤ _; omega) (by omega) (by omega) hd (fun q cA H1 hK1 hP1 hD1 hS1 => fin 102 2 q cA H1 .boolean _ rfl (by decide) rfl (fun ρ' => by show (N, Sum.inl (gI _ _)) = _; rw [hI0]) k hK1 hP1 hD1 hS1)
      · exact va_newa (a0 := (N, .inl (fun _ => 0))) (atype := .byte) (ty := .byte) hx hb (hts _ q206) rfl hK iv.1.1 iv.1.2.1 iv.1.2.2.1 hA (fun cA => rfl) hn0 hN (by show N * 1 ≤ _; omega) (by omega) (by omega) hd (fun q cA H1 hK1 hP1 hD1 hS1 => fin 101 1 q cA H1 .byte _ rfl (by decide) rfl (fun ρ' => by show (N, Sum.inl (gI _ _)) = _; rw [hI0]) k hK1 hP1 hD1 hS1)
      · exact va_newa (a0 := (N, .inl (fun _ => 0))) (atype := .int) (ty := .int) hx hb (hts _ q313) rfl hK iv.1.1 iv.1.2.1 iv.1.2.2.1 hA (fun cA => rfl) hn0 hN (by show N * 4 ≤ _; omega) (by omega) (by omega) hd (fun q cA H1 hK1 hP1 hD1 hS1 => fin 100 0 q cA H1 .int _ rfl (by decide) rfl (fun ρ' => by show (N, Sum.inl (gI _ _)) = _; rw [hI0]) k hK1 hP1 hD1 hS1)
      · exact va_newa (a0 := (N, .inr (.inl (fun _ => 0)))) (atype := .long) (ty := .long) hx hb (hts _ q312) rfl hK iv.1.1 iv.1.2.1 iv.1.2.2.1 hA (fun cA => rfl) hn0 hN (by show N * 8 ≤ _; omega) (by omega) (by omega) hd (fun q cA H1 hK1 hP1 hD1 hS1 => fin 103 3 q cA H1 .long _ rfl (by decide) rfl (fun ρ' => by show (N, Sum.inr (Sum.inl (gJ _ _))) = _; rw [hJ0]) k hK1 hP1 hD1 hS1)
    all_goals exact nn hs
theorem sim_anewarray {pc pc' : Nat} {L L' : PLs} {st st' : List Value} {m m' : PM} {idx : Nat} (hx : p.tables.exec = Jvm.exec) (hb : c.code = cc) (hown : s.vm.findClass (onm (o % 100)) = some mth.cls) (hts : ∀ w ∈ lw_all, w.before args s = true) (hAO : ∀ C ∈ caL, va_AO C s) (hK : va_K D clL (tyL dA) s) (hA : ∀ q : Nat, s.heap.size ≤ q → A q) (hd : decode cc pc = .ok (.anewarray idx, len)) (hl : iln (.anewarray idx) = 0 ∨ iln (.anewarray idx) = len) (hs : sx pT pM o rt pc L st m (.anewarray idx) = some (.inl (pc', L', st', m'))) (hrc : gX m' - gX m0 ≤ R.cells) (hrs : gS m' - gS m0 ≤ R.slots) (k : Gl p l e R s mth args below meth c Q D dA A WK ρ0 m0 nL pc' L' st' m') : Gl p l e R s mth args below meth c Q D dA A WK ρ0 m0 nL pc L st m := by
  intro ρ H locs ls iv
  obtain rfl : len = 3 := ln_of hl rfl
  rcases st with _ | ⟨v1, st⟩
  · exact nn hs
  · cases v1
    case int n =>
      obtain ⟨⟨hX, hn0, hn1⟩, hs⟩ := its hs
      obtain ⟨K, hKt, hs⟩ := mso hs
      obtain ⟨rfl, rfl, rfl, rfl⟩ := nxe hs
      obtain ⟨hm, e1, e2⟩ := lk5_e hKt
      have hok := kA _ hm
      unfold OKa at hok
      simp only at hok
      rw [e1, e2] at hok
      obtain ⟨hK1, hK2, hlink⟩ := hok
      have gxm := iv.2.2.2.2.1
      have gsm := iv.2.2.2.2.2.1
      rw [gX_nw] at hrc
      rw [gS_nw] at hrs
      have hst := lvc iv.2.2.1
      generalize hN : n.toNatClampNeg = N at *
      have hC : caL.getD (K - 104) "" ∈ caL ∧ (tyL dA)[K - 100]? = some (dA (K - 100), .object (caL.getD (K - 104) "")) := by
        have : K = 104 ∨ K = 105 ∨ K = 106 ∨ K = 107 := by omega
        rcases this with h | h | h | h <;> subst h <;> exact ⟨by decide, rfl⟩
      refine va_newq hx hb hown (hts _ hlink) (hAO _ hC.1) hK iv.1.1 iv.1.2.1 iv.1.2.2.1 hA hn0 hN (by omega) (by omega) (by omega) hd (fun q cA H1 hK3 hP1 hD1 hS1 => ?_)
      have ec := k_uniq hK3 hC.2
      subst ec
      have hk : gK (nw m K N N) (gX m) = K := by rw [gK_nw, if_pos rfl]
      have hka : kar K = K - 100 := by unfold kar; rw [if_neg (by omega), if_neg (by omega)]
      have hE : eE dA (upρ ρ (gX m) q) (nw m K N N) (gX m) = .inl (dA (K - 100), N, .inr (.inr (.inr (.inr (fun _ => none))))) := by
        rw [eE_arr (by rw [hk]; omega), hk, hka, gN_nw, if_pos rfl]
        congr 3
        unfold cnt
        rw [if_neg (by omega), if_neg (by omega)]
        congr 4
        funext j
        rw [gR_nw, if_pos rfl]
        rfl
      rw [← hE] at hP1 hD1
      have k1 := k _ H1 locs ls (iv_new iv hX (Or.inr ⟨by omega, by omega⟩) hP1 hD1 hS1 hst)
      rw [gX_nw, gS_nw, List.map_cons, st_up iv.1.2.2.2.2 hX hst] at k1
      have e3 : cv (upρ ρ (gX m) q) (.ref (gX m)) = .ref q := by show Value.ref (upρ ρ (gX m) q (gX m)) = _; unfold upρ; rw [if_pos rfl]
      rw [e3, show gX m + 1 - gX m0 = gX m - gX m0 + 1 by omega, show gS m + N - gS m0 = gS m - gS m0 + N by omega] at k1
      exact k1
    all_goals exact nn hs
theorem sim_ldc {pc pc' : Nat} {L L' : PLs} {st st' : List Value} {m m' : PM} {idx : Nat} (hx : p.tables.exec = Jvm.exec) (hb : c.code = cc) (hown : s.vm.findClass (onm (o % 100)) = some mth.cls) (hts : ∀ w ∈ lw_all, w.before args s = true) (hSt : StW ρ0 s) (hd : decode cc pc = .ok (.ldc idx, len)) (hl : iln (.ldc idx) = 0 ∨ iln (.ldc idx) = len) (hs : sx pT pM o rt pc L st m (.ldc idx) = some (.inl (pc', L', st', m'))) (k : Gl p l e R s mth args below meth c Q D dA A WK ρ0 m0 nL pc' L' st' m') : Gl p l e R s mth args below meth c Q D dA A WK ρ0 m0 nL pc L st m := by
  intro ρ H locs ls iv
  obtain rfl : len = 2 := ln_of hl rfl
  obtain ⟨v, hq, hs⟩ := mso hs
  obtain ⟨hcat, hs⟩ := its hs
  obtain ⟨rfl, rfl, rfl, rfl⟩ := nxe hs
  obtain ⟨hm, e1, e2⟩ := lk5_e hq
  have hok := kC _ hm
  unfold OKc at hok
  simp only at hok
  rw [e1, e2] at hok
  cases v with
  | int x => exact lv_ldc hx hb hown (hts _ hok) hd (k ρ H locs ls (iv_st iv (lvn trivial iv.2.2.1)))
  | ref a =>
    obtain ⟨i, hi, rfl, hw⟩ := hok
    have h1 := hSt _ _ i hi hw
    rw [← iv.2.2.2.2.2.2 _ (Or.inr (cs_str hi))] at h1
    exact va_ldcS hx hb hown h1 hd (k ρ H locs ls (iv_st iv (lvn (show lvI m _ from Or.inr (cs_str hi)) iv.2.2.1)))
  | long x => cases hcat
  | _ => exact hok.elim
theorem sim_ldc_w {pc pc' : Nat} {L L' : PLs} {st st' : List Value} {m m' : PM} {idx : Nat} (hx : p.tables.exec = Jvm.exec) (hb : c.code = cc) (hown : s.vm.findClass (onm (o % 100)) = some mth.cls) (hts : ∀ w ∈ lw_all, w.before args s = true) (hSt : StW ρ0 s) (hd : decode cc pc = .ok (.ldc_w idx, len)) (hl : iln (.ldc_w idx) = 0 ∨ iln (.ldc_w idx) = len) (hs : sx pT pM o rt pc L st m (.ldc_w idx) = some (.inl (pc', L', st', m'))) (k : Gl p l e R s mth args below meth c Q D dA A WK ρ0 m0 nL pc' L' st' m') : Gl p l e R s mth args below meth c Q D dA A WK ρ0 m0 nL pc L st m := by
  intro ρ H locs ls iv
  obtain rfl : len = 3 := ln_of hl rfl
  obtain ⟨v, hq, hs⟩ := mso hs
  obtain ⟨hcat, hs⟩ := its hs
  obtain ⟨rfl, rfl, rfl, rfl⟩ := nxe hs
  obtain ⟨hm, e1, e2⟩ := lk5_e hq
  have hok := kC _ hm
  unfold OKc at hok
  simp only at hok
  rw [e1, e2] at hok
  cases v with
  | int x => exact lv_ldcw hx hb hown (hts _ hok) hd (k ρ H locs ls (iv_st iv (lvn trivial iv.2.2.1)))
  | ref a =>
    obtain ⟨i, hi, rfl, hw⟩ := hok
    have h1 := hSt _ _ i hi hw
    rw [← iv.2.2.2.2.2.2 _ (Or.inr (cs_str hi))] at h1
    exact va_ldcWS hx hb hown h1 hd (k ρ H locs ls (iv_st iv (lvn (show lvI m _ from Or.inr (cs_str hi)) iv.2.2.1)))
  | long x => cases hcat
  | _ => exact hok.elim
theorem sim_ldc2_w {pc pc' : Nat} {L L' : PLs} {st st' : List Value} {m m' : PM} {idx : Nat} (hx : p.tables.exec = Jvm.exec) (hb : c.code = cc) (hown : s.vm.findClass (onm (o % 100)) = some mth.cls) (hts : ∀ w ∈ lw_all, w.before args s = true) (hd : decode cc pc = .ok (.ldc2_w idx, len)) (hl : iln (.ldc2_w idx) = 0 ∨ iln (.ldc2_w idx) = len) (hs : sx pT pM o rt pc L st m (.ldc2_w idx) = some (.inl (pc', L', st', m'))) (k : Gl p l e R s mth args below meth c Q D dA A WK ρ0 m0 nL pc' L' st' m') : Gl p l e R s mth args below meth c Q D dA A WK ρ0 m0 nL pc L st m := by
  intro ρ H locs ls iv
  obtain rfl : len = 3 := ln_of hl rfl
  obtain ⟨v, hq, hs⟩ := mso hs
  obtain ⟨hcat, hs⟩ := its hs
  obtain ⟨rfl, rfl, rfl, rfl⟩ := nxe hs
  obtain ⟨hm, e1, e2⟩ := lk5_e hq
  have hok := kC _ hm
  unfold OKc at hok
  simp only at hok
  rw [e1, e2] at hok
  cases v with
  | long x => exact lv_ldc2 hx hb hown (hts _ hok) hd (k ρ H locs ls (iv_st iv (lvn trivial iv.2.2.1)))
  | double x => exact hok.elim
  | _ => cases hcat
end CON
