/-! SOUNDNESS: references into arrays, new cells -/
theorem asg_same {s : State} {D : va_G} {tys : List (ClassId × FieldType)} {ci : Nat} {r : vw_C} (hK : va_K D clL tys s) (hc : clL[ci]? = some r) : ∀ comp c0 : ClassId, s.vm.findClass r.1 = some comp → s.vm.findClass r.1 = some c0 → s.vm.assignable c0 comp = true := by
  intro comp c0 h1 h2
  have h3 := (hK.1 ci r hc).2
  have e1 : comp = D.1 ci := Option.some.inj (h1.symm.trans h3.1)
  have e2 : c0 = D.1 ci := Option.some.inj (h2.symm.trans h3.1)
  rw [e1, e2]
  exact va_assign h3
theorem ra_uniq {U : State} {c1 c2 : ClassId} {ty : FieldType} (h1 : va_RA U c1 ty) (h2 : va_RA U c2 ty) : c1 = c2 := by
  cases ty with
  | object C =>
    obtain ⟨_, _, _, _, _, h3⟩ := h1
    obtain ⟨_, _, _, _, _, h4⟩ := h2
    exact Option.some.inj (h3.symm.trans h4)
  | _ => exact Option.some.inj ((show U.vm.findClass _ = some c1 from h1).symm.trans (show U.vm.findClass _ = some c2 from h2))
theorem k_uniq {D : va_G} {dA : Nat → ClassId} {s : State} {cA : ClassId} {ty : FieldType} {t : Nat} (hK : va_K D clL (tyL dA ++ [(cA, ty)]) s) (ht : (tyL dA)[t]? = some (dA t, ty)) : cA = dA t := by
  have h1 := (hK.2 8 (cA, ty) rfl).2
  have hl : t < (tyL dA).length := (List.getElem?_eq_some_iff.mp ht).1
  have h2 := (hK.2 t (dA t, ty) (by rw [List.getElem?_append_left hl]; exact ht)).2
  exact ra_uniq h1 h2
def upρ (ρ : Nat → Nat) (n q : Nat) : Nat → Nat := fun b => if b = n then q else ρ b
section NEW
variable {p : Program} {l : Launch} {e : Env} {R : Room} {s : State} {mth : MethodId} {args : Array Value} {below : List Frame} {meth : Method} {c : Code} {Q : State → Prop}
variable {D : va_G} {dA : Nat → ClassId} {A : Nat → Prop} {WK : va_W} {ρ0 : Nat → Nat} {m0 : PM} {nL o : Nat} {cc : ByteArray} {rt : Option FieldType} {len : Nat}
theorem iv_new {ρ : Nat → Nat} {m : PM} {L : PLs} {st st' : List Value} {H H1 : Heap} {locs locs1 : List Loc} {ls : Array Slot} {K N sl q : Nat} (h : Iv D dA A WK s ρ0 m0 nL ρ m L st H locs ls) (hX : gX m < 900000) (hKv : vK K) (hP : va_P D clL (wsW dA ρ m ++ [(q, eE dA (upρ ρ (gX m) q) (nw m K N sl) (gX m))]) H1) (hD : va_D A (wsW dA ρ m ++ [(q, eE dA (upρ ρ (gX m) q) (nw m K N sl) (gX m))])) (hS : va_S A s.heap H1 locs1) (hst : ∀ v ∈ st', lvV m v) : Iv D dA A WK s ρ0 m0 nL (upρ ρ (gX m) q) (nw m K N sl) L (.ref (gX m) :: st') H1 locs1 ls := by
  obtain ⟨⟨g1, g2, g3, g4, g5, g6, g7, g8, g9⟩, ⟨gl1, gl2, gl3, gl4⟩, gs, gL, gx, gy, gr⟩ := h
  have hlv : ∀ b, lvI m b → lvI (nw m K N sl) b := fun b hb => by
    rcases hb with hb | hb
    · exact Or.inl (by rw [gX_nw]; omega)
    · exact Or.inr hb
  have hne : ∀ b, lvI m b → b ≠ gX m := fun b hb => by
    rcases hb with hb | hb
    · omega
    · have := csL_ge hb; omega
  have hρ : ∀ b, lvI m b → upρ ρ (gX m) q b = ρ b := fun b hb => if_neg (hne b hb)
  have hlV : ∀ v, lvV m v → lvV (nw m K N sl) v := fun v hv => by
    cases v with
    | ref b => exact hlv b hv
    | _ => trivial
  have hWf : Wf m := ⟨g5, g6, g7, g8, g9⟩
  have hEe : ∀ b, lvI m b → eE dA (upρ ρ (gX m) q) (nw m K N sl) b = eE dA ρ m b := fun b hb => by
    have hb' := hne b hb
    refine eE_cong (by rw [gK_nw, if_neg hb']) (by rw [gN_nw, if_neg hb']) (fun i => by rw [gI_nw, if_neg hb']) (fun i => by rw [gJ_nw, if_neg hb']) (fun i => ?_)
    rw [gR_nw, if_neg hb']
    exact map_some_eq hWf hρ b i
  have hws : wsW dA (upρ ρ (gX m) q) (nw m K N sl) = wsW dA ρ m ++ [(q, eE dA (upρ ρ (gX m) q) (nw m K N sl) (gX m))] := by
    have h1 := wsW_push (dA := dA) (ρ := ρ) (ρ' := upρ ρ (gX m) q) (m := m) (m' := nw m K N sl) rfl (fun b hb => ⟨hρ b (Or.inl hb), hEe b (Or.inl hb)⟩)
    rw [h1]
    congr 2
    show (upρ ρ (gX m) q (gX m), _) = _
    unfold upρ
    rw [if_pos rfl]
  refine ⟨⟨by rw [hws]; exact hP, by rw [hws]; exact hD, hS, ?_, by rw [gX_nw]; omega, fun a ha => ?_, fun a ha => ?_, fun a ha => ?_, fun a k b hb => ?_⟩, ⟨gl1, gl2, fun i v hv => ?_, gl4⟩, ?_, fun i v hv => hlV v (gL i v hv), by rw [gX_nw]; omega, by rw [gS_nw]; omega, fun a ha => ?_⟩
  · rw [← g4]
    unfold wsK
    exact List.map_congr_left fun b hb => by rw [hρ b (Or.inr hb), hEe b (Or.inr hb)]
  · rw [gK_nw]
    by_cases e : a = gX m
    · rw [if_pos e]; exact hKv
    · rw [if_neg e]; exact g6 a (by rw [gX_nw] at ha; omega)
  · rw [gK_nw] at ha
    by_cases e : a = gX m
    · exact Or.inl (by rw [gX_nw]; omega)
    · rw [if_neg e] at ha; exact hlv a (g7 a ha)
  · rw [gK_nw, if_neg (hne a (Or.inr ha))]; exact g8 a ha
  · rw [gR_nw] at hb
    by_cases e : a = gX m
    · rw [if_pos e] at hb; cases hb
    · rw [if_neg e] at hb; exact hlv b (g9 a k b hb)
  · rw [gl3 i v hv, cv_eq hρ (gL i v hv)]
  · exact lvn (show lvI _ _ from Or.inl (by rw [gX_nw]; omega)) (fun v hv => hlV v (hst v hv))
  · have hl0 : lvI m a := by
      rcases ha with ha | ha
      · exact Or.inl (by omega)
      · exact Or.inr ha
    rw [hρ a hl0]
    exact gr a ha
theorem st_up {ρ : Nat → Nat} {m : PM} {st : List Value} {q : Nat} (hW : Wf m) (hX : gX m < 900000) (h : ∀ v ∈ st, lvV m v) : st.map (cv (upρ ρ (gX m) q)) = st.map (cv ρ) := by
  apply List.map_congr_left
  intro v hv
  refine cv_eq (m := m) (fun b hb => if_neg ?_) (h v hv)
  rcases hb with hb | hb
  · omega
  · have := csL_ge hb; omega
theorem sim_aastore {pc pc' : Nat} {L L' : PLs} {st st' : List Value} {m m' : PM} (hx : p.tables.exec = Jvm.exec) (hb : c.code = cc) (hNx : NxW s) (hK : va_K D clL (tyL dA) s) (hKP : va_P D clL WK s.heap) (hKA : ∀ (k : Nat) (q : Nat × va_E), WK[k]? = some q → ¬ A q.1) (hd : decode cc pc = .ok (.aastore, len)) (hl : iln .aastore = 0 ∨ iln .aastore = len) (hs : sx pT pM o rt pc L st m .aastore = some (.inl (pc', L', st', m'))) (k : Gl p l e R s mth args below meth c Q D dA A WK ρ0 m0 nL pc' L' st' m') : Gl p l e R s mth args below meth c Q D dA A WK ρ0 m0 nL pc L st m := by
  intro ρ H locs ls iv
  obtain rfl : len = 1 := ln_of hl rfl
  rcases st with _ | ⟨v1, _ | ⟨v2, _ | ⟨v3, st⟩⟩⟩
  · exact nn hs
  · cases v1 <;> exact nn hs
  · cases v1 <;> cases v2 <;> exact nn hs
  · cases v1
    case ref b =>
      cases v2
      case int i =>
        cases v3
        case ref a =>
          obtain ⟨⟨hel, hin⟩, hs⟩ := its hs
          obtain ⟨rfl, rfl, rfl, rfl⟩ := nxe hs
          have hlb : lvI m b := lvh iv.2.2.1
          obtain ⟨ws', q0, hP', heb⟩ := rdW iv.1.1 iv.1.2.2.1 iv.1.2.2.2.1 hKP hKA hlb
          unfold elOk at hel
          simp only [Bool.or_eq_true, Bool.and_eq_true, beq_iff_eq, decide_eq_true_eq] at hel
          have hKa : 104 ≤ gK m a ∧ gK m a ≤ 107 := by omega
          have hKb : gK m b < 100 := by omega
          rw [eE_obj hKb] at heb
          have hlt := lt_of_lv iv.1.2.2.2.2 (lvh (lvc (lvc iv.2.2.1))) (by omega) (by omega)
          have he := wsW_at (dA := dA) (ρ := ρ) hlt
          rw [eE_arr (by omega)] at he
          have hup := up_R (dA := dA) (ρ := ρ) (m := m) (a := a) (k := i.toNatClampNeg) (b := b) hKa
          have fin : ∀ (t0 : Nat) (E : String), t0 = kar (gK m a) → (tyL dA)[t0]? = some (dA t0, .object E) → 4 ≤ t0 → va_Any E s H (ρ b) → W p l e R s mth args below meth c H locs (gX m - gX m0) (gS m - gS m0) Q (F0 mth pc ls (.ref (ρ b) :: .int i :: .ref (ρ a) :: st.map (cv ρ))) := by
            intro t0 E et hty h4 hany
            rw [← et] at he hup
            have hcn : cnt t0 ρ m a = .inr (.inr (.inr (.inr (fun k => (gR m a k).map ρ)))) := by
              unfold cnt; rw [if_neg (by omega), if_neg (by omega)]
            rw [hcn] at he
            refine va_astqM hx hb hK iv.1.1 iv.1.2.1 iv.1.2.2.1 a t0 he hty hany hin hd (fun H1 locs1 hP1 hD1 hS1 => ?_)
            exact k ρ H1 locs1 ls (iv_R iv hlt hlb (by rw [hup]; exact hP1) (by rw [hup]; exact hD1) hS1 (lvc (lvc (lvc iv.2.2.1))))
          rcases hel with ((⟨h1, h2⟩ | ⟨h1, h2⟩) | ⟨h1, h2⟩) | ⟨h1, h2⟩
          · rw [h2] at heb
            exact fin 4 _ (by rw [h1]; rfl) rfl (by decide) (va_rAny hK hP' heb rfl (asg_same hK (ci := 3) rfl))
          · have h9 : gK m b = 9 ∨ gK m b = 10 ∨ gK m b = 11 ∨ gK m b = 12 ∨ gK m b = 13 ∨ gK m b = 14 ∨ gK m b = 15 := by omega
            rcases h9 with h9 | h9 | h9 | h9 | h9 | h9 | h9 <;> rw [h9] at heb
            · exact fin 5 _ (by rw [h1]; rfl) rfl (by decide) (va_rAny hK hP' heb rfl (vb_asgC (hNx _ q2277 rfl)))
            · exact fin 5 _ (by rw [h1]; rfl) rfl (by decide) (va_rAny hK hP' heb rfl (vb_asgC (hNx _ q2278 rfl)))
            · exact fin 5 _ (by rw [h1]; rfl) rfl (by decide) (va_rAny hK hP' heb rfl (vb_asgC (hNx _ q2279 rfl)))
            · exact fin 5 _ (by rw [h1]; rfl) rfl (by decide) (va_rAny hK hP' heb rfl (vb_asgC (hNx _ q2280 rfl)))
            · exact fin 5 _ (by rw [h1]; rfl) rfl (by decide) (va_rAny hK hP' heb rfl (vb_asgC (hNx _ q2281 rfl)))
            · exact fin 5 _ (by rw [h1]; rfl) rfl (by decide) (va_rAny hK hP' heb rfl (vb_asgC (hNx _ q2282 rfl)))
            · exact fin 5 _ (by rw [h1]; rfl) rfl (by decide) (va_rAny hK hP' heb rfl (vb_asgC (hNx _ q2283 rfl)))
          · rw [h2] at heb
            exact fin 6 _ (by rw [h1]; rfl) rfl (by decide) (va_rAny hK hP' heb rfl (asg_same hK (ci := 20) rfl))
          · rw [h2] at heb
            exact fin 7 _ (by rw [h1]; rfl) rfl (by decide) (va_rAny hK hP' heb rfl (asg_same hK (ci := 21) rfl))
        all_goals exact nn hs
      all_goals exact nn hs
    all_goals exact nn hs
theorem lk5_e {α : Type} {t : List (Nat × α)} {o i : Nat} {v : α} (h : lk5 t o i = some v) : (o % 100 * 100000 + i, v) ∈ t ∧ (o % 100 * 100000 + i) / 100000 = o % 100 ∧ (o % 100 * 100000 + i) % 100000 = i := by
  unfold lk5 at h
  obtain ⟨q, h⟩ := its h
  exact ⟨lkp_mem h, by omega, by omega⟩
theorem pv0 {m : PM} {K N sl : Nat} {ty : FieldType} {ρ : Nat → Nat} (h : ty ≠ .float ∧ ty ≠ .double) (j : Nat) : cv ρ (pvF (nw m K N sl) ty (gX m) j) = defaultValue ty := by
  unfold pvF
  cases ty with
  | float => exact absurd rfl h.1
  | double => exact absurd rfl h.2
  | long => show Value.long (gJ _ _ _) = _; rw [gJ_nw, if_pos rfl]; rfl
  | object C => show cv ρ (va_rf (gR _ _ _)) = _; rw [gR_nw, if_pos rfl]; rfl
  | array t => show cv ρ (va_rf (gR _ _ _)) = _; rw [gR_nw, if_pos rfl]; rfl
  | _ => show Value.int (gI _ _ _) = _; rw [gI_nw, if_pos rfl]; rfl
theorem sim_new {pc pc' : Nat} {L L' : PLs} {st st' : List Value} {m m' : PM} {idx : Nat} (hx : p.tables.exec = Jvm.exec) (hb : c.code = cc) (hown : s.vm.findClass (onm (o % 100)) = some mth.cls) (hts : ∀ w ∈ lw_all, w.before args s = true) (hK : va_K D clL (tyL dA) s) (hA : ∀ q : Nat, s.heap.size ≤ q → A q) (hd : decode cc pc = .ok (.new idx, len)) (hl : iln (.new idx) = 0 ∨ iln (.new idx) = len) (hs : sx pT pM o rt pc L st m (.new idx) = some (.inl (pc', L', st', m'))) (hrc : gX m' - gX m0 ≤ R.cells) (hrs : gS m' - gS m0 ≤ R.slots) (k : Gl p l e R s mth args below meth c Q D dA A WK ρ0 m0 nL pc' L' st' m') : Gl p l e R s mth args below meth c Q D dA A WK ρ0 m0 nL pc L st m := by
  intro ρ H locs ls iv
  obtain rfl : len = 3 := ln_of hl rfl
  obtain ⟨⟨K, n⟩, hq, hs⟩ := mso hs
  obtain ⟨hX, hs⟩ := its hs
  obtain ⟨rfl, rfl, rfl, rfl⟩ := nxe hs
  obtain ⟨hm, e1, e2⟩ := lk5_e hq
  have hok := kN _ hm
  unfold OKn at hok
  simp only at hok
  rw [e1, e2] at hok
  cases hc : clL[kcl K]? with
  | none => rw [hc] at hok; exact hok.elim
  | some q =>
    rw [hc] at hok
    obtain ⟨C, T, N⟩ := q
    obtain ⟨hNn, hK1, hK2, hcl, hin, hini⟩ := hok
    have hNn : N = n := hNn
    subst hNn
    have hN : nfK K = N := by unfold nfK; rw [hc]; rfl
    have gxm := iv.2.2.2.2.1
    have gsm := iv.2.2.2.2.2.1
    rw [gX_nw] at hrc
    rw [gS_nw] at hrs
    have h51 : N ≤ 51 := by
      have h1 : ∀ q ∈ clL, q.2.2 ≤ 51 := by decide +kernel
      exact h1 _ (List.mem_of_getElem? hc)
    have hfl : ∀ j, j < N → ftK K j ≠ .float ∧ ftK K j ≠ .double := fun j hj => noFl K (by omega) j (by omega)
    have hE : ∀ ρ', eE dA ρ' (nw m K 0 N) (gX m) = .inr (kcl K, (List.range N).map fun j => defaultValue (ftK K j)) := by
      intro ρ'
      have hk : gK (nw m K 0 N) (gX m) = K := by rw [gK_nw, if_pos rfl]
      rw [eE_obj (by rw [hk]; omega), hk, hN]
      congr 2
      exact List.map_congr_left fun j hj => pv0 (hfl j (List.mem_range.mp hj)) j
    refine va_new (ci := kcl K) hx hb hts (in_all _ _ hc) (tyF (kcl K)) (tyF_ok _ _ hc) hown (hts _ hcl) (hts _ hin) (hts _ hini) hK iv.1.1 iv.1.2.1 iv.1.2.2.1 hA hc (fs := (List.range N).map fun j => defaultValue (ftK K j)) (fun j hj => ?_) (by omega) (by omega) hd (fun q H1 hP1 hD1 hS1 => ?_)
    · unfold vp_V
      rw [List.getD_eq_getElem?_getD, List.getElem?_map, List.getElem?_range hj]
      rfl
    · rw [← hE (upρ ρ (gX m) q)] at hP1 hD1
      have k1 := k _ H1 locs ls (iv_new iv hX (Or.inl ⟨hK1, hK2⟩) hP1 hD1 hS1 iv.2.2.1)
      rw [gX_nw, gS_nw, List.map_cons, st_up iv.1.2.2.2.2 hX iv.2.2.1] at k1
      have e3 : cv (upρ ρ (gX m) q) (.ref (gX m)) = .ref q := by show Value.ref (upρ ρ (gX m) q (gX m)) = _; unfold upρ; rw [if_pos rfl]
      rw [e3, show gX m + 1 - gX m0 = gX m - gX m0 + 1 by omega, show gS m + N - gS m0 = gS m - gS m0 + N by omega] at k1
      exact k1
end NEW
