/-! SOUNDNESS: getfield, putfield -/
theorem kd {m : PM} (hW : Wf m) {a : Nat} (h : lvI m a) : vK (gK m a) ∨ gK m a = 50 ∨ gK m a = 201 ∨ gK m a = 200 := by
  rcases h with h | h
  · exact Or.inl (hW.2.1 a h)
  · exact Or.inr (hW.2.2.2.1 a h)
theorem kd_lt {m : PM} (hW : Wf m) {a : Nat} (h : lvI m a) : gK m a < 1000 := by
  rcases kd hW h with q | q | q | q
  · unfold vK at q; omega
  · omega
  · omega
  · omega
theorem kcl_lt {K : Nat} {q : vw_C} (h : clL[kcl K]? = some q) (hK : vK K ∨ K = 50 ∨ K = 201 ∨ K = 200) : (1 ≤ K ∧ K ≤ 22) ∨ K = 50 := by
  have h1 : kcl K < 22 := (List.getElem?_eq_some_iff.mp h).1
  unfold kcl at h1
  unfold vK at hK
  by_cases e : K = 50
  · exact Or.inr e
  · rw [if_neg e] at h1
    left; omega
theorem lv_pvF {m : PM} (hW : Wf m) (ty : FieldType) (a j : Nat) : lvV m (pvF m ty a j) := by
  have h : lvV m (va_rf (gR m a j)) := by
    cases h : gR m a j with
    | none => trivial
    | some x => exact hW.2.2.2.2 a j x h
  unfold pvF
  cases ty <;> first | exact h | trivial
theorem same_of {s : State} {args : Array Value} {ref o n d : String} (hts : ∀ w ∈ lw_all, w.before args s = true) (h : o = ref ∨ Cond.sameField ref o n d ∈ lw_all) : ∀ x, s.fieldFound? o n d = some x → s.fieldFound? ref n d = some x := by
  rcases h with h | h
  · subst h; exact fun _ h => h
  · exact fun x hx => u_same (hts _ h) x hx
theorem ptF_spec {m m' : PM} {ty : FieldType} {a j : Nat} {v : Value} (h : ptF m ty a j v = some m') : (gX m' = gX m ∧ gS m' = gS m ∧ (∀ b, gK m' b = gK m b) ∧ (∀ b, gN m' b = gN m b)) ∧ (∀ b k, ¬ (b = a ∧ k = j) → gI m' b k = gI m b k ∧ gJ m' b k = gJ m b k ∧ gR m' b k = gR m b k) ∧ pvF m' ty a j = v ∧ (∀ x, gR m' a j = some x → gR m a j = some x ∨ v = .ref x) ∧ ∀ ρ, narrow ty (cv ρ v) = cv ρ v ∧ fits ty (cv ρ v) = true := by
  have hI : ∀ x : Int32, (gX (sI m a j x) = gX m ∧ gS (sI m a j x) = gS m ∧ (∀ b, gK (sI m a j x) b = gK m b) ∧ (∀ b, gN (sI m a j x) b = gN m b)) ∧ (∀ b k, ¬ (b = a ∧ k = j) → gI (sI m a j x) b k = gI m b k ∧ gJ (sI m a j x) b k = gJ m b k ∧ gR (sI m a j x) b k = gR m b k) ∧ gI (sI m a j x) a j = x ∧ gR (sI m a j x) a j = gR m a j := fun x => ⟨⟨rfl, rfl, fun _ => rfl, fun _ => rfl⟩, fun b k q => ⟨by rw [gI_sI, if_neg q], rfl, rfl⟩, by rw [gI_sI, if_pos ⟨rfl, rfl⟩], rfl⟩
  have hR : ∀ x : Option Nat, (gX (sR m a j x) = gX m ∧ gS (sR m a j x) = gS m ∧ (∀ b, gK (sR m a j x) b = gK m b) ∧ (∀ b, gN (sR m a j x) b = gN m b)) ∧ (∀ b k, ¬ (b = a ∧ k = j) → gI (sR m a j x) b k = gI m b k ∧ gJ (sR m a j x) b k = gJ m b k ∧ gR (sR m a j x) b k = gR m b k) ∧ gR (sR m a j x) a j = x := fun x => ⟨⟨rfl, rfl, fun _ => rfl, fun _ => rfl⟩, fun b k q => ⟨rfl, rfl, by rw [gR_sR, if_neg q]⟩, by rw [gR_sR, if_pos ⟨rfl, rfl⟩]⟩
  unfold ptF at h
  split at h
  · rename_i x
    cases h
    refine ⟨⟨rfl, rfl, fun _ => rfl, fun _ => rfl⟩, fun b k q => ⟨rfl, by rw [gJ_sJ, if_neg q], rfl⟩, ?_, fun x h => Or.inl h, fun ρ => ⟨rfl, rfl⟩⟩
    show Value.long (gJ (sJ m a j x) a j) = _
    rw [gJ_sJ, if_pos ⟨rfl, rfl⟩]
  · rename_i C b
    cases h
    obtain ⟨h1, h2, h3⟩ := hR (some b)
    refine ⟨h1, h2, ?_, fun x hx => Or.inr ?_, fun ρ => ⟨rfl, rfl⟩⟩
    · show va_rf (gR _ a j) = _
      rw [h3]; rfl
    · rw [h3] at hx; cases hx; rfl
  · rename_i C
    cases h
    obtain ⟨h1, h2, h3⟩ := hR none
    refine ⟨h1, h2, ?_, fun x hx => ?_, fun ρ => ⟨rfl, rfl⟩⟩
    · show va_rf (gR _ a j) = _
      rw [h3]; rfl
    · rw [h3] at hx; cases hx
  · rename_i C b
    cases h
    obtain ⟨h1, h2, h3⟩ := hR (some b)
    refine ⟨h1, h2, ?_, fun x hx => Or.inr ?_, fun ρ => ⟨rfl, rfl⟩⟩
    · show va_rf (gR _ a j) = _
      rw [h3]; rfl
    · rw [h3] at hx; cases hx; rfl
  · rename_i C
    cases h
    obtain ⟨h1, h2, h3⟩ := hR none
    refine ⟨h1, h2, ?_, fun x hx => ?_, fun ρ => ⟨rfl, rfl⟩⟩
    · show va_rf (gR _ a j) = _
      rw [h3]; rfl
    · rw [h3] at hx; cases hx
  · rename_i x
    cases h
    obtain ⟨h1, h2, h3, h4⟩ := hI x
    exact ⟨h1, h2, congrArg Value.int h3, fun y hy => Or.inl (by rw [← h4]; exact hy), fun ρ => ⟨rfl, rfl⟩⟩
  · rename_i x
    obtain ⟨q, h⟩ := its h
    cases h
    obtain ⟨h1, h2, h3, h4⟩ := hI x
    refine ⟨h1, h2, congrArg Value.int h3, fun y hy => Or.inl (by rw [← h4]; exact hy), fun ρ => ?_⟩
    rcases q with q | q <;> subst q <;> exact ⟨rfl, rfl⟩
  · rename_i x
    obtain ⟨q, h⟩ := its h
    cases h
    obtain ⟨h1, h2, h3, h4⟩ := hI x
    refine ⟨h1, h2, congrArg Value.int h3, fun y hy => Or.inl (by rw [← h4]; exact hy), fun ρ => ?_⟩
    show narrow .byte (.int x) = .int x ∧ fits .byte (.int x) = true
    rw [← q]
    exact ⟨pk_nb x, pk_fb x⟩
  · cases h
section FLD
variable {p : Program} {l : Launch} {e : Env} {R : Room} {s : State} {mth : MethodId} {args : Array Value} {below : List Frame} {meth : Method} {c : Code} {Q : State → Prop}
variable {D : va_G} {dA : Nat → ClassId} {A : Nat → Prop} {WK : va_W} {ρ0 : Nat → Nat} {m0 : PM} {nL o : Nat} {cc : ByteArray} {rt : Option FieldType} {len : Nat}
theorem iv_upd {ρ : Nat → Nat} {m m' : PM} {L : PLs} {st st' : List Value} {H H1 : Heap} {locs locs1 : List Loc} {ls : Array Slot} (h : Iv D dA A WK s ρ0 m0 nL ρ m L st H locs ls) (hX : gX m' = gX m) (hSl : gS m' = gS m) (hKd : ∀ b, gK m' b = gK m b) (hC : ∀ b ∈ csL, eE dA ρ m' b = eE dA ρ m b) (hR : ∀ b k x, gR m' b k = some x → lvI m x) (hP : va_P D clL (wsW dA ρ m') H1) (hD : va_D A (wsW dA ρ m')) (hS : va_S A s.heap H1 locs1) (hst : ∀ v ∈ st', lvV m v) : Iv D dA A WK s ρ0 m0 nL ρ m' L st' H1 locs1 ls := by
  obtain ⟨⟨g1, g2, g3, g4, g5, g6, g7, g8, g9⟩, gl, gs, gL, gx, gy, gr⟩ := h
  have hlv : ∀ b, lvI m' b ↔ lvI m b := fun b => by unfold lvI; rw [hX]
  have hlV : ∀ v, lvV m v → lvV m' v := fun v hv => by
    cases v with
    | ref b => exact (hlv b).mpr hv
    | _ => trivial
  refine ⟨⟨hP, hD, hS, ?_, by rw [hX]; exact g5, fun a ha => by rw [hKd]; exact g6 a (by rw [← hX]; exact ha), fun a ha => (hlv a).mpr (g7 a (by rw [← hKd]; exact ha)), fun a ha => by rw [hKd]; exact g8 a ha, fun b k x hx => (hlv x).mpr (hR b k x hx)⟩, gl, fun v hv => hlV v (hst v hv), fun i v hv => hlV v (gL i v hv), by rw [hX]; exact gx, by rw [hSl]; exact gy, gr⟩
  rw [← g4]
  unfold wsK
  exact List.map_congr_left fun b hb => by rw [hC b hb]
theorem sim_getfield {pc pc' : Nat} {L L' : PLs} {st st' : List Value} {m m' : PM} {idx : Nat} (hx : p.tables.exec = Jvm.exec) (hb : c.code = cc) (hown : s.vm.findClass (onm (o % 100)) = some mth.cls) (hts : ∀ w ∈ lw_all, w.before args s = true) (hNx : NxW s) (hK : va_K D clL (tyL dA) s) (hKP : va_P D clL WK s.heap) (hKA : ∀ (k : Nat) (q : Nat × va_E), WK[k]? = some q → ¬ A q.1) (hd : decode cc pc = .ok (.getfield idx, len)) (hl : iln (.getfield idx) = 0 ∨ iln (.getfield idx) = len) (hs : sx pT pM o rt pc L st m (.getfield idx) = some (.inl (pc', L', st', m'))) (k : Gl p l e R s mth args below meth c Q D dA A WK ρ0 m0 nL pc' L' st' m') : Gl p l e R s mth args below meth c Q D dA A WK ρ0 m0 nL pc L st m := by
  intro ρ H locs ls iv
  obtain rfl : len = 3 := ln_of hl rfl
  rcases st with _ | ⟨v1, st⟩
  · exact nn hs
  · cases v1
    case ref a =>
      obtain ⟨j, hj, hs⟩ := mso hs
      obtain ⟨rfl, rfl, rfl, rfl⟩ := nxe hs
      have hW := iv.1.2.2.2.2
      have hlv : lvI m a := lvh iv.2.2.1
      have hok := okF (kd_lt hW hlv) hj
      unfold OKf at hok
      cases hq : clL[kcl (gK m a)]? with
      | none => rw [hq] at hok; exact hok.elim
      | some q =>
        rw [hq] at hok
        obtain ⟨C, T, N⟩ := q
        obtain ⟨hjN, ref, hlk, hsm⟩ := hok
        have hk := kcl_lt hq (kd hW hlv)
        obtain ⟨ws', q0, hP', he⟩ := rdW iv.1.1 iv.1.2.2.1 iv.1.2.2.2.1 hKP hKA hlv
        rw [eE_obj (by omega)] at he
        have hN : nfK (gK m a) = N := by unfold nfK; rw [hq]; rfl
        rw [ft_eq hk j] at k
        have hv : ((List.range (nfK (gK m a))).map fun k => cv ρ (pvF m (ftK (gK m a) k) a k))[j]? = some (cv ρ (pvF m (ftK (gK m a) j) a j)) := by
          rw [List.getElem?_map, List.getElem?_range (by rw [hN]; exact hjN)]; rfl
        have k1 := k ρ H locs ls (iv_st iv (lvn (lv_pvF hW _ a j) (lvc iv.2.2.1)))
        rcases hlk with h | ⟨host, h, hne0⟩
        · exact va_get hx hb hts (in_all _ _ hq) hown hK hP' q0 he hq j hjN (hts _ h) (same_of hts hsm) hv hd k1
        · exact va_getN hx hb hts (in_all _ _ hq) hown hK hP' q0 he hq j hjN (va_Nw.use rfl (hNx _ h rfl)) (same_of hts hsm) hv hd k1
    all_goals exact nn hs
theorem sim_putfield {pc pc' : Nat} {L L' : PLs} {st st' : List Value} {m m' : PM} {idx : Nat} (hx : p.tables.exec = Jvm.exec) (hb : c.code = cc) (hown : s.vm.findClass (onm (o % 100)) = some mth.cls) (hts : ∀ w ∈ lw_all, w.before args s = true) (hNx : NxW s) (hK : va_K D clL (tyL dA) s) (hap : ApD D) (hini : 100 ≤ o → meth.name = "<init>") (ho2 : o < 200) (hd : decode cc pc = .ok (.putfield idx, len)) (hl : iln (.putfield idx) = 0 ∨ iln (.putfield idx) = len) (hs : sx pT pM o rt pc L st m (.putfield idx) = some (.inl (pc', L', st', m'))) (k : Gl p l e R s mth args below meth c Q D dA A WK ρ0 m0 nL pc' L' st' m') : Gl p l e R s mth args below meth c Q D dA A WK ρ0 m0 nL pc L st m := by
  intro ρ H locs ls iv
  obtain rfl : len = 3 := ln_of hl rfl
  rcases st with _ | ⟨v, _ | ⟨v2, st⟩⟩
  · exact nn hs
  · exact nn hs
  · cases v2
    case ref a =>
      obtain ⟨j, hj, hs⟩ := mso hs
      obtain ⟨⟨h50, hfo⟩, hs⟩ := its hs
      obtain ⟨m1, hm1, hs⟩ := mso hs
      obtain ⟨rfl, rfl, rfl, rfl⟩ := nxe hs
      have hW := iv.1.2.2.2.2
      have hlv : lvI m a := lvh (lvc iv.2.2.1)
      have hok := okF (kd_lt hW hlv) hj
      unfold OKf at hok
      cases hq : clL[kcl (gK m a)]? with
      | none => rw [hq] at hok; exact hok.elim
      | some q =>
        rw [hq] at hok
        obtain ⟨C, T, N⟩ := q
        obtain ⟨hjN, ref, hlk, hsm⟩ := hok
        have hk0 := kcl_lt hq (kd hW hlv)
        have hk : 1 ≤ gK m a ∧ gK m a ≤ 22 := by omega
        have hlt : a < gX m := by
          rcases hlv with h | h
          · exact h
          · have := hW.2.2.2.1 a h; omega
        have hN : nfK (gK m a) = N := by unfold nfK; rw [hq]; rfl
        rw [ft_eq hk0 j] at hm1
        obtain ⟨⟨hX, hSl, hKd, hNd⟩, hoth, hval, href, hnf⟩ := ptF_spec hm1
        have he := wsW_at (dA := dA) (ρ := ρ) hlt
        rw [eE_obj (by omega)] at he
        have hfit := hnf ρ
        have hjl : j < ((List.range (nfK (gK m a))).map fun k => cv ρ (pvF m (ftK (gK m a) k) a k)).length := by rw [List.length_map, List.length_range, hN]; exact hjN
        have hpv : ∀ k, k ≠ j → pvF m1 (ftK (gK m a) k) a k = pvF m (ftK (gK m a) k) a k := by
          intro i hi
          obtain ⟨e1, e2, e3⟩ := hoth a i (fun z => hi z.2)
          unfold pvF
          rw [e1, e2, e3]
        have hE : eE dA ρ m1 a = .inr (kcl (gK m a), ((List.range (nfK (gK m a))).map fun k => cv ρ (pvF m (ftK (gK m a) k) a k)).set j (cv ρ v)) := by
          rw [eE_obj (by rw [hKd]; omega), hKd]
          congr 2
          have := map_set (N := nfK (gK m a)) (j := j) (f := fun k => cv ρ (pvF m (ftK (gK m a) k) a k)) (g := fun k => cv ρ (pvF m1 (ftK (gK m a) k) a k)) (by rw [hN]; exact hjN) (fun i _ hi => by simp only [hpv i hi])
          rw [← this]
          simp only [hval]
        have hws : wsW dA ρ m1 = (wsW dA ρ m).set a (ρ a, .inr (kcl (gK m a), ((List.range (nfK (gK m a))).map fun k => cv ρ (pvF m (ftK (gK m a) k) a k)).set j (cv ρ v))) := by
          rw [← hE]
          exact wsW_set hX (fun b _ hb => eE_cong (hKd b) (hNd b) (fun i => (hoth b i (fun z => hb z.1)).1) (fun i => (hoth b i (fun z => hb z.1)).2.1) (fun i => by rw [(hoth b i (fun z => hb z.1)).2.2]))
        have hRl : ∀ b i x, gR m1 b i = some x → lvI m x := by
          intro b i x hx
          by_cases q : b = a ∧ i = j
          · obtain ⟨rfl, rfl⟩ := q
            rcases href x hx with h | h
            · exact hW.2.2.2.2 _ _ _ h
            · have := lvh iv.2.2.1
              rw [h] at this
              exact this
          · rw [(hoth b i q).2.2] at hx
            exact hW.2.2.2.2 _ _ _ hx
        have hCs : ∀ b ∈ csL, eE dA ρ m1 b = eE dA ρ m b := by
          intro b hb
          have hne : b ≠ a := Nat.ne_of_gt (Nat.lt_of_lt_of_le hlt (Nat.le_trans hW.1 (csL_ge hb)))
          exact eE_cong (hKd b) (hNd b) (fun i => (hoth b i (fun z => hne z.1)).1) (fun i => (hoth b i (fun z => hne z.1)).2.1) (fun i => by rw [(hoth b i (fun z => hne z.1)).2.2])
        have kk : ∀ (H1 : Heap) (locs1 : List Loc), va_P D clL ((wsW dA ρ m).set a (ρ a, .inr (kcl (gK m a), ((List.range (nfK (gK m a))).map fun k => cv ρ (pvF m (ftK (gK m a) k) a k)).set j (cv ρ v)))) H1 → va_D A ((wsW dA ρ m).set a (ρ a, .inr (kcl (gK m a), ((List.range (nfK (gK m a))).map fun k => cv ρ (pvF m (ftK (gK m a) k) a k)).set j (cv ρ v)))) → va_S A s.heap H1 locs1 → W p l e R s mth args below meth c H1 locs1 (gX m - gX m0) (gS m - gS m0) Q (F0 mth (pc + 3) ls (st.map (cv ρ))) := by
          intro H1 locs1 hP1 hD1 hS1
          rw [← hws] at hP1 hD1
          have := k ρ H1 locs1 ls (iv_upd iv hX hSl hKd hCs hRl hP1 hD1 hS1 (lvc (lvc iv.2.2.1)))
          rw [hX, hSl] at this
          exact this
        have hd51 : j < 51 := by
          have : N ≤ 51 := by
            have h1 : ∀ q ∈ clL, q.2.2 ≤ 51 := by decide +kernel
            exact h1 _ (List.mem_of_getElem? hq)
          have : j < N := hjN
          omega
        rcases fin_ok hk hq hjN hd51 with ⟨hf0, hf1⟩ | ⟨hf1, hf2, hf3, hf4⟩
        · rcases hlk with h | ⟨host, h, hne0⟩
          · exact za_put hx hb hts (in_all _ _ hq) (hap _ _ hq) hown hK iv.1.1 iv.1.2.1 iv.1.2.2.1 a he hq j hjN (hts _ h) (same_of hts hsm) hf1 (tyF_ok _ _ hq j hjN) hfit.1 hfit.2 hjl hd kk
          · exact za_putN hx hb hts (in_all _ _ hq) (hap _ _ hq) hown hK iv.1.1 iv.1.2.1 iv.1.2.2.1 a he hq j hjN (va_Nw.use rfl (hNx _ h rfl)) (same_of hts hsm) hf1 (tyF_ok _ _ hq j hjN) hfit.1 hfit.2 hjl hd kk
        · have ho : o = pT.2.2.2.2.2.2.2.2 (gK m a) j + 99 := by omega
          rcases hlk with h | ⟨host, h, hne0⟩
          · exact za_putF hx hb hts (in_all _ _ hq) (hap _ _ hq) hown hK iv.1.1 iv.1.2.1 iv.1.2.2.1 a he hq j hjN (hts _ h) (same_of hts hsm) hf1 (hini (by omega)) (by rw [show o % 100 = pT.2.2.2.2.2.2.2.2 (gK m a) j - 1 by omega]; exact hf2) (tyF_ok _ _ hq j hjN) hfit.1 hfit.2 hjl hd kk
          · exact absurd (by rw [show o % 100 = pT.2.2.2.2.2.2.2.2 (gK m a) j - 1 by omega]; exact hf2) hne0
    all_goals (cases v <;> exact nn hs)
end FLD
