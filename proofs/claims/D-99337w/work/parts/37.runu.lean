/-! SOUNDNESS: every static call -/
section RUU
variable {p : Program} {l : Launch} {e : Env} {R : Room} {s : State} {mth : MethodId} {args : Array Value} {below : List Frame} {meth : Method} {c : Code} {Q : State → Prop}
variable {D : va_G} {dA : Nat → ClassId} {A : Nat → Prop} {WK : va_W} {ρ0 : Nat → Nat} {m0 : PM} {nL o : Nat} {cc : ByteArray} {rt : Option FieldType} {hh : Nat → Option Nat}
variable {ρ : Nat → Nat} {m : PM} {L : PLs} {st : List Value} {H : Heap} {locs : List Loc} {ls : Array Slot}
theorem run_SS {pc idx mid d : Nat} {As rest : List Value} {r : PRes} (F : Fx p s mth args meth c D dA A WK ρ0 m0 nL o cc rt hh) (iv : Iv D dA A WK s ρ0 m0 nL ρ m L st H locs ls) (hRf : d + 1 ≤ R.frames) (hRl : 64 * d + 64 ≤ R.locals) (hf : gX m - gX m0 + (xX r m) ≤ R.cells ∧ gS m - gS m0 + (xS r m) ≤ R.slots) (hC : Cn l D dA d mid As m r) (hok : OKs (o % 100 * 100000 + idx) mid) (e1 : (o % 100 * 100000 + idx) / 100000 = o % 100) (e2 : (o % 100 * 100000 + idx) % 100000 = idx) (hcx : cx pM st mid = some (As, rest)) (hd : decode cc pc = .ok (.invokestatic idx, 3)) :
    RunL 3 p l e R s mth args below meth c H locs (gX m - gX m0) (gS m - gS m0) (xX r m) (xS r m) (F0 mth pc ls (st.map (cv ρ))) (rest.map (cv ρ)) (QcP D dA (va_A (wsW dA ρ m) H.size) ρ m r (As.map (cv ρ)).toArray) (XcP D dA (va_A (wsW dA ρ m) H.size) ρ m r) (va_A (wsW dA ρ m) H.size) := by
  obtain ⟨hst, hlen, hsum⟩ := cx_e hcx
  obtain ⟨n, ⟨hcode, hini, hdd, hmL⟩, hn, hstat, halt⟩ := hok
  rw [e1, e2] at halt
  have hstack : (F0 mth pc ls (st.map (cv ρ))).stack = (As.map (cv ρ)).reverse ++ rest.map (cv ρ) := by
    show st.map (cv ρ) = _
    rw [hst, List.map_append, List.map_reverse]
  have hroom : 2 * (F0 mth pc ls (st.map (cv ρ))).monitorRoom + ((rest.map (cv ρ)).map fun v => v.category).sum ≤ 8 := lv_room (by rw [cat_map]; exact hsum)
  have hp : PreS s H (va_Pc (As.map (cv ρ)) (Pr D dA ρ m H.size)) (As.map (cv ρ)) := ⟨blind _ _ _ _ _ _, fun U hU hW => ⟨rfl, pre_of F iv U hU hW⟩⟩
  rcases halt with h | ⟨host, h⟩ | ⟨x, h, hsm, hxn, hxd⟩
  · exact vx_runS F.1 (hC ρ H.size) (va_cwS n F.1.2.2.2.2 (lw_S h hstat hini hcode) rfl rfl rfl hdd ⟨hRf, by show 8 + (_ + 11) + 64 * d ≤ _; omega⟩) hp rfl (by rw [List.length_map, hlen, hn]) iv.2.1.1 hstack hroom hd hf
  · exact vx_runSN F.1 (hC ρ H.size) ⟨va_cnB n F.1.2.2.2.2 (lw_meth hcode) rfl rfl rfl (F.2.1.1.2.1 _ h rfl) (F.1.2.2.2.2 _ hini) hdd ⟨hRf, by show 8 + (_ + 11) + 64 * d ≤ _; omega⟩, F.1.2.2.2.2 _ hstat, trivial⟩ hp rfl (by rw [List.length_map, hlen, hn]) iv.2.1.1 hstack hroom hd hf
  · have hts := F.1.2.2.2.2
    exact vx_runSV F.1 (hC ρ H.size) ⟨rfl, rfl, hRf, by show 8 + (_ + 11) + 64 * d ≤ _; omega, pay_in hts (lw_meth hcode), List.mem_cons_self⟩ (hts _ h) (hts _ hsm) hxn hxd (hts _ hstat) (hts _ hini) (hts _ hcode) ⟨hdd.1, hdd.2.1⟩ (fun sig hs => by
      have h2 := hdd.2.2
      rw [hs] at h2
      exact (Option.some.inj h2).symm) hp rfl (by rw [List.length_map, hlen, hn]) iv.2.1.1 hstack hroom hd hf
end RUU
