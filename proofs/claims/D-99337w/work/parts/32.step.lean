/-! EVERY INSTRUCTION that goes on, against the machine -/
section STP
variable {p : Program} {l : Launch} {e : Env} {R : Room} {s : State} {mth : MethodId} {args : Array Value} {below : List Frame} {meth : Method} {c : Code} {Q : State → Prop}
variable {D : va_G} {dA : Nat → ClassId} {A : Nat → Prop} {WK : va_W} {ρ0 : Nat → Nat} {m0 : PM} {nL o : Nat} {cc : ByteArray} {rt : Option FieldType} {hh : Nat → Option Nat} {len : Nat}
theorem no_rx {c : Nat} {v : Option Value} {m : PM} {x : Nat × PLs × List Value × PM} {C : Prop} (h : rx c v m = some (.inl x)) : C := by cases h
theorem no_kx {a b : Nat} {x : Nat × PLs × List Value × PM} {C : Prop} (h : kx a b = some (.inl x)) : C := by cases h
theorem sx_next {pc pc' : Nat} {L L' : PLs} {st st' : List Value} {m m' : PM} {i : Instr} (F : Fx p s mth args meth c D dA A WK ρ0 m0 nL o cc rt hh) (hrc : gX m' - gX m0 ≤ R.cells) (hrs : gS m' - gS m0 ≤ R.slots) (hd : decode cc pc = .ok (i, len)) (hl : iln i = 0 ∨ iln i = len) (hs : sx pT pM o rt pc L st m i = some (.inl (pc', L', st', m'))) (k : Gl p l e R s mth args below meth c Q D dA A WK ρ0 m0 nL pc' L' st' m') : Gl p l e R s mth args below meth c Q D dA A WK ρ0 m0 nL pc L st m := by
  obtain ⟨⟨hx, hb, hml, hown, hts⟩, ⟨⟨hK, hNx, hAO, hFw, hRd⟩, hap, hA⟩, ⟨hKP, hKA, hWK⟩, ⟨hSt, hZ, hTh⟩, hini, ho2, hrt, hlocks, hHt⟩ := F
  cases i
  case iadd => exact sim_iadd hx hb hd hl hs k
  case isub => exact sim_isub hx hb hd hl hs k
  case imul => exact sim_imul hx hb hd hl hs k
  case iand => exact sim_iand hx hb hd hl hs k
  case ior => exact sim_ior hx hb hd hl hs k
  case ixor => exact sim_ixor hx hb hd hl hs k
  case ishl => exact sim_ishl hx hb hd hl hs k
  case ishr => exact sim_ishr hx hb hd hl hs k
  case iushr => exact sim_iushr hx hb hd hl hs k
  case idiv => exact sim_idiv hx hb hd hl hs k
  case irem => exact sim_irem hx hb hd hl hs k
  case ladd => exact sim_ladd hx hb hd hl hs k
  case lsub => exact sim_lsub hx hb hd hl hs k
  case lmul => exact sim_lmul hx hb hd hl hs k
  case land => exact sim_land hx hb hd hl hs k
  case lor => exact sim_lor hx hb hd hl hs k
  case ldiv => exact sim_ldiv hx hb hd hl hs k
  case lrem => exact sim_lrem hx hb hd hl hs k
  case lshl => exact sim_lshl hx hb hd hl hs k
  case lshr => exact sim_lshr hx hb hd hl hs k
  case lcmp => exact sim_lcmp hx hb hd hl hs k
  case ineg => exact sim_ineg hx hb hd hl hs k
  case i2l => exact sim_i2l hx hb hd hl hs k
  case l2i => exact sim_l2i hx hb hd hl hs k
  case i2b => exact sim_i2b hx hb hd hl hs k
  case i2c => exact sim_i2c hx hb hd hl hs k
  case iconst => exact sim_iconst hx hb hd hl hs k
  case bipush => exact sim_bipush hx hb hd hl hs k
  case sipush => exact sim_sipush hx hb hd hl hs k
  case lconst => exact sim_lconst hx hb hd hl hs k
  case aconst_null => exact sim_aconst_null hx hb hd hl hs k
  case iload => exact sim_iload hx hb hd hl hs k
  case iload_n => exact sim_iload_n hx hb hd hl hs k
  case lload => exact sim_lload hx hb hd hl hs k
  case lload_n => exact sim_lload_n hx hb hd hl hs k
  case aload => exact sim_aload hx hb hd hl hs k
  case aload_n => exact sim_aload_n hx hb hd hl hs k
  case istore => exact sim_istore hx hb hd hl hs k
  case istore_n => exact sim_istore_n hx hb hd hl hs k
  case lstore => exact sim_lstore hx hb hd hl hs k
  case lstore_n => exact sim_lstore_n hx hb hd hl hs k
  case astore => exact sim_astore hx hb hd hl hs k
  case astore_n => exact sim_astore_n hx hb hd hl hs k
  case iinc => exact sim_iinc hx hb hd hl hs k
  case dup => exact sim_dup hx hb hd hl hs k
  case pop => exact sim_pop hx hb hd hl hs k
  case dup_x1 => exact sim_dup_x1 hx hb hd hl hs k
  case dup_x2 => exact sim_dup_x2 hx hb hd hl hs k
  case dup2 => exact sim_dup2 hx hb hd hl hs k
  case goto => exact sim_goto hx hb hd hl hs k
  case ifnull => exact sim_ifnull hx hb hd hl hs k
  case ifnonnull => exact sim_ifnonnull hx hb hd hl hs k
  case tableswitch => exact sim_tableswitch hx hb hd hl hs k
  case lookupswitch => exact sim_lookupswitch hx hb hd hl hs k
  case ifCond cd off =>
    cases cd
    case eq => exact sim_if_eq hx hb hd hl hs k
    case ne => exact sim_if_ne hx hb hd hl hs k
    case lt => exact sim_if_lt hx hb hd hl hs k
    case ge => exact sim_if_ge hx hb hd hl hs k
    case gt => exact sim_if_gt hx hb hd hl hs k
    case le => exact sim_if_le hx hb hd hl hs k
  case if_icmp cd off =>
    cases cd
    case eq => exact sim_icmp_eq hx hb hd hl hs k
    case ne => exact sim_icmp_ne hx hb hd hl hs k
    case lt => exact sim_icmp_lt hx hb hd hl hs k
    case ge => exact sim_icmp_ge hx hb hd hl hs k
    case gt => exact sim_icmp_gt hx hb hd hl hs k
    case le => exact sim_icmp_le hx hb hd hl hs k
  case getfield idx => exact sim_getfield hx hb hown hts hNx hK hKP hKA hd hl hs k
  case putfield idx => exact sim_putfield hx hb hown hts hNx hK hap hini ho2 hd hl hs k
  case iaload => exact sim_iaload hx hb hK hKP hKA hd hl hs k
  case laload => exact sim_laload hx hb hK hKP hKA hd hl hs k
  case baload => exact sim_baload hx hb hK hKP hKA hd hl hs k
  case aaload => exact sim_aaload hx hb hK hKP hKA hd hl hs k
  case arraylength => exact sim_arraylength hx hb hK hKP hKA hd hl hs k
  case iastore => exact sim_iastore hx hb hK hd hl hs k
  case lastore => exact sim_lastore hx hb hK hd hl hs k
  case bastore => exact sim_bastore hx hb hK hd hl hs k
  case aastore => exact sim_aastore hx hb hNx hK hKP hKA hd hl hs k
  case new idx => exact sim_new hx hb hown hts hK hA hd hl hs hrc hrs k
  case newarray t => exact sim_newarray hx hb hts hK hA hd hl hs hrc hrs k
  case anewarray idx => exact sim_anewarray hx hb hown hts hAO hK hA hd hl hs hrc hrs k
  case ldc idx => exact sim_ldc hx hb hown hts hSt hd hl hs k
  case ldc_w idx => exact sim_ldc_w hx hb hown hts hSt hd hl hs k
  case ldc2_w idx => exact sim_ldc2_w hx hb hown hts hd hl hs k
  case getstatic idx => exact sim_getstatic hx hb hown hts hZ hd hl hs k
  case invokestatic idx => obtain ⟨_, _, hs⟩ := mso hs; exact no_kx hs
  case invokevirtual idx => obtain ⟨_, _, hs⟩ := mso hs; obtain ⟨_, _, hs⟩ := mso hs; obtain ⟨_, _, hs⟩ := mso hs; exact no_kx hs
  case invokespecial idx => obtain ⟨_, _, hs⟩ := mso hs; obtain ⟨_, _, hs⟩ := mso hs; obtain ⟨_, _, hs⟩ := mso hs; exact no_kx hs
  case invokeinterface idx cn => obtain ⟨_, _, hs⟩ := mso hs; obtain ⟨_, _, hs⟩ := mso hs; obtain ⟨_, _, hs⟩ := mso hs; exact no_kx hs
  case ireturn =>
    rcases st with _ | ⟨v1, _ | ⟨v2, st⟩⟩
    · exact nn hs
    · cases v1
      case int v => obtain ⟨_, _, hs⟩ := mso hs; obtain ⟨_, hs⟩ := its hs; exact no_rx hs
      all_goals exact nn hs
    · cases v1 <;> exact nn hs
  case lreturn =>
    rcases st with _ | ⟨v1, _ | ⟨v2, st⟩⟩
    · exact nn hs
    · cases v1
      case long v => obtain ⟨_, hs⟩ := its hs; exact no_rx hs
      all_goals exact nn hs
    · cases v1 <;> exact nn hs
  case areturn =>
    rcases st with _ | ⟨v1, _ | ⟨v2, st⟩⟩
    · exact nn hs
    · cases v1
      case ref v => obtain ⟨_, hs⟩ := its hs; exact no_rx hs
      case null => obtain ⟨_, hs⟩ := its hs; exact no_rx hs
      all_goals exact nn hs
    · cases v1 <;> exact nn hs
  case return_ =>
    rcases st with _ | ⟨v1, st⟩
    · obtain ⟨_, hs⟩ := its hs; exact no_rx hs
    · exact nn hs
  case athrow =>
    rcases st with _ | ⟨v1, _ | ⟨v2, st⟩⟩
    · exact nn hs
    · cases v1
      case ref v => obtain ⟨_, hs⟩ := its hs; exact no_rx hs
      all_goals exact nn hs
    · cases v1 <;> exact nn hs
  all_goals exact nn hs
end STP
