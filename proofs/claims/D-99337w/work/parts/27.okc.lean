/-! THE CALL TABLES' ENTRIES ARE BACKED BY WORDS -/
set_option maxRecDepth 100000
def yL : List MethodName := [yX0_person, yX1_init, yX1_feed, yX1_four, yX1_end, yX1_table, yX1_taken, yX1_isIn, yX1_has, yX1_fault, yX1_plate, yX1_isPerson, yX1_isDish, yX1_dish, yX1_now, yX1_undo, yX1_eat, yX1_keep, yX1_serve, yX1_rise, yX1_refuse, yX1_accept, yX1_die, yX1_meals, yX1_heir, yX1_line, yX1_order, yX1_living, yX1_orders, yX1_orderAt, yX1_eaters, yX1_one, yX1_onPlates, yX1_surely, yX1_ask, yX1_share, yX1_last, yX1_seats, yX1_sits, yX1_seatAt, yX1_left, yX1_kin, yX1_hungriest, yX1_will, yX1_put, yX1_put_2, yX1_put_3, yX1_byteAt, yX1_drawn, yX1_odds, yX1_book, yX1_told, yX1_sentence, yX1_said, yX1_image, yX1_restore, yX1_count, yX1_person, yX1_must, yX2_init, yX3_init, yX3_areNear, yX3_children, yX4_init, yX4_begin, yX4_be, yX4_whyEat, yX4_isDead, yX4_eat, yX4_whyServe, yX4_serve, yX4_whyRise, yX4_on, yX4_passes, yX4_heir, yX4_heir_2, yX4_nextOf, yX4_whyRefuse, yX4_whyAccept, yX4_whyDie, yX4_die, yX4_meals, yX4_goOn, yX4_wanted, yX4_eats, yX4_draws, yX4_drawPerson, yX4_draw, yX5_init, yX5_begin, yX5_next, yX5_peek, yX5_isLetter, yX5_isDigit, yX5_run, yX5_find, yX5_is, yX5_must, yX5_wrong, yX5_isName, yX5_of, yX5_number, yX5_known, yX5_look, yX5_sign, yX5_is_2, yX6_init, yX6_read, yX6_line, yX6_person, yX6_fresh, yX6_dish, yX7_init, yX7_read, yX7_line, yX8_init, yX8_read, yX8_any, yX8_both, yX8_single, yX9_init, yX9_thrown, yX9_feed, yX9_come, yX9_end, yX9_table, yX9_begin, yX9_take, yX9_go, yX9_isLetter, yX9_isDigit, yX9_tapeAt, yX9_readLine, yX9_isWord, yX9_wordOf, yX9_spelt, yX9_readPerson, yX9_readFirst, yX9_bad, yX9_readNew, yX9_isName, yX9_findIn, yX9_readNumber, yX9_isIn, yX9_put, yX9_readOne, yX9_isOne, yX9_readDish, yX9_readPlate, yX9_readLaw, yX9_readEnd, yX9_isSign, yX9_startSo, yX9_fault, yX9_person, yX9_isPerson, yX9_refuse, yX9_isDead, yX9_has, yX9_plateOf, yX9_onPlate, yX9_plate, yX9_isDish, yX9_dish, yX9_now, yX9_sumOf, yX9_heir, yX9_outs, yX9_heirBy, yX9_nextTo, yX9_line, yX9_eat, yX9_act, yX9_why, yX9_wantsYet, yX9_snap, yX9_live, yX9_doEat, yX9_pass, yX9_least, yX9_serve, yX9_rise, yX9_refuse_2, yX9_accept, yX9_die, yX9_undo, yX9_meals, yX9_passMeals, yX9_oneMeal, yX9_order, yX9_living, yX9_bits, yX9_orderFrom, yX9_eatsAll, yX9_orderAt, yX9_eaters, yX9_size, yX9_surely, yX9_ask, yX9_share, yX9_last, yX9_seats, yX9_seatFrom, yX9_seatAt, yX9_left, yX9_layAside, yX9_takeBack, yX9_kin, yX9_hungriest, yX9_will, yX9_writeWord, yX9_write, yX9_writeNext, yX9_writeNumber, yX9_byteAt, yX9_drawn, yX9_drawMeals, yX9_draw, yX9_odds, yX9_book, yX9_readBookLine, yX9_readDoes, yX9_goBy, yX9_stay, yX9_told, yX9_sentence, yX9_readOr, yX9_readAnd, yX9_readSaid, yX9_readBracket, yX9_readNot, yX9_saysOne, yX9_readOf, yX9_readNamed, yX9_readCompare, yX9_said, yX9_holds, yX9_image, yX9_restore, yX9_count, yX10_init, yX10_coded, yX11_init, yX11_why, yX11_live, yX12_init, yX12_why, yX12_live, yX13_init, yX13_why, yX13_live, yX14_init, yX14_why, yX14_live, yX15_init, yX15_why, yX15_live, yX16_init, yX16_why, yX16_live, yX17_init, yX17_why, yX17_live, yX18_init, yX18_is, yX19_init, yX19_is, yX20_init, yX20_is, yX21_init, yX21_is, yX22_init, yX22_is, yX23_init, yJ0_init, yJ0_init_2, yJ1_init, yJ1_init_2, yJ2_fill, yJ3_length, yJ3_coder, yJ3_charAt, yJ3_isLatin1, yJ3_checkIndex, yJ3_init, yJ4_charAt, yJ5_checkIndex, yJ6_charAt, yJ6_checkIndex, yJ6_length, yJ6_getChar, yJ6_getChars, yJ6_putChar, yJ7_init, yJ8_init, yJ9_min, yJ9_abs, yJ10_numberOfTrailingZeros, yJ10_toString, yJ10_stringSize, yJ10_getChars, yJ11_init]
def yN (mid : Nat) : MethodName := yL.getD mid yX1_init
def MK (mid n : Nat) : Prop := Cond.code (yN mid) (pM.2.1 mid) (pM.2.2.1 mid) (pM.2.2.2.1 mid) ∈ lw_all ∧ Cond.initialized (yN mid).cls ∈ lw_all ∧ ((yN mid).cls ≠ "java/lang/invoke/MethodHandle" ∧ (yN mid).cls ≠ "java/lang/invoke/VarHandle" ∧ (parseMethodDescriptor (yN mid).desc).map (fun d => d.parameters.length) = some n) ∧ pM.2.2.1 mid ≤ 40
def OKs (key mid : Nat) : Prop := ∃ n, MK mid n ∧ pM.2.2.2.2.1 mid = n ∧ Cond.static (yN mid) ∈ lw_all ∧ (Cond.methodLink (onm (key / 100000)) (key % 100000) (yN mid) ∈ lw_all ∨ (∃ host, Cond.methodLinkNest (onm (key / 100000)) (key % 100000) (yN mid) host ∈ lw_tbl) ∨ (∃ x, Cond.methodLink (onm (key / 100000)) (key % 100000) x ∈ lw_all ∧ Cond.sameMethod x.cls (yN mid).cls x.name x.desc ∈ lw_all ∧ x.name = (yN mid).name ∧ x.desc = (yN mid).desc))
def cnK (K : Nat) : String := (clL.getD (kcl K) (RX1, TX1, 0)).1
def OKo (o idx mid : Nat) : Prop := mid = 301 ∧ Cond.methodLink (onm o) idx objectInit ∈ lw_all
def OKv (o idx K mid : Nat) : Prop := ∃ n, MK mid n ∧ pM.2.2.2.2.1 mid = n + 1 ∧ Cond.instanceMethod (yN mid) ∈ lw_all ∧
  ((ivk 0 K (pM.1 mid) = true ∧ (yN mid).cls = cnK K ∧ Cond.methodLink (onm o) idx (yN mid) ∈ lw_all ∧ Cond.selects (cnK K) (yN mid) (yN mid) ∈ lw_all) ∨
   (ivk 0 K (pM.1 mid) = true ∧ (yN mid).cls = cnK K ∧ (∃ host, Cond.methodLinkNest (onm o) idx (yN mid) host ∈ lw_tbl) ∧ Cond.selects (cnK K) (yN mid) (yN mid) ∈ lw_all) ∨
   (ivk 1 K (pM.1 mid) = true ∧ (yN mid).name = "<init>" ∧ pM.2.2.2.1 mid = none ∧ (Cond.methodLink (onm o) idx (yN mid) ∈ lw_all ∨ ∃ host, Cond.methodLinkNest (onm o) idx (yN mid) host ∈ lw_tbl)) ∨
   (ivk 0 K (pM.1 mid) = true ∧ ∃ x owner, Cond.methodLink (onm o) idx x ∈ lw_all ∧ Cond.sameMethod x.cls owner x.name x.desc ∈ lw_all ∧ Cond.selects (cnK K) x (yN mid) ∈ lw_all ∧ x.desc = (yN mid).desc ∧ (owner ≠ "java/lang/invoke/MethodHandle" ∧ owner ≠ "java/lang/invoke/VarHandle") ∧ (yN mid = ⟨owner, x.name, x.desc⟩ ∨ Cond.declares ⟨owner, x.name, x.desc⟩ ∈ lw_tbl)) ∨
   (ivk 0 K (pM.1 mid) = true ∧ cnK K ∈ rdL ∧ yN mid ∈ rdY ∧ Cond.methodLink (onm o) idx (yN mid) ∈ lw_all ∧ Cond.sameMethod (yN mid).cls (yN mid).cls (yN mid).name (yN mid).desc ∈ lw_all) ∨
   (ivk 2 K (pM.1 mid) = true ∧ cnK K ∈ cndL ∧ yN mid = ⟨cnK K, "is", "(LSecondHelpings;I)Z"⟩ ∧ Cond.methodLink (onm o) idx cndX ∈ lw_all ∧ Cond.selects (cnK K) cndX (yN mid) ∈ lw_all))
theorem mk_1 : MK 1 0 := ⟨q134, q94, by decide +kernel, by decide⟩
theorem mk_2 : MK 2 5 := ⟨q632, q94, by decide +kernel, by decide⟩
theorem mk_3 : MK 3 1 := ⟨q636, q94, by decide +kernel, by decide⟩
theorem mk_4 : MK 4 1 := ⟨q640, q94, by decide +kernel, by decide⟩
theorem mk_6 : MK 6 0 := ⟨q648, q94, by decide +kernel, by decide⟩
theorem mk_7 : MK 7 3 := ⟨q676, q94, by decide +kernel, by decide⟩
theorem mk_8 : MK 8 2 := ⟨q761, q94, by decide +kernel, by decide⟩
theorem mk_9 : MK 9 0 := ⟨q843, q94, by decide +kernel, by decide⟩
theorem mk_10 : MK 10 2 := ⟨q847, q94, by decide +kernel, by decide⟩
theorem mk_11 : MK 11 1 := ⟨q851, q94, by decide +kernel, by decide⟩
theorem mk_12 : MK 12 1 := ⟨q856, q94, by decide +kernel, by decide⟩
theorem mk_13 : MK 13 2 := ⟨q860, q94, by decide +kernel, by decide⟩
theorem mk_14 : MK 14 1 := ⟨q864, q94, by decide +kernel, by decide⟩
theorem mk_15 : MK 15 0 := ⟨q868, q94, by decide +kernel, by decide⟩
theorem mk_16 : MK 16 3 := ⟨q876, q94, by decide +kernel, by decide⟩
theorem mk_17 : MK 17 0 := ⟨q889, q94, by decide +kernel, by decide⟩
theorem mk_18 : MK 18 3 := ⟨q898, q94, by decide +kernel, by decide⟩
theorem mk_19 : MK 19 1 := ⟨q910, q94, by decide +kernel, by decide⟩
theorem mk_20 : MK 20 1 := ⟨q941, q94, by decide +kernel, by decide⟩
theorem mk_21 : MK 21 1 := ⟨q949, q94, by decide +kernel, by decide⟩
theorem mk_22 : MK 22 1 := ⟨q957, q94, by decide +kernel, by decide⟩
theorem mk_23 : MK 23 1 := ⟨q970, q94, by decide +kernel, by decide⟩
theorem mk_24 : MK 24 1 := ⟨q982, q94, by decide +kernel, by decide⟩
theorem mk_25 : MK 25 2 := ⟨q987, q94, by decide +kernel, by decide⟩
theorem mk_26 : MK 26 0 := ⟨q992, q94, by decide +kernel, by decide⟩
theorem mk_27 : MK 27 0 := ⟨q997, q94, by decide +kernel, by decide⟩
theorem mk_28 : MK 28 2 := ⟨q1001, q94, by decide +kernel, by decide⟩
theorem mk_29 : MK 29 1 := ⟨q1018, q94, by decide +kernel, by decide⟩
theorem mk_30 : MK 30 0 := ⟨q1022, q94, by decide +kernel, by decide⟩
theorem mk_31 : MK 31 1 := ⟨q1026, q94, by decide +kernel, by decide⟩
theorem mk_32 : MK 32 2 := ⟨q1030, q94, by decide +kernel, by decide⟩
theorem mk_33 : MK 33 0 := ⟨q1038, q94, by decide +kernel, by decide⟩
theorem mk_34 : MK 34 0 := ⟨q1042, q94, by decide +kernel, by decide⟩
theorem mk_35 : MK 35 3 := ⟨q1046, q94, by decide +kernel, by decide⟩
theorem mk_36 : MK 36 1 := ⟨q1050, q94, by decide +kernel, by decide⟩
theorem mk_37 : MK 37 0 := ⟨q1054, q94, by decide +kernel, by decide⟩
theorem mk_38 : MK 38 3 := ⟨q1058, q94, by decide +kernel, by decide⟩
theorem mk_39 : MK 39 1 := ⟨q1062, q94, by decide +kernel, by decide⟩
theorem mk_40 : MK 40 1 := ⟨q1066, q94, by decide +kernel, by decide⟩
theorem mk_41 : MK 41 2 := ⟨q1072, q94, by decide +kernel, by decide⟩
theorem mk_42 : MK 42 0 := ⟨q1080, q94, by decide +kernel, by decide⟩
theorem mk_43 : MK 43 1 := ⟨q1084, q94, by decide +kernel, by decide⟩
theorem mk_44 : MK 44 1 := ⟨q1088, q94, by decide +kernel, by decide⟩
theorem mk_45 : MK 45 1 := ⟨q1093, q94, by decide +kernel, by decide⟩
theorem mk_46 : MK 46 1 := ⟨q1098, q94, by decide +kernel, by decide⟩
theorem mk_47 : MK 47 1 := ⟨q1146, q94, by decide +kernel, by decide⟩
theorem mk_48 : MK 48 2 := ⟨q1150, q94, by decide +kernel, by decide⟩
theorem mk_49 : MK 49 3 := ⟨q1169, q94, by decide +kernel, by decide⟩
theorem mk_51 : MK 51 1 := ⟨q1372, q94, by decide +kernel, by decide⟩
theorem mk_53 : MK 53 1 := ⟨q1489, q94, by decide +kernel, by decide⟩
theorem mk_54 : MK 54 1 := ⟨q1536, q94, by decide +kernel, by decide⟩
theorem mk_55 : MK 55 1 := ⟨q1558, q94, by decide +kernel, by decide⟩
theorem mk_56 : MK 56 1 := ⟨q1562, q94, by decide +kernel, by decide⟩
theorem mk_57 : MK 57 2 := ⟨q1570, q94, by decide +kernel, by decide⟩
theorem mk_58 : MK 58 1 := ⟨q1573, q94, by decide +kernel, by decide⟩
theorem mk_59 : MK 59 0 := ⟨q178, q97, by decide +kernel, by decide⟩
theorem mk_60 : MK 60 0 := ⟨q241, q98, by decide +kernel, by decide⟩
theorem mk_61 : MK 61 2 := ⟨q1076, q98, by decide +kernel, by decide⟩
theorem mk_62 : MK 62 1 := ⟨q1600, q98, by decide +kernel, by decide⟩
theorem mk_63 : MK 63 0 := ⟨q318, q99, by decide +kernel, by decide⟩
theorem mk_64 : MK 64 1 := ⟨q459, q99, by decide +kernel, by decide⟩
theorem mk_65 : MK 65 1 := ⟨q872, q99, by decide +kernel, by decide⟩
theorem mk_66 : MK 66 4 := ⟨q880, q99, by decide +kernel, by decide⟩
theorem mk_67 : MK 67 1 := ⟨q884, q99, by decide +kernel, by decide⟩
theorem mk_68 : MK 68 3 := ⟨q894, q99, by decide +kernel, by decide⟩
theorem mk_69 : MK 69 3 := ⟨q902, q99, by decide +kernel, by decide⟩
theorem mk_70 : MK 70 3 := ⟨q906, q99, by decide +kernel, by decide⟩
theorem mk_71 : MK 71 1 := ⟨q914, q99, by decide +kernel, by decide⟩
theorem mk_72 : MK 72 1 := ⟨q918, q99, by decide +kernel, by decide⟩
theorem mk_73 : MK 73 2 := ⟨q922, q99, by decide +kernel, by decide⟩
theorem mk_74 : MK 74 2 := ⟨q926, q99, by decide +kernel, by decide⟩
theorem mk_75 : MK 75 3 := ⟨q930, q99, by decide +kernel, by decide⟩
theorem mk_76 : MK 76 3 := ⟨q934, q99, by decide +kernel, by decide⟩
theorem mk_77 : MK 77 1 := ⟨q945, q99, by decide +kernel, by decide⟩
theorem mk_78 : MK 78 1 := ⟨q953, q99, by decide +kernel, by decide⟩
theorem mk_79 : MK 79 1 := ⟨q961, q99, by decide +kernel, by decide⟩
theorem mk_80 : MK 80 2 := ⟨q965, q99, by decide +kernel, by decide⟩
theorem mk_81 : MK 81 2 := ⟨q974, q99, by decide +kernel, by decide⟩
theorem mk_82 : MK 82 1 := ⟨q978, q99, by decide +kernel, by decide⟩
theorem mk_83 : MK 83 1 := ⟨q1005, q99, by decide +kernel, by decide⟩
theorem mk_84 : MK 84 2 := ⟨q1013, q99, by decide +kernel, by decide⟩
theorem mk_85 : MK 85 3 := ⟨q1154, q99, by decide +kernel, by decide⟩
theorem mk_86 : MK 86 2 := ⟨q1158, q99, by decide +kernel, by decide⟩
theorem mk_87 : MK 87 1 := ⟨q1162, q99, by decide +kernel, by decide⟩
theorem mk_88 : MK 88 2 := ⟨q382, q100, by decide +kernel, by decide⟩
theorem mk_89 : MK 89 0 := ⟨q658, q100, by decide +kernel, by decide⟩
theorem mk_90 : MK 90 0 := ⟨q665, q100, by decide +kernel, by decide⟩
theorem mk_91 : MK 91 0 := ⟨q669, q100, by decide +kernel, by decide⟩
theorem mk_92 : MK 92 1 := ⟨q673, q100, by decide +kernel, by decide⟩
theorem mk_93 : MK 93 1 := ⟨q680, q100, by decide +kernel, by decide⟩
theorem mk_94 : MK 94 1 := ⟨q684, q100, by decide +kernel, by decide⟩
theorem mk_95 : MK 95 1 := ⟨q690, q100, by decide +kernel, by decide⟩
theorem mk_96 : MK 96 1 := ⟨q697, q100, by decide +kernel, by decide⟩
theorem mk_97 : MK 97 2 := ⟨q751, q100, by decide +kernel, by decide⟩
theorem mk_98 : MK 98 1 := ⟨q758, q100, by decide +kernel, by decide⟩
theorem mk_99 : MK 99 0 := ⟨q783, q100, by decide +kernel, by decide⟩
theorem mk_100 : MK 100 2 := ⟨q790, q100, by decide +kernel, by decide⟩
theorem mk_101 : MK 101 2 := ⟨q796, q100, by decide +kernel, by decide⟩
theorem mk_102 : MK 102 2 := ⟨q808, q100, by decide +kernel, by decide⟩
theorem mk_103 : MK 103 2 := ⟨q815, q100, by decide +kernel, by decide⟩
theorem mk_104 : MK 104 1 := ⟨q832, q100, by decide +kernel, by decide⟩
theorem mk_105 : MK 105 1 := ⟨q839, q100, by decide +kernel, by decide⟩
theorem mk_106 : MK 106 1 := ⟨q379, q101, by decide +kernel, by decide⟩
theorem mk_107 : MK 107 1 := ⟨q652, q101, by decide +kernel, by decide⟩
theorem mk_108 : MK 108 1 := ⟨q769, q101, by decide +kernel, by decide⟩
theorem mk_109 : MK 109 0 := ⟨q773, q101, by decide +kernel, by decide⟩
theorem mk_110 : MK 110 0 := ⟨q777, q101, by decide +kernel, by decide⟩
theorem mk_111 : MK 111 0 := ⟨q821, q101, by decide +kernel, by decide⟩
theorem mk_112 : MK 112 1 := ⟨q432, q102, by decide +kernel, by decide⟩
theorem mk_113 : MK 113 0 := ⟨q1177, q102, by decide +kernel, by decide⟩
theorem mk_114 : MK 114 0 := ⟨q1184, q102, by decide +kernel, by decide⟩
theorem mk_115 : MK 115 1 := ⟨q471, q105, by decide +kernel, by decide⟩
theorem mk_116 : MK 116 0 := ⟨q1380, q105, by decide +kernel, by decide⟩
theorem mk_117 : MK 117 1 := ⟨q1387, q105, by decide +kernel, by decide⟩
theorem mk_118 : MK 118 1 := ⟨q1391, q105, by decide +kernel, by decide⟩
theorem mk_119 : MK 119 1 := ⟨q1395, q105, by decide +kernel, by decide⟩
theorem mk_120 : MK 120 0 := ⟨q1605, q106, by decide +kernel, by decide⟩
theorem mk_121 : MK 121 0 := ⟨q1765, q106, by decide +kernel, by decide⟩
theorem mk_122 : MK 122 5 := ⟨q1769, q106, by decide +kernel, by decide⟩
theorem mk_123 : MK 123 1 := ⟨q1773, q106, by decide +kernel, by decide⟩
theorem mk_124 : MK 124 1 := ⟨q1777, q106, by decide +kernel, by decide⟩
theorem mk_125 : MK 125 0 := ⟨q1781, q106, by decide +kernel, by decide⟩
theorem mk_126 : MK 126 1 := ⟨q1785, q106, by decide +kernel, by decide⟩
theorem mk_127 : MK 127 0 := ⟨q1789, q106, by decide +kernel, by decide⟩
theorem mk_128 : MK 128 0 := ⟨q1793, q106, by decide +kernel, by decide⟩
theorem mk_129 : MK 129 1 := ⟨q1796, q106, by decide +kernel, by decide⟩
theorem mk_130 : MK 130 1 := ⟨q1799, q106, by decide +kernel, by decide⟩
theorem mk_131 : MK 131 1 := ⟨q1803, q106, by decide +kernel, by decide⟩
theorem mk_132 : MK 132 0 := ⟨q1809, q106, by decide +kernel, by decide⟩
theorem mk_133 : MK 133 1 := ⟨q1813, q106, by decide +kernel, by decide⟩
theorem mk_134 : MK 134 1 := ⟨q1816, q106, by decide +kernel, by decide⟩
theorem mk_135 : MK 135 7 := ⟨q1819, q106, by decide +kernel, by decide⟩
theorem mk_136 : MK 136 0 := ⟨q1823, q106, by decide +kernel, by decide⟩
theorem mk_137 : MK 137 2 := ⟨q1827, q106, by decide +kernel, by decide⟩
theorem mk_138 : MK 138 1 := ⟨q1831, q106, by decide +kernel, by decide⟩
theorem mk_139 : MK 139 1 := ⟨q1835, q106, by decide +kernel, by decide⟩
theorem mk_140 : MK 140 0 := ⟨q1839, q106, by decide +kernel, by decide⟩
theorem mk_141 : MK 141 4 := ⟨q1842, q106, by decide +kernel, by decide⟩
theorem mk_142 : MK 142 2 := ⟨q1846, q106, by decide +kernel, by decide⟩
theorem mk_143 : MK 143 3 := ⟨q1849, q106, by decide +kernel, by decide⟩
theorem mk_144 : MK 144 2 := ⟨q1853, q106, by decide +kernel, by decide⟩
theorem mk_145 : MK 145 2 := ⟨q1857, q106, by decide +kernel, by decide⟩
theorem mk_146 : MK 146 2 := ⟨q1861, q106, by decide +kernel, by decide⟩
theorem mk_147 : MK 147 0 := ⟨q1865, q106, by decide +kernel, by decide⟩
theorem mk_148 : MK 148 0 := ⟨q1869, q106, by decide +kernel, by decide⟩
theorem mk_149 : MK 149 0 := ⟨q1873, q106, by decide +kernel, by decide⟩
theorem mk_150 : MK 150 0 := ⟨q1877, q106, by decide +kernel, by decide⟩
theorem mk_151 : MK 151 1 := ⟨q1881, q106, by decide +kernel, by decide⟩
theorem mk_152 : MK 152 0 := ⟨q1885, q106, by decide +kernel, by decide⟩
theorem mk_153 : MK 153 0 := ⟨q1889, q106, by decide +kernel, by decide⟩
theorem mk_154 : MK 154 2 := ⟨q1893, q106, by decide +kernel, by decide⟩
theorem mk_155 : MK 155 1 := ⟨q1897, q106, by decide +kernel, by decide⟩
theorem mk_156 : MK 156 0 := ⟨q1901, q106, by decide +kernel, by decide⟩
theorem mk_157 : MK 157 1 := ⟨q1905, q106, by decide +kernel, by decide⟩
theorem mk_158 : MK 158 2 := ⟨q1908, q106, by decide +kernel, by decide⟩
theorem mk_159 : MK 159 1 := ⟨q1912, q106, by decide +kernel, by decide⟩
theorem mk_160 : MK 160 2 := ⟨q1916, q106, by decide +kernel, by decide⟩
theorem mk_161 : MK 161 2 := ⟨q1920, q106, by decide +kernel, by decide⟩
theorem mk_162 : MK 162 1 := ⟨q1924, q106, by decide +kernel, by decide⟩
theorem mk_163 : MK 163 2 := ⟨q1928, q106, by decide +kernel, by decide⟩
theorem mk_164 : MK 164 1 := ⟨q1932, q106, by decide +kernel, by decide⟩
theorem mk_165 : MK 165 1 := ⟨q1936, q106, by decide +kernel, by decide⟩
theorem mk_166 : MK 166 1 := ⟨q1940, q106, by decide +kernel, by decide⟩
theorem mk_167 : MK 167 0 := ⟨q1944, q106, by decide +kernel, by decide⟩
theorem mk_168 : MK 168 2 := ⟨q1948, q106, by decide +kernel, by decide⟩
theorem mk_169 : MK 169 2 := ⟨q1952, q106, by decide +kernel, by decide⟩
theorem mk_170 : MK 170 2 := ⟨q1956, q106, by decide +kernel, by decide⟩
theorem mk_171 : MK 171 3 := ⟨q1960, q106, by decide +kernel, by decide⟩
theorem mk_172 : MK 172 4 := ⟨q1964, q106, by decide +kernel, by decide⟩
theorem mk_173 : MK 173 4 := ⟨q1968, q106, by decide +kernel, by decide⟩
theorem mk_174 : MK 174 1 := ⟨q1972, q106, by decide +kernel, by decide⟩
theorem mk_175 : MK 175 0 := ⟨q1976, q106, by decide +kernel, by decide⟩
theorem mk_176 : MK 176 4 := ⟨q1980, q106, by decide +kernel, by decide⟩
theorem mk_177 : MK 177 3 := ⟨q1984, q106, by decide +kernel, by decide⟩
theorem mk_178 : MK 178 1 := ⟨q1988, q106, by decide +kernel, by decide⟩
theorem mk_179 : MK 179 2 := ⟨q1991, q106, by decide +kernel, by decide⟩
theorem mk_180 : MK 180 3 := ⟨q1995, q106, by decide +kernel, by decide⟩
theorem mk_181 : MK 181 1 := ⟨q1999, q106, by decide +kernel, by decide⟩
theorem mk_182 : MK 182 1 := ⟨q2003, q106, by decide +kernel, by decide⟩
theorem mk_183 : MK 183 1 := ⟨q2007, q106, by decide +kernel, by decide⟩
theorem mk_184 : MK 184 1 := ⟨q2011, q106, by decide +kernel, by decide⟩
theorem mk_185 : MK 185 0 := ⟨q2015, q106, by decide +kernel, by decide⟩
theorem mk_186 : MK 186 1 := ⟨q2019, q106, by decide +kernel, by decide⟩
theorem mk_187 : MK 187 1 := ⟨q2023, q106, by decide +kernel, by decide⟩
theorem mk_188 : MK 188 0 := ⟨q2027, q106, by decide +kernel, by decide⟩
theorem mk_189 : MK 189 0 := ⟨q2031, q106, by decide +kernel, by decide⟩
theorem mk_190 : MK 190 0 := ⟨q2036, q106, by decide +kernel, by decide⟩
theorem mk_191 : MK 191 1 := ⟨q2039, q106, by decide +kernel, by decide⟩
theorem mk_192 : MK 192 2 := ⟨q2043, q106, by decide +kernel, by decide⟩
theorem mk_193 : MK 193 1 := ⟨q2047, q106, by decide +kernel, by decide⟩
theorem mk_194 : MK 194 1 := ⟨q2051, q106, by decide +kernel, by decide⟩
theorem mk_195 : MK 195 0 := ⟨q2055, q106, by decide +kernel, by decide⟩
theorem mk_196 : MK 196 1 := ⟨q2058, q106, by decide +kernel, by decide⟩
theorem mk_197 : MK 197 0 := ⟨q2062, q106, by decide +kernel, by decide⟩
theorem mk_198 : MK 198 0 := ⟨q2066, q106, by decide +kernel, by decide⟩
theorem mk_199 : MK 199 3 := ⟨q2070, q106, by decide +kernel, by decide⟩
theorem mk_200 : MK 200 1 := ⟨q2074, q106, by decide +kernel, by decide⟩
theorem mk_201 : MK 201 0 := ⟨q2078, q106, by decide +kernel, by decide⟩
theorem mk_202 : MK 202 3 := ⟨q2082, q106, by decide +kernel, by decide⟩
theorem mk_203 : MK 203 1 := ⟨q2086, q106, by decide +kernel, by decide⟩
theorem mk_204 : MK 204 1 := ⟨q2090, q106, by decide +kernel, by decide⟩
theorem mk_205 : MK 205 0 := ⟨q2094, q106, by decide +kernel, by decide⟩
theorem mk_206 : MK 206 0 := ⟨q2098, q106, by decide +kernel, by decide⟩
theorem mk_207 : MK 207 2 := ⟨q2102, q106, by decide +kernel, by decide⟩
theorem mk_208 : MK 208 0 := ⟨q2106, q106, by decide +kernel, by decide⟩
theorem mk_209 : MK 209 1 := ⟨q2110, q106, by decide +kernel, by decide⟩
theorem mk_210 : MK 210 1 := ⟨q2114, q106, by decide +kernel, by decide⟩
theorem mk_211 : MK 211 1 := ⟨q2118, q106, by decide +kernel, by decide⟩
theorem mk_212 : MK 212 1 := ⟨q2122, q106, by decide +kernel, by decide⟩
theorem mk_213 : MK 213 1 := ⟨q2126, q106, by decide +kernel, by decide⟩
theorem mk_214 : MK 214 1 := ⟨q2130, q106, by decide +kernel, by decide⟩
theorem mk_215 : MK 215 2 := ⟨q2134, q106, by decide +kernel, by decide⟩
theorem mk_216 : MK 216 2 := ⟨q2138, q106, by decide +kernel, by decide⟩
theorem mk_217 : MK 217 1 := ⟨q2142, q106, by decide +kernel, by decide⟩
theorem mk_218 : MK 218 3 := ⟨q2147, q106, by decide +kernel, by decide⟩
theorem mk_219 : MK 219 1 := ⟨q2151, q106, by decide +kernel, by decide⟩
theorem mk_220 : MK 220 0 := ⟨q2155, q106, by decide +kernel, by decide⟩
theorem mk_221 : MK 221 1 := ⟨q2159, q106, by decide +kernel, by decide⟩
theorem mk_222 : MK 222 1 := ⟨q2163, q106, by decide +kernel, by decide⟩
theorem mk_223 : MK 223 1 := ⟨q2167, q106, by decide +kernel, by decide⟩
theorem mk_224 : MK 224 1 := ⟨q2171, q106, by decide +kernel, by decide⟩
theorem mk_225 : MK 225 0 := ⟨q2175, q106, by decide +kernel, by decide⟩
theorem mk_226 : MK 226 0 := ⟨q2179, q106, by decide +kernel, by decide⟩
theorem mk_227 : MK 227 0 := ⟨q2183, q106, by decide +kernel, by decide⟩
theorem mk_228 : MK 228 0 := ⟨q2187, q106, by decide +kernel, by decide⟩
theorem mk_229 : MK 229 0 := ⟨q2191, q106, by decide +kernel, by decide⟩
theorem mk_230 : MK 230 0 := ⟨q2195, q106, by decide +kernel, by decide⟩
theorem mk_231 : MK 231 4 := ⟨q2199, q106, by decide +kernel, by decide⟩
theorem mk_232 : MK 232 1 := ⟨q2203, q106, by decide +kernel, by decide⟩
theorem mk_233 : MK 233 2 := ⟨q2207, q106, by decide +kernel, by decide⟩
theorem mk_234 : MK 234 1 := ⟨q2211, q106, by decide +kernel, by decide⟩
theorem mk_235 : MK 235 1 := ⟨q2215, q106, by decide +kernel, by decide⟩
theorem mk_236 : MK 236 2 := ⟨q2219, q106, by decide +kernel, by decide⟩
theorem mk_237 : MK 237 1 := ⟨q2223, q106, by decide +kernel, by decide⟩
theorem mk_238 : MK 238 1 := ⟨q2227, q106, by decide +kernel, by decide⟩
theorem mk_239 : MK 239 1 := ⟨q2231, q106, by decide +kernel, by decide⟩
theorem mk_240 : MK 240 0 := ⟨q1208, q116, by decide +kernel, by decide⟩
theorem mk_241 : MK 241 2 := ⟨q1308, q116, by decide +kernel, by decide⟩
theorem mk_242 : MK 242 1 := ⟨q1205, q117, by decide +kernel, by decide⟩
theorem mk_243 : MK 243 2 := ⟨q1321, q117, by decide +kernel, by decide⟩
theorem mk_244 : MK 244 2 := ⟨q1356, q117, by decide +kernel, by decide⟩
theorem mk_245 : MK 245 3 := ⟨q1223, q118, by decide +kernel, by decide⟩
theorem mk_246 : MK 246 2 := ⟨q1317, q118, by decide +kernel, by decide⟩
theorem mk_247 : MK 247 2 := ⟨q1352, q118, by decide +kernel, by decide⟩
theorem mk_248 : MK 248 3 := ⟨q1239, q119, by decide +kernel, by decide⟩
theorem mk_249 : MK 249 2 := ⟨q1336, q119, by decide +kernel, by decide⟩
theorem mk_250 : MK 250 2 := ⟨q1367, q119, by decide +kernel, by decide⟩
theorem mk_251 : MK 251 1 := ⟨q1256, q120, by decide +kernel, by decide⟩
theorem mk_252 : MK 252 2 := ⟨q1330, q120, by decide +kernel, by decide⟩
theorem mk_253 : MK 253 2 := ⟨q1363, q120, by decide +kernel, by decide⟩
theorem mk_254 : MK 254 1 := ⟨q1267, q121, by decide +kernel, by decide⟩
theorem mk_255 : MK 255 2 := ⟨q1324, q121, by decide +kernel, by decide⟩
theorem mk_256 : MK 256 2 := ⟨q1360, q121, by decide +kernel, by decide⟩
theorem mk_257 : MK 257 1 := ⟨q1278, q122, by decide +kernel, by decide⟩
theorem mk_258 : MK 258 2 := ⟨q1303, q122, by decide +kernel, by decide⟩
theorem mk_259 : MK 259 2 := ⟨q1345, q122, by decide +kernel, by decide⟩
theorem mk_260 : MK 260 1 := ⟨q1289, q123, by decide +kernel, by decide⟩
theorem mk_261 : MK 261 2 := ⟨q1311, q123, by decide +kernel, by decide⟩
theorem mk_262 : MK 262 2 := ⟨q1348, q123, by decide +kernel, by decide⟩
theorem mk_263 : MK 263 1 := ⟨q1417, q124, by decide +kernel, by decide⟩
theorem mk_264 : MK 264 2 := ⟨q1530, q124, by decide +kernel, by decide⟩
theorem mk_265 : MK 265 2 := ⟨q1433, q125, by decide +kernel, by decide⟩
theorem mk_266 : MK 266 2 := ⟨q1521, q125, by decide +kernel, by decide⟩
theorem mk_267 : MK 267 3 := ⟨q1446, q126, by decide +kernel, by decide⟩
theorem mk_268 : MK 268 2 := ⟨q1515, q126, by decide +kernel, by decide⟩
theorem mk_269 : MK 269 2 := ⟨q1463, q127, by decide +kernel, by decide⟩
theorem mk_270 : MK 270 2 := ⟨q1507, q127, by decide +kernel, by decide⟩
theorem mk_271 : MK 271 2 := ⟨q1477, q128, by decide +kernel, by decide⟩
theorem mk_272 : MK 272 2 := ⟨q1499, q128, by decide +kernel, by decide⟩
theorem mk_273 : MK 273 0 := ⟨q1540, q129, by decide +kernel, by decide⟩
theorem mk_274 : MK 274 0 := ⟨q160, q95, by decide +kernel, by decide⟩
theorem mk_275 : MK 275 4 := ⟨q184, q95, by decide +kernel, by decide⟩
theorem mk_276 : MK 276 4 := ⟨q181, q96, by decide +kernel, by decide⟩
theorem mk_277 : MK 277 0 := ⟨q1593, q96, by decide +kernel, by decide⟩
theorem mk_278 : MK 278 2 := ⟨q465, q104, by decide +kernel, by decide⟩
theorem mk_279 : MK 279 0 := ⟨q701, q107, by decide +kernel, by decide⟩
theorem mk_280 : MK 280 0 := ⟨q705, q107, by decide +kernel, by decide⟩
theorem mk_281 : MK 281 1 := ⟨q711, q107, by decide +kernel, by decide⟩
theorem mk_282 : MK 282 0 := ⟨q715, q107, by decide +kernel, by decide⟩
theorem mk_283 : MK 283 2 := ⟨q721, q107, by decide +kernel, by decide⟩
theorem mk_284 : MK 284 2 := ⟨q1120, q107, by decide +kernel, by decide⟩
theorem mk_285 : MK 285 2 := ⟨q718, q108, by decide +kernel, by decide⟩
theorem mk_286 : MK 286 3 := ⟨q726, q109, by decide +kernel, by decide⟩
theorem mk_287 : MK 287 2 := ⟨q729, q110, by decide +kernel, by decide⟩
theorem mk_288 : MK 288 2 := ⟨q732, q110, by decide +kernel, by decide⟩
theorem mk_289 : MK 289 1 := ⟨q735, q110, by decide +kernel, by decide⟩
theorem mk_290 : MK 290 2 := ⟨q739, q110, by decide +kernel, by decide⟩
theorem mk_291 : MK 291 3 := ⟨q1135, q110, by decide +kernel, by decide⟩
theorem mk_292 : MK 292 3 := ⟨q1139, q110, by decide +kernel, by decide⟩
theorem mk_293 : MK 293 0 := ⟨q1590, q111, by decide +kernel, by decide⟩
theorem mk_294 : MK 294 0 := ⟨q1587, q112, by decide +kernel, by decide⟩
theorem mk_295 : MK 295 2 := ⟨q937, q113, by decide +kernel, by decide⟩
theorem mk_296 : MK 296 1 := ⟨q1034, q113, by decide +kernel, by decide⟩
theorem mk_297 : MK 297 1 := ⟨q1008, q115, by decide +kernel, by decide⟩
theorem mk_298 : MK 298 1 := ⟨q1104, q115, by decide +kernel, by decide⟩
theorem mk_299 : MK 299 1 := ⟨q1107, q115, by decide +kernel, by decide⟩
theorem mk_300 : MK 300 3 := ⟨q1111, q115, by decide +kernel, by decide⟩
theorem ks1_216 : 7 = 302 ∨ OKs 100216 7 := Or.inr ⟨3, mk_7, rfl, q675, Or.inl q852⟩
theorem ks1_227 : 58 = 302 ∨ OKs 100227 58 := Or.inr ⟨1, mk_58, rfl, q1572, Or.inl q1571⟩
theorem ks1_241 : 8 = 302 ∨ OKs 100241 8 := Or.inr ⟨2, mk_8, rfl, q760, Or.inl q1031⟩
theorem ks1_280 : 302 = 302 ∨ OKs 100280 302 := Or.inl rfl
theorem ks1_342 : 297 = 302 ∨ OKs 100342 297 := Or.inr ⟨1, mk_297, rfl, q1007, Or.inl q1006⟩
theorem ks1_374 : 296 = 302 ∨ OKs 100374 296 := Or.inr ⟨1, mk_296, rfl, q1033, Or.inl q1032⟩
theorem ks1_416 : 298 = 302 ∨ OKs 100416 298 := Or.inr ⟨1, mk_298, rfl, q1103, Or.inl q1102⟩
theorem ks4_27 : 302 = 302 ∨ OKs 400027 302 := Or.inl rfl
theorem ks4_56 : 278 = 302 ∨ OKs 400056 278 := Or.inr ⟨2, mk_278, rfl, q464, Or.inl q463⟩
theorem ks4_62 : 8 = 302 ∨ OKs 400062 8 := Or.inr ⟨2, mk_8, rfl, q760, Or.inr (Or.inl ⟨_, q885⟩)⟩
theorem ks4_93 : 295 = 302 ∨ OKs 400093 295 := Or.inr ⟨2, mk_295, rfl, q936, Or.inl q935⟩
theorem ks5_32 : 7 = 302 ∨ OKs 500032 7 := Or.inr ⟨3, mk_7, rfl, q675, Or.inr (Or.inl ⟨_, q674⟩)⟩
theorem ks6_42 : 8 = 302 ∨ OKs 600042 8 := Or.inr ⟨2, mk_8, rfl, q760, Or.inr (Or.inl ⟨_, q759⟩)⟩
theorem ks9_107 : 129 = 302 ∨ OKs 900107 129 := Or.inr ⟨1, mk_129, rfl, q1795, Or.inl q1794⟩
theorem ks9_111 : 130 = 302 ∨ OKs 900111 130 := Or.inr ⟨1, mk_130, rfl, q1798, Or.inl q1797⟩
theorem ks9_132 : 135 = 302 ∨ OKs 900132 135 := Or.inr ⟨7, mk_135, rfl, q1818, Or.inl q1817⟩
theorem ks9_136 : 134 = 302 ∨ OKs 900136 134 := Or.inr ⟨1, mk_134, rfl, q1815, Or.inl q1814⟩
theorem ks9_149 : 143 = 302 ∨ OKs 900149 143 := Or.inr ⟨3, mk_143, rfl, q1848, Or.inl q1847⟩
theorem ks9_170 : 141 = 302 ∨ OKs 900170 141 := Or.inr ⟨4, mk_141, rfl, q1841, Or.inl q1840⟩
theorem ks9_231 : 158 = 302 ∨ OKs 900231 158 := Or.inr ⟨2, mk_158, rfl, q1907, Or.inl q1906⟩
theorem ks9_265 : 179 = 302 ∨ OKs 900265 179 := Or.inr ⟨2, mk_179, rfl, q1990, Or.inl q1989⟩
theorem ks9_312 : 191 = 302 ∨ OKs 900312 191 := Or.inr ⟨1, mk_191, rfl, q2038, Or.inl q2037⟩
theorem ks9_318 : 196 = 302 ∨ OKs 900318 196 := Or.inr ⟨1, mk_196, rfl, q2057, Or.inl q2056⟩
theorem ks13_25 : 241 = 302 ∨ OKs 1300025 241 := Or.inr ⟨2, mk_241, rfl, q1307, Or.inr (Or.inr ⟨_, q1338, q1339, rfl, rfl⟩)⟩
theorem ks14_19 : 241 = 302 ∨ OKs 1400019 241 := Or.inr ⟨2, mk_241, rfl, q1307, Or.inr (Or.inr ⟨_, q1332, q1333, rfl, rfl⟩)⟩
theorem ks15_19 : 241 = 302 ∨ OKs 1500019 241 := Or.inr ⟨2, mk_241, rfl, q1307, Or.inr (Or.inr ⟨_, q1326, q1327, rfl, rfl⟩)⟩
theorem ks16_19 : 241 = 302 ∨ OKs 1600019 241 := Or.inr ⟨2, mk_241, rfl, q1307, Or.inr (Or.inr ⟨_, q1305, q1306, rfl, rfl⟩)⟩
theorem ks17_19 : 241 = 302 ∨ OKs 1700019 241 := Or.inr ⟨2, mk_241, rfl, q1307, Or.inr (Or.inr ⟨_, q1313, q1314, rfl, rfl⟩)⟩
theorem ks19_31 : 8 = 302 ∨ OKs 1900031 8 := Or.inr ⟨2, mk_8, rfl, q760, Or.inr (Or.inl ⟨_, q1523⟩)⟩
theorem ks33_495 : 285 = 302 ∨ OKs 3300495 285 := Or.inr ⟨2, mk_285, rfl, q717, Or.inl q716⟩
theorem ks33_498 : 287 = 302 ∨ OKs 3300498 287 := Or.inr ⟨2, mk_287, rfl, q728, Or.inl q727⟩
theorem ks33_1059 : 286 = 302 ∨ OKs 3301059 286 := Or.inr ⟨3, mk_286, rfl, q725, Or.inl q724⟩
theorem ks34_9 : 283 = 302 ∨ OKs 3400009 283 := Or.inr ⟨2, mk_283, rfl, q720, Or.inl q719⟩
theorem ks36_48 : 289 = 302 ∨ OKs 3600048 289 := Or.inr ⟨1, mk_289, rfl, q734, Or.inl q733⟩
theorem ks36_67 : 288 = 302 ∨ OKs 3600067 288 := Or.inr ⟨2, mk_288, rfl, q731, Or.inl q730⟩
theorem ks36_71 : 290 = 302 ∨ OKs 3600071 290 := Or.inr ⟨2, mk_290, rfl, q738, Or.inl q737⟩
theorem ks36_111 : 292 = 302 ∨ OKs 3600111 292 := Or.inr ⟨3, mk_292, rfl, q1138, Or.inl q1137⟩
theorem ks36_414 : 283 = 302 ∨ OKs 3600414 283 := Or.inr ⟨2, mk_283, rfl, q720, Or.inl q736⟩
theorem ks40_72 : 299 = 302 ∨ OKs 4000072 299 := Or.inr ⟨1, mk_299, rfl, q1106, Or.inl q1105⟩
theorem ks40_75 : 300 = 302 ∨ OKs 4000075 300 := Or.inr ⟨3, mk_300, rfl, q1110, Or.inl q1109⟩
theorem ks40_79 : 291 = 302 ∨ OKs 4000079 291 := Or.inr ⟨3, mk_291, rfl, q1134, Or.inl q1133⟩
theorem kS : ∀ e ∈ tS, e.2 = 302 ∨ OKs e.1 e.2 := List.forall_mem_cons.mpr ⟨ks1_216, List.forall_mem_cons.mpr ⟨ks1_227, List.forall_mem_cons.mpr ⟨ks1_241, List.forall_mem_cons.mpr ⟨ks1_280, List.forall_mem_cons.mpr ⟨ks1_342, List.forall_mem_cons.mpr ⟨ks1_374, List.forall_mem_cons.mpr ⟨ks1_416, List.forall_mem_cons.mpr ⟨ks4_27, List.forall_mem_cons.mpr ⟨ks4_56, List.forall_mem_cons.mpr ⟨ks4_62, List.forall_mem_cons.mpr ⟨ks4_93, List.forall_mem_cons.mpr ⟨ks5_32, List.forall_mem_cons.mpr ⟨ks6_42, List.forall_mem_cons.mpr ⟨ks9_107, List.forall_mem_cons.mpr ⟨ks9_111, List.forall_mem_cons.mpr ⟨ks9_132, List.forall_mem_cons.mpr ⟨ks9_136, List.forall_mem_cons.mpr ⟨ks9_149, List.forall_mem_cons.mpr ⟨ks9_170, List.forall_mem_cons.mpr ⟨ks9_231, List.forall_mem_cons.mpr ⟨ks9_265, List.forall_mem_cons.mpr ⟨ks9_312, List.forall_mem_cons.mpr ⟨ks9_318, List.forall_mem_cons.mpr ⟨ks13_25, List.forall_mem_cons.mpr ⟨ks14_19, List.forall_mem_cons.mpr ⟨ks15_19, List.forall_mem_cons.mpr ⟨ks16_19, List.forall_mem_cons.mpr ⟨ks17_19, List.forall_mem_cons.mpr ⟨ks19_31, List.forall_mem_cons.mpr ⟨ks33_495, List.forall_mem_cons.mpr ⟨ks33_498, List.forall_mem_cons.mpr ⟨ks33_1059, List.forall_mem_cons.mpr ⟨ks34_9, List.forall_mem_cons.mpr ⟨ks36_48, List.forall_mem_cons.mpr ⟨ks36_67, List.forall_mem_cons.mpr ⟨ks36_71, List.forall_mem_cons.mpr ⟨ks36_111, List.forall_mem_cons.mpr ⟨ks36_414, List.forall_mem_cons.mpr ⟨ks40_72, List.forall_mem_cons.mpr ⟨ks40_75, List.forall_mem_cons.mpr ⟨ks40_79, fun _ h => absurd h List.not_mem_nil⟩⟩⟩⟩⟩⟩⟩⟩⟩⟩⟩⟩⟩⟩⟩⟩⟩⟩⟩⟩⟩⟩⟩⟩⟩⟩⟩⟩⟩⟩⟩⟩⟩⟩⟩⟩⟩⟩⟩⟩⟩
theorem kv0_7000 : 0 = 0 ∨ OKo 0 7 57 ∨ OKv 0 7 0 57 := Or.inl rfl
theorem kv0_7001 : 1 = 0 ∨ OKo 0 7 57 ∨ OKv 0 7 1 57 := Or.inr (Or.inr ⟨2, mk_57, rfl, q1568, Or.inl ⟨rfl, rfl, q1567, q1569⟩⟩)
theorem kv0_15000 : 0 = 0 ∨ OKo 0 15 1 ∨ OKv 0 15 0 1 := Or.inl rfl
theorem kv0_15001 : 1 = 0 ∨ OKo 0 15 1 ∨ OKv 0 15 1 1 := Or.inr (Or.inr ⟨0, mk_1, rfl, q133, Or.inr (Or.inr (Or.inl ⟨rfl, rfl, rfl, Or.inl q132⟩))⟩)
theorem kv0_18000 : 0 = 0 ∨ OKo 0 18 120 ∨ OKv 0 18 0 120 := Or.inl rfl
theorem kv0_18008 : 8 = 0 ∨ OKo 0 18 120 ∨ OKv 0 18 8 120 := Or.inr (Or.inr ⟨0, mk_120, rfl, q1604, Or.inr (Or.inr (Or.inl ⟨rfl, rfl, rfl, Or.inl q1603⟩))⟩)
theorem kv0_19000 : 0 = 0 ∨ OKo 0 19 2 ∨ OKv 0 19 0 2 := Or.inl rfl
theorem kv0_19001 : 1 = 0 ∨ OKo 0 19 2 ∨ OKv 0 19 1 2 := Or.inr (Or.inr ⟨5, mk_2, rfl, q630, Or.inl ⟨rfl, rfl, q629, q631⟩⟩)
theorem kv0_23000 : 0 = 0 ∨ OKo 0 23 122 ∨ OKv 0 23 0 122 := Or.inl rfl
theorem kv0_23008 : 8 = 0 ∨ OKo 0 23 122 ∨ OKv 0 23 8 122 := Or.inr (Or.inr ⟨5, mk_122, rfl, q1767, Or.inl ⟨rfl, rfl, q1766, q1768⟩⟩)
theorem kv0_24000 : 0 = 0 ∨ OKo 0 24 4 ∨ OKv 0 24 0 4 := Or.inl rfl
theorem kv0_24001 : 1 = 0 ∨ OKo 0 24 4 ∨ OKv 0 24 1 4 := Or.inr (Or.inr ⟨1, mk_4, rfl, q638, Or.inl ⟨rfl, rfl, q637, q639⟩⟩)
theorem kv0_28000 : 0 = 0 ∨ OKo 0 28 124 ∨ OKv 0 28 0 124 := Or.inl rfl
theorem kv0_28008 : 8 = 0 ∨ OKo 0 28 124 ∨ OKv 0 28 8 124 := Or.inr (Or.inr ⟨1, mk_124, rfl, q1775, Or.inl ⟨rfl, rfl, q1774, q1776⟩⟩)
theorem kv0_33000 : 0 = 0 ∨ OKo 0 33 125 ∨ OKv 0 33 0 125 := Or.inl rfl
theorem kv0_33008 : 8 = 0 ∨ OKo 0 33 125 ∨ OKv 0 33 8 125 := Or.inr (Or.inr ⟨0, mk_125, rfl, q1779, Or.inl ⟨rfl, rfl, q1778, q1780⟩⟩)
theorem kv0_34000 : 0 = 0 ∨ OKo 0 34 9 ∨ OKv 0 34 0 9 := Or.inl rfl
theorem kv0_34001 : 1 = 0 ∨ OKo 0 34 9 ∨ OKv 0 34 1 9 := Or.inr (Or.inr ⟨0, mk_9, rfl, q841, Or.inl ⟨rfl, rfl, q840, q842⟩⟩)
theorem kv0_37000 : 0 = 0 ∨ OKo 0 37 153 ∨ OKv 0 37 0 153 := Or.inl rfl
theorem kv0_37008 : 8 = 0 ∨ OKo 0 37 153 ∨ OKv 0 37 8 153 := Or.inr (Or.inr ⟨0, mk_153, rfl, q1887, Or.inl ⟨rfl, rfl, q1886, q1888⟩⟩)
theorem kv0_43000 : 0 = 0 ∨ OKo 0 43 154 ∨ OKv 0 43 0 154 := Or.inl rfl
theorem kv0_43008 : 8 = 0 ∨ OKo 0 43 154 ∨ OKv 0 43 8 154 := Or.inr (Or.inr ⟨2, mk_154, rfl, q1891, Or.inl ⟨rfl, rfl, q1890, q1892⟩⟩)
theorem kv0_44000 : 0 = 0 ∨ OKo 0 44 121 ∨ OKv 0 44 0 121 := Or.inl rfl
theorem kv0_44008 : 8 = 0 ∨ OKo 0 44 121 ∨ OKv 0 44 8 121 := Or.inr (Or.inr ⟨0, mk_121, rfl, q1763, Or.inl ⟨rfl, rfl, q1762, q1764⟩⟩)
theorem kv0_47000 : 0 = 0 ∨ OKo 0 47 10 ∨ OKv 0 47 0 10 := Or.inl rfl
theorem kv0_47001 : 1 = 0 ∨ OKo 0 47 10 ∨ OKv 0 47 1 10 := Or.inr (Or.inr ⟨2, mk_10, rfl, q845, Or.inl ⟨rfl, rfl, q844, q846⟩⟩)
theorem kv0_50000 : 0 = 0 ∨ OKo 0 50 161 ∨ OKv 0 50 0 161 := Or.inl rfl
theorem kv0_50008 : 8 = 0 ∨ OKo 0 50 161 ∨ OKv 0 50 8 161 := Or.inr (Or.inr ⟨2, mk_161, rfl, q1918, Or.inl ⟨rfl, rfl, q1917, q1919⟩⟩)
theorem kv0_51000 : 0 = 0 ∨ OKo 0 51 13 ∨ OKv 0 51 0 13 := Or.inl rfl
theorem kv0_51001 : 1 = 0 ∨ OKo 0 51 13 ∨ OKv 0 51 1 13 := Or.inr (Or.inr ⟨2, mk_13, rfl, q858, Or.inl ⟨rfl, rfl, q857, q859⟩⟩)
theorem kv0_54000 : 0 = 0 ∨ OKo 0 54 163 ∨ OKv 0 54 0 163 := Or.inl rfl
theorem kv0_54008 : 8 = 0 ∨ OKo 0 54 163 ∨ OKv 0 54 8 163 := Or.inr (Or.inr ⟨2, mk_163, rfl, q1926, Or.inl ⟨rfl, rfl, q1925, q1927⟩⟩)
theorem kv0_55000 : 0 = 0 ∨ OKo 0 55 14 ∨ OKv 0 55 0 14 := Or.inl rfl
theorem kv0_55001 : 1 = 0 ∨ OKo 0 55 14 ∨ OKv 0 55 1 14 := Or.inr (Or.inr ⟨1, mk_14, rfl, q862, Or.inl ⟨rfl, rfl, q861, q863⟩⟩)
theorem kv0_59000 : 0 = 0 ∨ OKo 0 59 164 ∨ OKv 0 59 0 164 := Or.inl rfl
theorem kv0_59008 : 8 = 0 ∨ OKo 0 59 164 ∨ OKv 0 59 8 164 := Or.inr (Or.inr ⟨1, mk_164, rfl, q1930, Or.inl ⟨rfl, rfl, q1929, q1931⟩⟩)
theorem kv0_60000 : 0 = 0 ∨ OKo 0 60 16 ∨ OKv 0 60 0 16 := Or.inl rfl
theorem kv0_60001 : 1 = 0 ∨ OKo 0 60 16 ∨ OKv 0 60 1 16 := Or.inr (Or.inr ⟨3, mk_16, rfl, q874, Or.inl ⟨rfl, rfl, q873, q875⟩⟩)
theorem kv0_64000 : 0 = 0 ∨ OKo 0 64 171 ∨ OKv 0 64 0 171 := Or.inl rfl
theorem kv0_64008 : 8 = 0 ∨ OKo 0 64 171 ∨ OKv 0 64 8 171 := Or.inr (Or.inr ⟨3, mk_171, rfl, q1958, Or.inl ⟨rfl, rfl, q1957, q1959⟩⟩)
theorem kv0_65000 : 0 = 0 ∨ OKo 0 65 18 ∨ OKv 0 65 0 18 := Or.inl rfl
theorem kv0_65001 : 1 = 0 ∨ OKo 0 65 18 ∨ OKv 0 65 1 18 := Or.inr (Or.inr ⟨3, mk_18, rfl, q896, Or.inl ⟨rfl, rfl, q895, q897⟩⟩)
theorem kv0_68000 : 0 = 0 ∨ OKo 0 68 180 ∨ OKv 0 68 0 180 := Or.inl rfl
theorem kv0_68008 : 8 = 0 ∨ OKo 0 68 180 ∨ OKv 0 68 8 180 := Or.inr (Or.inr ⟨3, mk_180, rfl, q1993, Or.inl ⟨rfl, rfl, q1992, q1994⟩⟩)
theorem kv0_69000 : 0 = 0 ∨ OKo 0 69 19 ∨ OKv 0 69 0 19 := Or.inl rfl
theorem kv0_69001 : 1 = 0 ∨ OKo 0 69 19 ∨ OKv 0 69 1 19 := Or.inr (Or.inr ⟨1, mk_19, rfl, q908, Or.inl ⟨rfl, rfl, q907, q909⟩⟩)
theorem kv0_72000 : 0 = 0 ∨ OKo 0 72 181 ∨ OKv 0 72 0 181 := Or.inl rfl
theorem kv0_72008 : 8 = 0 ∨ OKo 0 72 181 ∨ OKv 0 72 8 181 := Or.inr (Or.inr ⟨1, mk_181, rfl, q1997, Or.inl ⟨rfl, rfl, q1996, q1998⟩⟩)
theorem kv0_73000 : 0 = 0 ∨ OKo 0 73 20 ∨ OKv 0 73 0 20 := Or.inl rfl
theorem kv0_73001 : 1 = 0 ∨ OKo 0 73 20 ∨ OKv 0 73 1 20 := Or.inr (Or.inr ⟨1, mk_20, rfl, q939, Or.inl ⟨rfl, rfl, q938, q940⟩⟩)
theorem kv0_76000 : 0 = 0 ∨ OKo 0 76 182 ∨ OKv 0 76 0 182 := Or.inl rfl
theorem kv0_76008 : 8 = 0 ∨ OKo 0 76 182 ∨ OKv 0 76 8 182 := Or.inr (Or.inr ⟨1, mk_182, rfl, q2001, Or.inl ⟨rfl, rfl, q2000, q2002⟩⟩)
theorem kv0_77000 : 0 = 0 ∨ OKo 0 77 21 ∨ OKv 0 77 0 21 := Or.inl rfl
theorem kv0_77001 : 1 = 0 ∨ OKo 0 77 21 ∨ OKv 0 77 1 21 := Or.inr (Or.inr ⟨1, mk_21, rfl, q947, Or.inl ⟨rfl, rfl, q946, q948⟩⟩)
theorem kv0_80000 : 0 = 0 ∨ OKo 0 80 183 ∨ OKv 0 80 0 183 := Or.inl rfl
theorem kv0_80008 : 8 = 0 ∨ OKo 0 80 183 ∨ OKv 0 80 8 183 := Or.inr (Or.inr ⟨1, mk_183, rfl, q2005, Or.inl ⟨rfl, rfl, q2004, q2006⟩⟩)
theorem kv0_81000 : 0 = 0 ∨ OKo 0 81 22 ∨ OKv 0 81 0 22 := Or.inl rfl
theorem kv0_81001 : 1 = 0 ∨ OKo 0 81 22 ∨ OKv 0 81 1 22 := Or.inr (Or.inr ⟨1, mk_22, rfl, q955, Or.inl ⟨rfl, rfl, q954, q956⟩⟩)
theorem kv0_84000 : 0 = 0 ∨ OKo 0 84 184 ∨ OKv 0 84 0 184 := Or.inl rfl
theorem kv0_84008 : 8 = 0 ∨ OKo 0 84 184 ∨ OKv 0 84 8 184 := Or.inr (Or.inr ⟨1, mk_184, rfl, q2009, Or.inl ⟨rfl, rfl, q2008, q2010⟩⟩)
theorem kv0_85000 : 0 = 0 ∨ OKo 0 85 23 ∨ OKv 0 85 0 23 := Or.inl rfl
theorem kv0_85001 : 1 = 0 ∨ OKo 0 85 23 ∨ OKv 0 85 1 23 := Or.inr (Or.inr ⟨1, mk_23, rfl, q968, Or.inl ⟨rfl, rfl, q967, q969⟩⟩)
theorem kv0_88000 : 0 = 0 ∨ OKo 0 88 186 ∨ OKv 0 88 0 186 := Or.inl rfl
theorem kv0_88008 : 8 = 0 ∨ OKo 0 88 186 ∨ OKv 0 88 8 186 := Or.inr (Or.inr ⟨1, mk_186, rfl, q2017, Or.inl ⟨rfl, rfl, q2016, q2018⟩⟩)
theorem kv0_89000 : 0 = 0 ∨ OKo 0 89 15 ∨ OKv 0 89 0 15 := Or.inl rfl
theorem kv0_89001 : 1 = 0 ∨ OKo 0 89 15 ∨ OKv 0 89 1 15 := Or.inr (Or.inr ⟨0, mk_15, rfl, q866, Or.inl ⟨rfl, rfl, q865, q867⟩⟩)
theorem kv0_92000 : 0 = 0 ∨ OKo 0 92 185 ∨ OKv 0 92 0 185 := Or.inl rfl
theorem kv0_92008 : 8 = 0 ∨ OKo 0 92 185 ∨ OKv 0 92 8 185 := Or.inr (Or.inr ⟨0, mk_185, rfl, q2013, Or.inl ⟨rfl, rfl, q2012, q2014⟩⟩)
theorem kv0_93000 : 0 = 0 ∨ OKo 0 93 24 ∨ OKv 0 93 0 24 := Or.inl rfl
theorem kv0_93001 : 1 = 0 ∨ OKo 0 93 24 ∨ OKv 0 93 1 24 := Or.inr (Or.inr ⟨1, mk_24, rfl, q980, Or.inl ⟨rfl, rfl, q979, q981⟩⟩)
theorem kv0_96000 : 0 = 0 ∨ OKo 0 96 166 ∨ OKv 0 96 0 166 := Or.inl rfl
theorem kv0_96008 : 8 = 0 ∨ OKo 0 96 166 ∨ OKv 0 96 8 166 := Or.inr (Or.inr ⟨1, mk_166, rfl, q1938, Or.inl ⟨rfl, rfl, q1937, q1939⟩⟩)
theorem kv0_97000 : 0 = 0 ∨ OKo 0 97 25 ∨ OKv 0 97 0 25 := Or.inl rfl
theorem kv0_97001 : 1 = 0 ∨ OKo 0 97 25 ∨ OKv 0 97 1 25 := Or.inr (Or.inr ⟨2, mk_25, rfl, q985, Or.inl ⟨rfl, rfl, q984, q986⟩⟩)
theorem kv0_100000 : 0 = 0 ∨ OKo 0 100 170 ∨ OKv 0 100 0 170 := Or.inl rfl
theorem kv0_100008 : 8 = 0 ∨ OKo 0 100 170 ∨ OKv 0 100 8 170 := Or.inr (Or.inr ⟨2, mk_170, rfl, q1954, Or.inl ⟨rfl, rfl, q1953, q1955⟩⟩)
theorem kv0_101000 : 0 = 0 ∨ OKo 0 101 26 ∨ OKv 0 101 0 26 := Or.inl rfl
theorem kv0_101001 : 1 = 0 ∨ OKo 0 101 26 ∨ OKv 0 101 1 26 := Or.inr (Or.inr ⟨0, mk_26, rfl, q990, Or.inl ⟨rfl, rfl, q989, q991⟩⟩)
theorem kv0_104000 : 0 = 0 ∨ OKo 0 104 189 ∨ OKv 0 104 0 189 := Or.inl rfl
theorem kv0_104008 : 8 = 0 ∨ OKo 0 104 189 ∨ OKv 0 104 8 189 := Or.inr (Or.inr ⟨0, mk_189, rfl, q2029, Or.inl ⟨rfl, rfl, q2028, q2030⟩⟩)
theorem kv0_105000 : 0 = 0 ∨ OKo 0 105 29 ∨ OKv 0 105 0 29 := Or.inl rfl
theorem kv0_105001 : 1 = 0 ∨ OKo 0 105 29 ∨ OKv 0 105 1 29 := Or.inr (Or.inr ⟨1, mk_29, rfl, q1016, Or.inl ⟨rfl, rfl, q1015, q1017⟩⟩)
theorem kv0_108000 : 0 = 0 ∨ OKo 0 108 194 ∨ OKv 0 108 0 194 := Or.inl rfl
theorem kv0_108008 : 8 = 0 ∨ OKo 0 108 194 ∨ OKv 0 108 8 194 := Or.inr (Or.inr ⟨1, mk_194, rfl, q2049, Or.inl ⟨rfl, rfl, q2048, q2050⟩⟩)
theorem kv0_109000 : 0 = 0 ∨ OKo 0 109 30 ∨ OKv 0 109 0 30 := Or.inl rfl
theorem kv0_109001 : 1 = 0 ∨ OKo 0 109 30 ∨ OKv 0 109 1 30 := Or.inr (Or.inr ⟨0, mk_30, rfl, q1020, Or.inl ⟨rfl, rfl, q1019, q1021⟩⟩)
theorem kv0_112000 : 0 = 0 ∨ OKo 0 112 195 ∨ OKv 0 112 0 195 := Or.inl rfl
theorem kv0_112008 : 8 = 0 ∨ OKo 0 112 195 ∨ OKv 0 112 8 195 := Or.inr (Or.inr ⟨0, mk_195, rfl, q2053, Or.inl ⟨rfl, rfl, q2052, q2054⟩⟩)
theorem kv0_113000 : 0 = 0 ∨ OKo 0 113 33 ∨ OKv 0 113 0 33 := Or.inl rfl
theorem kv0_113001 : 1 = 0 ∨ OKo 0 113 33 ∨ OKv 0 113 1 33 := Or.inr (Or.inr ⟨0, mk_33, rfl, q1036, Or.inl ⟨rfl, rfl, q1035, q1037⟩⟩)
theorem kv0_116000 : 0 = 0 ∨ OKo 0 116 197 ∨ OKv 0 116 0 197 := Or.inl rfl
theorem kv0_116008 : 8 = 0 ∨ OKo 0 116 197 ∨ OKv 0 116 8 197 := Or.inr (Or.inr ⟨0, mk_197, rfl, q2060, Or.inl ⟨rfl, rfl, q2059, q2061⟩⟩)
theorem kv0_117000 : 0 = 0 ∨ OKo 0 117 34 ∨ OKv 0 117 0 34 := Or.inl rfl
theorem kv0_117001 : 1 = 0 ∨ OKo 0 117 34 ∨ OKv 0 117 1 34 := Or.inr (Or.inr ⟨0, mk_34, rfl, q1040, Or.inl ⟨rfl, rfl, q1039, q1041⟩⟩)
theorem kv0_120000 : 0 = 0 ∨ OKo 0 120 198 ∨ OKv 0 120 0 198 := Or.inl rfl
theorem kv0_120008 : 8 = 0 ∨ OKo 0 120 198 ∨ OKv 0 120 8 198 := Or.inr (Or.inr ⟨0, mk_198, rfl, q2064, Or.inl ⟨rfl, rfl, q2063, q2065⟩⟩)
theorem kv0_121000 : 0 = 0 ∨ OKo 0 121 35 ∨ OKv 0 121 0 35 := Or.inl rfl
theorem kv0_121001 : 1 = 0 ∨ OKo 0 121 35 ∨ OKv 0 121 1 35 := Or.inr (Or.inr ⟨3, mk_35, rfl, q1044, Or.inl ⟨rfl, rfl, q1043, q1045⟩⟩)
theorem kv0_124000 : 0 = 0 ∨ OKo 0 124 199 ∨ OKv 0 124 0 199 := Or.inl rfl
theorem kv0_124008 : 8 = 0 ∨ OKo 0 124 199 ∨ OKv 0 124 8 199 := Or.inr (Or.inr ⟨3, mk_199, rfl, q2068, Or.inl ⟨rfl, rfl, q2067, q2069⟩⟩)
theorem kv0_125000 : 0 = 0 ∨ OKo 0 125 36 ∨ OKv 0 125 0 36 := Or.inl rfl
theorem kv0_125001 : 1 = 0 ∨ OKo 0 125 36 ∨ OKv 0 125 1 36 := Or.inr (Or.inr ⟨1, mk_36, rfl, q1048, Or.inl ⟨rfl, rfl, q1047, q1049⟩⟩)
theorem kv0_128000 : 0 = 0 ∨ OKo 0 128 200 ∨ OKv 0 128 0 200 := Or.inl rfl
theorem kv0_128008 : 8 = 0 ∨ OKo 0 128 200 ∨ OKv 0 128 8 200 := Or.inr (Or.inr ⟨1, mk_200, rfl, q2072, Or.inl ⟨rfl, rfl, q2071, q2073⟩⟩)
theorem kv0_129000 : 0 = 0 ∨ OKo 0 129 37 ∨ OKv 0 129 0 37 := Or.inl rfl
theorem kv0_129001 : 1 = 0 ∨ OKo 0 129 37 ∨ OKv 0 129 1 37 := Or.inr (Or.inr ⟨0, mk_37, rfl, q1052, Or.inl ⟨rfl, rfl, q1051, q1053⟩⟩)
theorem kv0_132000 : 0 = 0 ∨ OKo 0 132 201 ∨ OKv 0 132 0 201 := Or.inl rfl
theorem kv0_132008 : 8 = 0 ∨ OKo 0 132 201 ∨ OKv 0 132 8 201 := Or.inr (Or.inr ⟨0, mk_201, rfl, q2076, Or.inl ⟨rfl, rfl, q2075, q2077⟩⟩)
theorem kv0_133000 : 0 = 0 ∨ OKo 0 133 39 ∨ OKv 0 133 0 39 := Or.inl rfl
theorem kv0_133001 : 1 = 0 ∨ OKo 0 133 39 ∨ OKv 0 133 1 39 := Or.inr (Or.inr ⟨1, mk_39, rfl, q1060, Or.inl ⟨rfl, rfl, q1059, q1061⟩⟩)
theorem kv0_136000 : 0 = 0 ∨ OKo 0 136 203 ∨ OKv 0 136 0 203 := Or.inl rfl
theorem kv0_136008 : 8 = 0 ∨ OKo 0 136 203 ∨ OKv 0 136 8 203 := Or.inr (Or.inr ⟨1, mk_203, rfl, q2084, Or.inl ⟨rfl, rfl, q2083, q2085⟩⟩)
theorem kv0_137000 : 0 = 0 ∨ OKo 0 137 40 ∨ OKv 0 137 0 40 := Or.inl rfl
theorem kv0_137001 : 1 = 0 ∨ OKo 0 137 40 ∨ OKv 0 137 1 40 := Or.inr (Or.inr ⟨1, mk_40, rfl, q1064, Or.inl ⟨rfl, rfl, q1063, q1065⟩⟩)
theorem kv0_140000 : 0 = 0 ∨ OKo 0 140 204 ∨ OKv 0 140 0 204 := Or.inl rfl
theorem kv0_140008 : 8 = 0 ∨ OKo 0 140 204 ∨ OKv 0 140 8 204 := Or.inr (Or.inr ⟨1, mk_204, rfl, q2088, Or.inl ⟨rfl, rfl, q2087, q2089⟩⟩)
theorem kv0_141000 : 0 = 0 ∨ OKo 0 141 41 ∨ OKv 0 141 0 41 := Or.inl rfl
theorem kv0_141001 : 1 = 0 ∨ OKo 0 141 41 ∨ OKv 0 141 1 41 := Or.inr (Or.inr ⟨2, mk_41, rfl, q1070, Or.inl ⟨rfl, rfl, q1069, q1071⟩⟩)
theorem kv0_144000 : 0 = 0 ∨ OKo 0 144 207 ∨ OKv 0 144 0 207 := Or.inl rfl
theorem kv0_144008 : 8 = 0 ∨ OKo 0 144 207 ∨ OKv 0 144 8 207 := Or.inr (Or.inr ⟨2, mk_207, rfl, q2100, Or.inl ⟨rfl, rfl, q2099, q2101⟩⟩)
theorem kv0_145000 : 0 = 0 ∨ OKo 0 145 42 ∨ OKv 0 145 0 42 := Or.inl rfl
theorem kv0_145001 : 1 = 0 ∨ OKo 0 145 42 ∨ OKv 0 145 1 42 := Or.inr (Or.inr ⟨0, mk_42, rfl, q1078, Or.inl ⟨rfl, rfl, q1077, q1079⟩⟩)
theorem kv0_148000 : 0 = 0 ∨ OKo 0 148 208 ∨ OKv 0 148 0 208 := Or.inl rfl
theorem kv0_148008 : 8 = 0 ∨ OKo 0 148 208 ∨ OKv 0 148 8 208 := Or.inr (Or.inr ⟨0, mk_208, rfl, q2104, Or.inl ⟨rfl, rfl, q2103, q2105⟩⟩)
theorem kv0_149000 : 0 = 0 ∨ OKo 0 149 43 ∨ OKv 0 149 0 43 := Or.inl rfl
theorem kv0_149001 : 1 = 0 ∨ OKo 0 149 43 ∨ OKv 0 149 1 43 := Or.inr (Or.inr ⟨1, mk_43, rfl, q1082, Or.inl ⟨rfl, rfl, q1081, q1083⟩⟩)
theorem kv0_152000 : 0 = 0 ∨ OKo 0 152 209 ∨ OKv 0 152 0 209 := Or.inl rfl
theorem kv0_152008 : 8 = 0 ∨ OKo 0 152 209 ∨ OKv 0 152 8 209 := Or.inr (Or.inr ⟨1, mk_209, rfl, q2108, Or.inl ⟨rfl, rfl, q2107, q2109⟩⟩)
theorem kv0_153000 : 0 = 0 ∨ OKo 0 153 47 ∨ OKv 0 153 0 47 := Or.inl rfl
theorem kv0_153001 : 1 = 0 ∨ OKo 0 153 47 ∨ OKv 0 153 1 47 := Or.inr (Or.inr ⟨1, mk_47, rfl, q1144, Or.inl ⟨rfl, rfl, q1143, q1145⟩⟩)
theorem kv0_156000 : 0 = 0 ∨ OKo 0 156 214 ∨ OKv 0 156 0 214 := Or.inl rfl
theorem kv0_156008 : 8 = 0 ∨ OKo 0 156 214 ∨ OKv 0 156 8 214 := Or.inr (Or.inr ⟨1, mk_214, rfl, q2128, Or.inl ⟨rfl, rfl, q2127, q2129⟩⟩)
theorem kv0_157000 : 0 = 0 ∨ OKo 0 157 48 ∨ OKv 0 157 0 48 := Or.inl rfl
theorem kv0_157001 : 1 = 0 ∨ OKo 0 157 48 ∨ OKv 0 157 1 48 := Or.inr (Or.inr ⟨2, mk_48, rfl, q1148, Or.inl ⟨rfl, rfl, q1147, q1149⟩⟩)
theorem kv0_160000 : 0 = 0 ∨ OKo 0 160 215 ∨ OKv 0 160 0 215 := Or.inl rfl
theorem kv0_160008 : 8 = 0 ∨ OKo 0 160 215 ∨ OKv 0 160 8 215 := Or.inr (Or.inr ⟨2, mk_215, rfl, q2132, Or.inl ⟨rfl, rfl, q2131, q2133⟩⟩)
theorem kv0_161000 : 0 = 0 ∨ OKo 0 161 49 ∨ OKv 0 161 0 49 := Or.inl rfl
theorem kv0_161001 : 1 = 0 ∨ OKo 0 161 49 ∨ OKv 0 161 1 49 := Or.inr (Or.inr ⟨3, mk_49, rfl, q1167, Or.inl ⟨rfl, rfl, q1166, q1168⟩⟩)
theorem kv0_164000 : 0 = 0 ∨ OKo 0 164 218 ∨ OKv 0 164 0 218 := Or.inl rfl
theorem kv0_164008 : 8 = 0 ∨ OKo 0 164 218 ∨ OKv 0 164 8 218 := Or.inr (Or.inr ⟨3, mk_218, rfl, q2145, Or.inl ⟨rfl, rfl, q2144, q2146⟩⟩)
theorem kv0_168000 : 0 = 0 ∨ OKo 0 168 219 ∨ OKv 0 168 0 219 := Or.inl rfl
theorem kv0_168008 : 8 = 0 ∨ OKo 0 168 219 ∨ OKv 0 168 8 219 := Or.inr (Or.inr ⟨1, mk_219, rfl, q2149, Or.inl ⟨rfl, rfl, q2148, q2150⟩⟩)
theorem kv0_169000 : 0 = 0 ∨ OKo 0 169 51 ∨ OKv 0 169 0 51 := Or.inl rfl
theorem kv0_169001 : 1 = 0 ∨ OKo 0 169 51 ∨ OKv 0 169 1 51 := Or.inr (Or.inr ⟨1, mk_51, rfl, q1370, Or.inl ⟨rfl, rfl, q1369, q1371⟩⟩)
theorem kv0_172000 : 0 = 0 ∨ OKo 0 172 224 ∨ OKv 0 172 0 224 := Or.inl rfl
theorem kv0_172008 : 8 = 0 ∨ OKo 0 172 224 ∨ OKv 0 172 8 224 := Or.inr (Or.inr ⟨1, mk_224, rfl, q2169, Or.inl ⟨rfl, rfl, q2168, q2170⟩⟩)
theorem kv0_176000 : 0 = 0 ∨ OKo 0 176 225 ∨ OKv 0 176 0 225 := Or.inl rfl
theorem kv0_176008 : 8 = 0 ∨ OKo 0 176 225 ∨ OKv 0 176 8 225 := Or.inr (Or.inr ⟨0, mk_225, rfl, q2173, Or.inl ⟨rfl, rfl, q2172, q2174⟩⟩)
theorem kv0_177000 : 0 = 0 ∨ OKo 0 177 53 ∨ OKv 0 177 0 53 := Or.inl rfl
theorem kv0_177001 : 1 = 0 ∨ OKo 0 177 53 ∨ OKv 0 177 1 53 := Or.inr (Or.inr ⟨1, mk_53, rfl, q1487, Or.inl ⟨rfl, rfl, q1486, q1488⟩⟩)
theorem kv0_180000 : 0 = 0 ∨ OKo 0 180 235 ∨ OKv 0 180 0 235 := Or.inl rfl
theorem kv0_180008 : 8 = 0 ∨ OKo 0 180 235 ∨ OKv 0 180 8 235 := Or.inr (Or.inr ⟨1, mk_235, rfl, q2213, Or.inl ⟨rfl, rfl, q2212, q2214⟩⟩)
theorem kv0_181000 : 0 = 0 ∨ OKo 0 181 54 ∨ OKv 0 181 0 54 := Or.inl rfl
theorem kv0_181001 : 1 = 0 ∨ OKo 0 181 54 ∨ OKv 0 181 1 54 := Or.inr (Or.inr ⟨1, mk_54, rfl, q1534, Or.inl ⟨rfl, rfl, q1533, q1535⟩⟩)
theorem kv0_184000 : 0 = 0 ∨ OKo 0 184 237 ∨ OKv 0 184 0 237 := Or.inl rfl
theorem kv0_184008 : 8 = 0 ∨ OKo 0 184 237 ∨ OKv 0 184 8 237 := Or.inr (Or.inr ⟨1, mk_237, rfl, q2221, Or.inl ⟨rfl, rfl, q2220, q2222⟩⟩)
theorem kv0_185000 : 0 = 0 ∨ OKo 0 185 55 ∨ OKv 0 185 0 55 := Or.inl rfl
theorem kv0_185001 : 1 = 0 ∨ OKo 0 185 55 ∨ OKv 0 185 1 55 := Or.inr (Or.inr ⟨1, mk_55, rfl, q1556, Or.inl ⟨rfl, rfl, q1555, q1557⟩⟩)
theorem kv0_188000 : 0 = 0 ∨ OKo 0 188 238 ∨ OKv 0 188 0 238 := Or.inl rfl
theorem kv0_188008 : 8 = 0 ∨ OKo 0 188 238 ∨ OKv 0 188 8 238 := Or.inr (Or.inr ⟨1, mk_238, rfl, q2225, Or.inl ⟨rfl, rfl, q2224, q2226⟩⟩)
theorem kv0_189000 : 0 = 0 ∨ OKo 0 189 56 ∨ OKv 0 189 0 56 := Or.inl rfl
theorem kv0_189001 : 1 = 0 ∨ OKo 0 189 56 ∨ OKv 0 189 1 56 := Or.inr (Or.inr ⟨1, mk_56, rfl, q1560, Or.inl ⟨rfl, rfl, q1559, q1561⟩⟩)
theorem kv0_192000 : 0 = 0 ∨ OKo 0 192 239 ∨ OKv 0 192 0 239 := Or.inl rfl
theorem kv0_192008 : 8 = 0 ∨ OKo 0 192 239 ∨ OKv 0 192 8 239 := Or.inr (Or.inr ⟨1, mk_239, rfl, q2229, Or.inl ⟨rfl, rfl, q2228, q2230⟩⟩)
theorem kv1_1000 : 0 = 0 ∨ OKo 1 1 301 ∨ OKv 1 1 0 301 := Or.inl rfl
theorem kv1_1001 : 1 = 0 ∨ OKo 1 1 301 ∨ OKv 1 1 1 301 := Or.inr (Or.inl ⟨rfl, q135⟩)
theorem kv1_15000 : 0 = 0 ∨ OKo 1 15 59 ∨ OKv 1 15 0 59 := Or.inl rfl
theorem kv1_15002 : 2 = 0 ∨ OKo 1 15 59 ∨ OKv 1 15 2 59 := Or.inr (Or.inr ⟨0, mk_59, rfl, q177, Or.inr (Or.inr (Or.inl ⟨rfl, rfl, rfl, Or.inl q176⟩))⟩)
theorem kv1_90000 : 0 = 0 ∨ OKo 1 90 60 ∨ OKv 1 90 0 60 := Or.inl rfl
theorem kv1_90003 : 3 = 0 ∨ OKo 1 90 60 ∨ OKv 1 90 3 60 := Or.inr (Or.inr ⟨0, mk_60, rfl, q240, Or.inr (Or.inr (Or.inl ⟨rfl, rfl, rfl, Or.inr ⟨_, q239⟩⟩))⟩)
theorem kv1_97000 : 0 = 0 ∨ OKo 1 97 63 ∨ OKv 1 97 0 63 := Or.inl rfl
theorem kv1_97004 : 4 = 0 ∨ OKo 1 97 63 ∨ OKv 1 97 4 63 := Or.inr (Or.inr ⟨0, mk_63, rfl, q317, Or.inr (Or.inr (Or.inl ⟨rfl, rfl, rfl, Or.inr ⟨_, q316⟩⟩))⟩)
theorem kv1_107000 : 0 = 0 ∨ OKo 1 107 106 ∨ OKv 1 107 0 106 := Or.inl rfl
theorem kv1_107005 : 5 = 0 ∨ OKo 1 107 106 ∨ OKv 1 107 5 106 := Or.inr (Or.inr ⟨1, mk_106, rfl, q378, Or.inr (Or.inr (Or.inl ⟨rfl, rfl, rfl, Or.inl q377⟩))⟩)
theorem kv1_116000 : 0 = 0 ∨ OKo 1 116 112 ∨ OKv 1 116 0 112 := Or.inl rfl
theorem kv1_116006 : 6 = 0 ∨ OKo 1 116 112 ∨ OKv 1 116 6 112 := Or.inr (Or.inr ⟨1, mk_112, rfl, q431, Or.inr (Or.inr (Or.inl ⟨rfl, rfl, rfl, Or.inl q430⟩))⟩)
theorem kv1_121000 : 0 = 0 ∨ OKo 1 121 64 ∨ OKv 1 121 0 64 := Or.inl rfl
theorem kv1_121004 : 4 = 0 ∨ OKo 1 121 64 ∨ OKv 1 121 4 64 := Or.inr (Or.inr ⟨1, mk_64, rfl, q457, Or.inl ⟨rfl, rfl, q456, q458⟩⟩)
theorem kv1_166000 : 0 = 0 ∨ OKo 1 166 115 ∨ OKv 1 166 0 115 := Or.inl rfl
theorem kv1_166007 : 7 = 0 ∨ OKo 1 166 115 ∨ OKv 1 166 7 115 := Or.inr (Or.inr ⟨1, mk_115, rfl, q470, Or.inr (Or.inr (Or.inl ⟨rfl, rfl, rfl, Or.inl q469⟩))⟩)
theorem kv1_180000 : 0 = 0 ∨ OKo 1 180 3 ∨ OKv 1 180 0 3 := Or.inl rfl
theorem kv1_180001 : 1 = 0 ∨ OKo 1 180 3 ∨ OKv 1 180 1 3 := Or.inr (Or.inr ⟨1, mk_3, rfl, q635, Or.inl ⟨rfl, rfl, q633, qs1⟩⟩)
theorem kv1_190000 : 0 = 0 ∨ OKo 1 190 6 ∨ OKv 1 190 0 6 := Or.inl rfl
theorem kv1_190001 : 1 = 0 ∨ OKo 1 190 6 ∨ OKv 1 190 1 6 := Or.inr (Or.inr ⟨0, mk_6, rfl, q647, Or.inl ⟨rfl, rfl, q645, qs2⟩⟩)
theorem kv1_196000 : 0 = 0 ∨ OKo 1 196 107 ∨ OKv 1 196 0 107 := Or.inl rfl
theorem kv1_196005 : 5 = 0 ∨ OKo 1 196 107 ∨ OKv 1 196 5 107 := Or.inr (Or.inr ⟨1, mk_107, rfl, q650, Or.inl ⟨rfl, rfl, q649, q651⟩⟩)
theorem kv1_223000 : 0 = 0 ∨ OKo 1 223 11 ∨ OKv 1 223 0 11 := Or.inl rfl
theorem kv1_223001 : 1 = 0 ∨ OKo 1 223 11 ∨ OKv 1 223 1 11 := Or.inr (Or.inr ⟨1, mk_11, rfl, q850, Or.inl ⟨rfl, rfl, q848, qs7⟩⟩)
theorem kv1_236000 : 0 = 0 ∨ OKo 1 236 67 ∨ OKv 1 236 0 67 := Or.inl rfl
theorem kv1_236004 : 4 = 0 ∨ OKo 1 236 67 ∨ OKv 1 236 4 67 := Or.inr (Or.inr ⟨1, mk_67, rfl, q882, Or.inl ⟨rfl, rfl, q1067, q883⟩⟩)
theorem kv1_250000 : 0 = 0 ∨ OKo 1 250 72 ∨ OKv 1 250 0 72 := Or.inl rfl
theorem kv1_250004 : 4 = 0 ∨ OKo 1 250 72 ∨ OKv 1 250 4 72 := Or.inr (Or.inr ⟨1, mk_72, rfl, q916, Or.inl ⟨rfl, rfl, q1068, q917⟩⟩)
theorem kv1_254000 : 0 = 0 ∨ OKo 1 254 62 ∨ OKv 1 254 0 62 := Or.inl rfl
theorem kv1_254003 : 3 = 0 ∨ OKo 1 254 62 ∨ OKv 1 254 3 62 := Or.inr (Or.inr ⟨1, mk_62, rfl, q1598, Or.inl ⟨rfl, rfl, q1597, q1599⟩⟩)
theorem kv1_257000 : 0 = 0 ∨ OKo 1 257 12 ∨ OKv 1 257 0 12 := Or.inl rfl
theorem kv1_257001 : 1 = 0 ∨ OKo 1 257 12 ∨ OKv 1 257 1 12 := Or.inr (Or.inr ⟨1, mk_12, rfl, q855, Or.inl ⟨rfl, rfl, q853, qs8⟩⟩)
theorem kv1_286000 : 0 = 0 ∨ OKo 1 286 65 ∨ OKv 1 286 0 65 := Or.inl rfl
theorem kv1_286004 : 4 = 0 ∨ OKo 1 286 65 ∨ OKv 1 286 4 65 := Or.inr (Or.inr ⟨1, mk_65, rfl, q870, Or.inl ⟨rfl, rfl, q869, q871⟩⟩)
theorem kv1_290000 : 0 = 0 ∨ OKo 1 290 66 ∨ OKv 1 290 0 66 := Or.inl rfl
theorem kv1_290004 : 4 = 0 ∨ OKo 1 290 66 ∨ OKv 1 290 4 66 := Or.inr (Or.inr ⟨4, mk_66, rfl, q878, Or.inl ⟨rfl, rfl, q877, q879⟩⟩)
theorem kv1_294000 : 0 = 0 ∨ OKo 1 294 17 ∨ OKv 1 294 0 17 := Or.inl rfl
theorem kv1_294001 : 1 = 0 ∨ OKo 1 294 17 ∨ OKv 1 294 1 17 := Or.inr (Or.inr ⟨0, mk_17, rfl, q888, Or.inl ⟨rfl, rfl, q886, qs9⟩⟩)
theorem kv1_297000 : 0 = 0 ∨ OKo 1 297 68 ∨ OKv 1 297 0 68 := Or.inl rfl
theorem kv1_297004 : 4 = 0 ∨ OKo 1 297 68 ∨ OKv 1 297 4 68 := Or.inr (Or.inr ⟨3, mk_68, rfl, q892, Or.inl ⟨rfl, rfl, q891, q893⟩⟩)
theorem kv1_301000 : 0 = 0 ∨ OKo 1 301 69 ∨ OKv 1 301 0 69 := Or.inl rfl
theorem kv1_301004 : 4 = 0 ∨ OKo 1 301 69 ∨ OKv 1 301 4 69 := Or.inr (Or.inr ⟨3, mk_69, rfl, q900, Or.inl ⟨rfl, rfl, q899, q901⟩⟩)
theorem kv1_305000 : 0 = 0 ∨ OKo 1 305 70 ∨ OKv 1 305 0 70 := Or.inl rfl
theorem kv1_305004 : 4 = 0 ∨ OKo 1 305 70 ∨ OKv 1 305 4 70 := Or.inr (Or.inr ⟨3, mk_70, rfl, q904, Or.inl ⟨rfl, rfl, q903, q905⟩⟩)
theorem kv1_308000 : 0 = 0 ∨ OKo 1 308 71 ∨ OKv 1 308 0 71 := Or.inl rfl
theorem kv1_308004 : 4 = 0 ∨ OKo 1 308 71 ∨ OKv 1 308 4 71 := Or.inr (Or.inr ⟨1, mk_71, rfl, q912, Or.inl ⟨rfl, rfl, q911, q913⟩⟩)
theorem kv1_311000 : 0 = 0 ∨ OKo 1 311 73 ∨ OKv 1 311 0 73 := Or.inl rfl
theorem kv1_311004 : 4 = 0 ∨ OKo 1 311 73 ∨ OKv 1 311 4 73 := Or.inr (Or.inr ⟨2, mk_73, rfl, q921, Or.inr (Or.inl ⟨rfl, rfl, ⟨_, q919⟩, qs10⟩)⟩)
theorem kv1_315000 : 0 = 0 ∨ OKo 1 315 77 ∨ OKv 1 315 0 77 := Or.inl rfl
theorem kv1_315004 : 4 = 0 ∨ OKo 1 315 77 ∨ OKv 1 315 4 77 := Or.inr (Or.inr ⟨1, mk_77, rfl, q943, Or.inl ⟨rfl, rfl, q942, q944⟩⟩)
theorem kv1_318000 : 0 = 0 ∨ OKo 1 318 78 ∨ OKv 1 318 0 78 := Or.inl rfl
theorem kv1_318004 : 4 = 0 ∨ OKo 1 318 78 ∨ OKv 1 318 4 78 := Or.inr (Or.inr ⟨1, mk_78, rfl, q951, Or.inl ⟨rfl, rfl, q950, q952⟩⟩)
theorem kv1_321000 : 0 = 0 ∨ OKo 1 321 79 ∨ OKv 1 321 0 79 := Or.inl rfl
theorem kv1_321004 : 4 = 0 ∨ OKo 1 321 79 ∨ OKv 1 321 4 79 := Or.inr (Or.inr ⟨1, mk_79, rfl, q959, Or.inl ⟨rfl, rfl, q958, q960⟩⟩)
theorem kv1_324000 : 0 = 0 ∨ OKo 1 324 80 ∨ OKv 1 324 0 80 := Or.inl rfl
theorem kv1_324004 : 4 = 0 ∨ OKo 1 324 80 ∨ OKv 1 324 4 80 := Or.inr (Or.inr ⟨2, mk_80, rfl, q963, Or.inl ⟨rfl, rfl, q962, q964⟩⟩)
theorem kv1_327000 : 0 = 0 ∨ OKo 1 327 81 ∨ OKv 1 327 0 81 := Or.inl rfl
theorem kv1_327004 : 4 = 0 ∨ OKo 1 327 81 ∨ OKv 1 327 4 81 := Or.inr (Or.inr ⟨2, mk_81, rfl, q972, Or.inl ⟨rfl, rfl, q971, q973⟩⟩)
theorem kv1_330000 : 0 = 0 ∨ OKo 1 330 74 ∨ OKv 1 330 0 74 := Or.inl rfl
theorem kv1_330004 : 4 = 0 ∨ OKo 1 330 74 ∨ OKv 1 330 4 74 := Or.inr (Or.inr ⟨2, mk_74, rfl, q924, Or.inl ⟨rfl, rfl, q983, q925⟩⟩)
theorem kv1_333000 : 0 = 0 ∨ OKo 1 333 75 ∨ OKv 1 333 0 75 := Or.inl rfl
theorem kv1_333004 : 4 = 0 ∨ OKo 1 333 75 ∨ OKv 1 333 4 75 := Or.inr (Or.inr ⟨3, mk_75, rfl, q928, Or.inl ⟨rfl, rfl, q988, q929⟩⟩)
theorem kv1_336000 : 0 = 0 ∨ OKo 1 336 83 ∨ OKv 1 336 0 83 := Or.inl rfl
theorem kv1_336004 : 4 = 0 ∨ OKo 1 336 83 ∨ OKv 1 336 4 83 := Or.inr (Or.inr ⟨1, mk_83, rfl, q1003, Or.inl ⟨rfl, rfl, q1002, q1004⟩⟩)
theorem kv1_347000 : 0 = 0 ∨ OKo 1 347 84 ∨ OKv 1 347 0 84 := Or.inl rfl
theorem kv1_347004 : 4 = 0 ∨ OKo 1 347 84 ∨ OKv 1 347 4 84 := Or.inr (Or.inr ⟨2, mk_84, rfl, q1011, Or.inl ⟨rfl, rfl, q1010, q1012⟩⟩)
theorem kv1_349000 : 0 = 0 ∨ OKo 1 349 28 ∨ OKv 1 349 0 28 := Or.inl rfl
theorem kv1_349001 : 1 = 0 ∨ OKo 1 349 28 ∨ OKv 1 349 1 28 := Or.inr (Or.inr ⟨2, mk_28, rfl, q1000, Or.inl ⟨rfl, rfl, q998, qs13⟩⟩)
theorem kv1_353000 : 0 = 0 ∨ OKo 1 353 27 ∨ OKv 1 353 0 27 := Or.inl rfl
theorem kv1_353001 : 1 = 0 ∨ OKo 1 353 27 ∨ OKv 1 353 1 27 := Or.inr (Or.inr ⟨0, mk_27, rfl, q996, Or.inl ⟨rfl, rfl, q994, qs12⟩⟩)
theorem kv1_357000 : 0 = 0 ∨ OKo 1 357 31 ∨ OKv 1 357 0 31 := Or.inl rfl
theorem kv1_357001 : 1 = 0 ∨ OKo 1 357 31 ∨ OKv 1 357 1 31 := Or.inr (Or.inr ⟨1, mk_31, rfl, q1025, Or.inl ⟨rfl, rfl, q1023, qs14⟩⟩)
theorem kv1_360000 : 0 = 0 ∨ OKo 1 360 32 ∨ OKv 1 360 0 32 := Or.inl rfl
theorem kv1_360001 : 1 = 0 ∨ OKo 1 360 32 ∨ OKv 1 360 1 32 := Or.inr (Or.inr ⟨2, mk_32, rfl, q1029, Or.inl ⟨rfl, rfl, q1027, qs15⟩⟩)
theorem kv1_382000 : 0 = 0 ∨ OKo 1 382 38 ∨ OKv 1 382 0 38 := Or.inl rfl
theorem kv1_382001 : 1 = 0 ∨ OKo 1 382 38 ∨ OKv 1 382 1 38 := Or.inr (Or.inr ⟨3, mk_38, rfl, q1057, Or.inl ⟨rfl, rfl, q1055, qs16⟩⟩)
theorem kv1_385000 : 0 = 0 ∨ OKo 1 385 61 ∨ OKv 1 385 0 61 := Or.inl rfl
theorem kv1_385003 : 3 = 0 ∨ OKo 1 385 61 ∨ OKv 1 385 3 61 := Or.inr (Or.inr ⟨2, mk_61, rfl, q1074, Or.inl ⟨rfl, rfl, q1073, q1075⟩⟩)
theorem kv1_391000 : 0 = 0 ∨ OKo 1 391 279 ∨ OKv 1 391 0 279 := Or.inl rfl
theorem kv1_391022 : 22 = 0 ∨ OKo 1 391 279 ∨ OKv 1 391 22 279 := Or.inr (Or.inr ⟨0, mk_279, rfl, q699, Or.inl ⟨rfl, rfl, q1099, q700⟩⟩)
theorem kv1_391050 : 50 = 0 ∨ OKo 1 391 279 ∨ OKv 1 391 50 279 := Or.inr (Or.inr ⟨0, mk_279, rfl, q699, Or.inl ⟨rfl, rfl, q1099, q700⟩⟩)
theorem kv1_393000 : 0 = 0 ∨ OKo 1 393 281 ∨ OKv 1 393 0 281 := Or.inl rfl
theorem kv1_393022 : 22 = 0 ∨ OKo 1 393 281 ∨ OKv 1 393 22 281 := Or.inr (Or.inr ⟨1, mk_281, rfl, q709, Or.inl ⟨rfl, rfl, q1100, q710⟩⟩)
theorem kv1_393050 : 50 = 0 ∨ OKo 1 393 281 ∨ OKv 1 393 50 281 := Or.inr (Or.inr ⟨1, mk_281, rfl, q709, Or.inl ⟨rfl, rfl, q1100, q710⟩⟩)
theorem kv1_397000 : 0 = 0 ∨ OKo 1 397 45 ∨ OKv 1 397 0 45 := Or.inl rfl
theorem kv1_397001 : 1 = 0 ∨ OKo 1 397 45 ∨ OKv 1 397 1 45 := Or.inr (Or.inr ⟨1, mk_45, rfl, q1092, Or.inl ⟨rfl, rfl, q1090, qs18⟩⟩)
theorem kv1_406000 : 0 = 0 ∨ OKo 1 406 44 ∨ OKv 1 406 0 44 := Or.inl rfl
theorem kv1_406001 : 1 = 0 ∨ OKo 1 406 44 ∨ OKv 1 406 1 44 := Or.inr (Or.inr ⟨1, mk_44, rfl, q1087, Or.inl ⟨rfl, rfl, q1085, qs17⟩⟩)
theorem kv1_411000 : 0 = 0 ∨ OKo 1 411 46 ∨ OKv 1 411 0 46 := Or.inl rfl
theorem kv1_411001 : 1 = 0 ∨ OKo 1 411 46 ∨ OKv 1 411 1 46 := Or.inr (Or.inr ⟨1, mk_46, rfl, q1097, Or.inl ⟨rfl, rfl, q1095, qs19⟩⟩)
theorem kv1_424000 : 0 = 0 ∨ OKo 1 424 85 ∨ OKv 1 424 0 85 := Or.inl rfl
theorem kv1_424004 : 4 = 0 ∨ OKo 1 424 85 ∨ OKv 1 424 4 85 := Or.inr (Or.inr ⟨3, mk_85, rfl, q1152, Or.inl ⟨rfl, rfl, q1151, q1153⟩⟩)
theorem kv1_427000 : 0 = 0 ∨ OKo 1 427 113 ∨ OKv 1 427 0 113 := Or.inl rfl
theorem kv1_427006 : 6 = 0 ∨ OKo 1 427 113 ∨ OKv 1 427 6 113 := Or.inr (Or.inr ⟨0, mk_113, rfl, q1175, Or.inl ⟨rfl, rfl, q1174, q1176⟩⟩)
theorem kv1_436000 : 0 = 0 ∨ OKo 1 436 243 ∨ OKv 1 436 0 243 := Or.inl rfl
theorem kv1_436009 : 9 = 0 ∨ OKo 1 436 243 ∨ OKv 1 436 9 243 := Or.inr (Or.inr ⟨2, mk_243, rfl, q1320, Or.inr (Or.inr (Or.inr (Or.inl ⟨rfl, _, "SecondHelpings$Line", q1298, q1300, q1319, rfl, by decide, Or.inr q1299⟩)))⟩)
theorem kv1_436010 : 10 = 0 ∨ OKo 1 436 246 ∨ OKv 1 436 10 246 := Or.inr (Or.inr ⟨2, mk_246, rfl, q1316, Or.inr (Or.inr (Or.inr (Or.inl ⟨rfl, _, "SecondHelpings$Line", q1298, q1300, q1315, rfl, by decide, Or.inr q1299⟩)))⟩)
theorem kv1_436011 : 11 = 0 ∨ OKo 1 436 249 ∨ OKv 1 436 11 249 := Or.inr (Or.inr ⟨2, mk_249, rfl, q1335, Or.inr (Or.inr (Or.inr (Or.inl ⟨rfl, _, "SecondHelpings$Line", q1298, q1300, q1334, rfl, by decide, Or.inr q1299⟩)))⟩)
theorem kv1_436012 : 12 = 0 ∨ OKo 1 436 252 ∨ OKv 1 436 12 252 := Or.inr (Or.inr ⟨2, mk_252, rfl, q1329, Or.inr (Or.inr (Or.inr (Or.inl ⟨rfl, _, "SecondHelpings$Line", q1298, q1300, q1328, rfl, by decide, Or.inr q1299⟩)))⟩)
theorem kv1_436013 : 13 = 0 ∨ OKo 1 436 255 ∨ OKv 1 436 13 255 := Or.inr (Or.inr ⟨2, mk_255, rfl, q1323, Or.inr (Or.inr (Or.inr (Or.inl ⟨rfl, _, "SecondHelpings$Line", q1298, q1300, q1322, rfl, by decide, Or.inr q1299⟩)))⟩)
theorem kv1_436014 : 14 = 0 ∨ OKo 1 436 258 ∨ OKv 1 436 14 258 := Or.inr (Or.inr ⟨2, mk_258, rfl, q1302, Or.inr (Or.inr (Or.inr (Or.inl ⟨rfl, _, "SecondHelpings$Line", q1298, q1300, q1301, rfl, by decide, Or.inr q1299⟩)))⟩)
theorem kv1_436015 : 15 = 0 ∨ OKo 1 436 261 ∨ OKv 1 436 15 261 := Or.inr (Or.inr ⟨2, mk_261, rfl, q1310, Or.inr (Or.inr (Or.inr (Or.inl ⟨rfl, _, "SecondHelpings$Line", q1298, q1300, q1309, rfl, by decide, Or.inr q1299⟩)))⟩)
theorem kv1_442000 : 0 = 0 ∨ OKo 1 442 244 ∨ OKv 1 442 0 244 := Or.inl rfl
theorem kv1_442009 : 9 = 0 ∨ OKo 1 442 244 ∨ OKv 1 442 9 244 := Or.inr (Or.inr ⟨2, mk_244, rfl, q1355, Or.inr (Or.inr (Or.inr (Or.inl ⟨rfl, _, "SecondHelpings$Line", q1340, q1342, q1354, rfl, by decide, Or.inr q1341⟩)))⟩)
theorem kv1_442010 : 10 = 0 ∨ OKo 1 442 247 ∨ OKv 1 442 10 247 := Or.inr (Or.inr ⟨2, mk_247, rfl, q1351, Or.inr (Or.inr (Or.inr (Or.inl ⟨rfl, _, "SecondHelpings$Line", q1340, q1342, q1350, rfl, by decide, Or.inr q1341⟩)))⟩)
theorem kv1_442011 : 11 = 0 ∨ OKo 1 442 250 ∨ OKv 1 442 11 250 := Or.inr (Or.inr ⟨2, mk_250, rfl, q1366, Or.inr (Or.inr (Or.inr (Or.inl ⟨rfl, _, "SecondHelpings$Line", q1340, q1342, q1365, rfl, by decide, Or.inr q1341⟩)))⟩)
theorem kv1_442012 : 12 = 0 ∨ OKo 1 442 253 ∨ OKv 1 442 12 253 := Or.inr (Or.inr ⟨2, mk_253, rfl, q1362, Or.inr (Or.inr (Or.inr (Or.inl ⟨rfl, _, "SecondHelpings$Line", q1340, q1342, q1361, rfl, by decide, Or.inr q1341⟩)))⟩)
theorem kv1_442013 : 13 = 0 ∨ OKo 1 442 256 ∨ OKv 1 442 13 256 := Or.inr (Or.inr ⟨2, mk_256, rfl, q1359, Or.inr (Or.inr (Or.inr (Or.inl ⟨rfl, _, "SecondHelpings$Line", q1340, q1342, q1358, rfl, by decide, Or.inr q1341⟩)))⟩)
theorem kv1_442014 : 14 = 0 ∨ OKo 1 442 259 ∨ OKv 1 442 14 259 := Or.inr (Or.inr ⟨2, mk_259, rfl, q1344, Or.inr (Or.inr (Or.inr (Or.inl ⟨rfl, _, "SecondHelpings$Line", q1340, q1342, q1343, rfl, by decide, Or.inr q1341⟩)))⟩)
theorem kv1_442015 : 15 = 0 ∨ OKo 1 442 262 ∨ OKv 1 442 15 262 := Or.inr (Or.inr ⟨2, mk_262, rfl, q1347, Or.inr (Or.inr (Or.inr (Or.inl ⟨rfl, _, "SecondHelpings$Line", q1340, q1342, q1346, rfl, by decide, Or.inr q1341⟩)))⟩)
theorem kv1_449000 : 0 = 0 ∨ OKo 1 449 116 ∨ OKv 1 449 0 116 := Or.inl rfl
theorem kv1_449007 : 7 = 0 ∨ OKo 1 449 116 ∨ OKv 1 449 7 116 := Or.inr (Or.inr ⟨0, mk_116, rfl, q1378, Or.inl ⟨rfl, rfl, q1377, q1379⟩⟩)
theorem kv1_455000 : 0 = 0 ∨ OKo 1 455 264 ∨ OKv 1 455 0 264 := Or.inl rfl
theorem kv1_455016 : 16 = 0 ∨ OKo 1 455 264 ∨ OKv 1 455 16 264 := Or.inr (Or.inr ⟨2, mk_264, rfl, q1528, Or.inr (Or.inr (Or.inr (Or.inr (Or.inr ⟨rfl, by decide, rfl, q1491, q1526⟩))))⟩)
theorem kv1_455017 : 17 = 0 ∨ OKo 1 455 266 ∨ OKv 1 455 17 266 := Or.inr (Or.inr ⟨2, mk_266, rfl, q1519, Or.inr (Or.inr (Or.inr (Or.inr (Or.inr ⟨rfl, by decide, rfl, q1491, q1517⟩))))⟩)
theorem kv1_455018 : 18 = 0 ∨ OKo 1 455 268 ∨ OKv 1 455 18 268 := Or.inr (Or.inr ⟨2, mk_268, rfl, q1513, Or.inr (Or.inr (Or.inr (Or.inr (Or.inr ⟨rfl, by decide, rfl, q1491, q1511⟩))))⟩)
theorem kv1_455019 : 19 = 0 ∨ OKo 1 455 270 ∨ OKv 1 455 19 270 := Or.inr (Or.inr ⟨2, mk_270, rfl, q1505, Or.inr (Or.inr (Or.inr (Or.inr (Or.inr ⟨rfl, by decide, rfl, q1491, q1503⟩))))⟩)
theorem kv1_455020 : 20 = 0 ∨ OKo 1 455 272 ∨ OKv 1 455 20 272 := Or.inr (Or.inr ⟨2, mk_272, rfl, q1497, Or.inr (Or.inr (Or.inr (Or.inr (Or.inr ⟨rfl, by decide, rfl, q1491, q1495⟩))))⟩)
theorem kv1_461000 : 0 = 0 ∨ OKo 1 461 273 ∨ OKv 1 461 0 273 := Or.inl rfl
theorem kv1_461021 : 21 = 0 ∨ OKo 1 461 273 ∨ OKv 1 461 21 273 := Or.inr (Or.inr ⟨0, mk_273, rfl, q1539, Or.inr (Or.inr (Or.inl ⟨rfl, rfl, rfl, Or.inr ⟨_, q1538⟩⟩))⟩)
theorem kv2_1000 : 0 = 0 ∨ OKo 2 1 276 ∨ OKv 2 1 0 276 := Or.inl rfl
theorem kv2_1002 : 2 = 0 ∨ OKo 2 1 276 ∨ OKv 2 1 2 276 := Or.inr (Or.inr ⟨4, mk_276, rfl, q180, Or.inr (Or.inr (Or.inl ⟨rfl, rfl, rfl, Or.inl q179⟩))⟩)
theorem kv3_3000 : 0 = 0 ∨ OKo 3 3 301 ∨ OKv 3 3 0 301 := Or.inl rfl
theorem kv3_3003 : 3 = 0 ∨ OKo 3 3 301 ∨ OKv 3 3 3 301 := Or.inr (Or.inl ⟨rfl, q242⟩)
theorem kv4_3000 : 0 = 0 ∨ OKo 4 3 301 ∨ OKv 4 3 0 301 := Or.inl rfl
theorem kv4_3004 : 4 = 0 ∨ OKo 4 3 301 ∨ OKv 4 3 4 301 := Or.inr (Or.inl ⟨rfl, q319⟩)
theorem kv4_75000 : 0 = 0 ∨ OKo 4 75 76 ∨ OKv 4 75 0 76 := Or.inl rfl
theorem kv4_75004 : 4 = 0 ∨ OKo 4 75 76 ∨ OKv 4 75 4 76 := Or.inr (Or.inr ⟨3, mk_76, rfl, q933, Or.inl ⟨rfl, rfl, q931, qs11⟩⟩)
theorem kv4_79000 : 0 = 0 ∨ OKo 4 79 75 ∨ OKv 4 79 0 75 := Or.inl rfl
theorem kv4_79004 : 4 = 0 ∨ OKo 4 79 75 ∨ OKv 4 79 4 75 := Or.inr (Or.inr ⟨3, mk_75, rfl, q928, Or.inl ⟨rfl, rfl, q927, q929⟩⟩)
theorem kv4_82000 : 0 = 0 ∨ OKo 4 82 72 ∨ OKv 4 82 0 72 := Or.inl rfl
theorem kv4_82004 : 4 = 0 ∨ OKo 4 82 72 ∨ OKv 4 82 4 72 := Or.inr (Or.inr ⟨1, mk_72, rfl, q916, Or.inl ⟨rfl, rfl, q915, q917⟩⟩)
theorem kv4_86000 : 0 = 0 ∨ OKo 4 86 74 ∨ OKv 4 86 0 74 := Or.inl rfl
theorem kv4_86004 : 4 = 0 ∨ OKo 4 86 74 ∨ OKv 4 86 4 74 := Or.inr (Or.inr ⟨2, mk_74, rfl, q924, Or.inl ⟨rfl, rfl, q923, q925⟩⟩)
theorem kv4_99000 : 0 = 0 ∨ OKo 4 99 67 ∨ OKv 4 99 0 67 := Or.inl rfl
theorem kv4_99004 : 4 = 0 ∨ OKo 4 99 67 ∨ OKv 4 99 4 67 := Or.inr (Or.inr ⟨1, mk_67, rfl, q882, Or.inl ⟨rfl, rfl, q881, q883⟩⟩)
theorem kv4_106000 : 0 = 0 ∨ OKo 4 106 73 ∨ OKv 4 106 0 73 := Or.inl rfl
theorem kv4_106004 : 4 = 0 ∨ OKo 4 106 73 ∨ OKv 4 106 4 73 := Or.inr (Or.inr ⟨2, mk_73, rfl, q921, Or.inl ⟨rfl, rfl, q966, qs10⟩⟩)
theorem kv4_110000 : 0 = 0 ∨ OKo 4 110 68 ∨ OKv 4 110 0 68 := Or.inl rfl
theorem kv4_110004 : 4 = 0 ∨ OKo 4 110 68 ∨ OKv 4 110 4 68 := Or.inr (Or.inr ⟨3, mk_68, rfl, q892, Or.inl ⟨rfl, rfl, q1014, q893⟩⟩)
theorem kv4_117000 : 0 = 0 ∨ OKo 4 117 82 ∨ OKv 4 117 0 82 := Or.inl rfl
theorem kv4_117004 : 4 = 0 ∨ OKo 4 117 82 ∨ OKv 4 117 4 82 := Or.inr (Or.inr ⟨1, mk_82, rfl, q976, Or.inl ⟨rfl, rfl, q975, q977⟩⟩)
theorem kv4_125000 : 0 = 0 ∨ OKo 4 125 87 ∨ OKv 4 125 0 87 := Or.inl rfl
theorem kv4_125004 : 4 = 0 ∨ OKo 4 125 87 ∨ OKv 4 125 4 87 := Or.inr (Or.inr ⟨1, mk_87, rfl, q1161, Or.inl ⟨rfl, rfl, q1159, qs21⟩⟩)
theorem kv4_128000 : 0 = 0 ∨ OKo 4 128 80 ∨ OKv 4 128 0 80 := Or.inl rfl
theorem kv4_128004 : 4 = 0 ∨ OKo 4 128 80 ∨ OKv 4 128 4 80 := Or.inr (Or.inr ⟨2, mk_80, rfl, q963, Or.inl ⟨rfl, rfl, q1164, q964⟩⟩)
theorem kv4_131000 : 0 = 0 ∨ OKo 4 131 84 ∨ OKv 4 131 0 84 := Or.inl rfl
theorem kv4_131004 : 4 = 0 ∨ OKo 4 131 84 ∨ OKv 4 131 4 84 := Or.inr (Or.inr ⟨2, mk_84, rfl, q1011, Or.inl ⟨rfl, rfl, q1165, q1012⟩⟩)
theorem kv4_134000 : 0 = 0 ∨ OKo 4 134 86 ∨ OKv 4 134 0 86 := Or.inl rfl
theorem kv4_134004 : 4 = 0 ∨ OKo 4 134 86 ∨ OKv 4 134 4 86 := Or.inr (Or.inr ⟨2, mk_86, rfl, q1157, Or.inl ⟨rfl, rfl, q1155, qs20⟩⟩)
theorem kv5_9000 : 0 = 0 ∨ OKo 5 9 301 ∨ OKv 5 9 0 301 := Or.inl rfl
theorem kv5_9005 : 5 = 0 ∨ OKo 5 9 301 ∨ OKv 5 9 5 301 := Or.inr (Or.inl ⟨rfl, q383⟩)
theorem kv5_9006 : 6 = 0 ∨ OKo 5 9 301 ∨ OKv 5 9 6 301 := Or.inr (Or.inl ⟨rfl, q383⟩)
theorem kv5_9007 : 7 = 0 ∨ OKo 5 9 301 ∨ OKv 5 9 7 301 := Or.inr (Or.inl ⟨rfl, q383⟩)
theorem kv5_22000 : 0 = 0 ∨ OKo 5 22 90 ∨ OKv 5 22 0 90 := Or.inl rfl
theorem kv5_22005 : 5 = 0 ∨ OKo 5 22 90 ∨ OKv 5 22 5 90 := Or.inr (Or.inr ⟨0, mk_90, rfl, q660, Or.inr (Or.inr (Or.inr (Or.inl ⟨rfl, _, "SecondHelpings$Reader", q659, q661, q662, rfl, by decide, Or.inl rfl⟩)))⟩)
theorem kv5_22006 : 6 = 0 ∨ OKo 5 22 90 ∨ OKv 5 22 6 90 := Or.inr (Or.inr ⟨0, mk_90, rfl, q660, Or.inr (Or.inr (Or.inr (Or.inl ⟨rfl, _, "SecondHelpings$Reader", q659, q661, q663, rfl, by decide, Or.inl rfl⟩)))⟩)
theorem kv5_22007 : 7 = 0 ∨ OKo 5 22 90 ∨ OKv 5 22 7 90 := Or.inr (Or.inr ⟨0, mk_90, rfl, q660, Or.inr (Or.inr (Or.inr (Or.inl ⟨rfl, _, "SecondHelpings$Reader", q659, q661, q664, rfl, by decide, Or.inl rfl⟩)))⟩)
theorem kv5_36000 : 0 = 0 ∨ OKo 5 36 91 ∨ OKv 5 36 0 91 := Or.inl rfl
theorem kv5_36005 : 5 = 0 ∨ OKo 5 36 91 ∨ OKv 5 36 5 91 := Or.inr (Or.inr ⟨0, mk_91, rfl, q668, Or.inr (Or.inr (Or.inr (Or.inr (Or.inl ⟨rfl, by decide, by decide, q666, q2233⟩))))⟩)
theorem kv5_36006 : 6 = 0 ∨ OKo 5 36 91 ∨ OKv 5 36 6 91 := Or.inr (Or.inr ⟨0, mk_91, rfl, q668, Or.inr (Or.inr (Or.inr (Or.inr (Or.inl ⟨rfl, by decide, by decide, q666, q2233⟩))))⟩)
theorem kv5_36007 : 7 = 0 ∨ OKo 5 36 91 ∨ OKv 5 36 7 91 := Or.inr (Or.inr ⟨0, mk_91, rfl, q668, Or.inr (Or.inr (Or.inr (Or.inr (Or.inl ⟨rfl, by decide, by decide, q666, q2233⟩))))⟩)
theorem kv5_46000 : 0 = 0 ∨ OKo 5 46 92 ∨ OKv 5 46 0 92 := Or.inl rfl
theorem kv5_46005 : 5 = 0 ∨ OKo 5 46 92 ∨ OKv 5 46 5 92 := Or.inr (Or.inr ⟨1, mk_92, rfl, q672, Or.inr (Or.inr (Or.inr (Or.inr (Or.inl ⟨rfl, by decide, by decide, q670, q2234⟩))))⟩)
theorem kv5_46006 : 6 = 0 ∨ OKo 5 46 92 ∨ OKv 5 46 6 92 := Or.inr (Or.inr ⟨1, mk_92, rfl, q672, Or.inr (Or.inr (Or.inr (Or.inr (Or.inl ⟨rfl, by decide, by decide, q670, q2234⟩))))⟩)
theorem kv5_46007 : 7 = 0 ∨ OKo 5 46 92 ∨ OKv 5 46 7 92 := Or.inr (Or.inr ⟨1, mk_92, rfl, q672, Or.inr (Or.inr (Or.inr (Or.inr (Or.inl ⟨rfl, by decide, by decide, q670, q2234⟩))))⟩)
theorem kv5_50000 : 0 = 0 ∨ OKo 5 50 93 ∨ OKv 5 50 0 93 := Or.inl rfl
theorem kv5_50005 : 5 = 0 ∨ OKo 5 50 93 ∨ OKv 5 50 5 93 := Or.inr (Or.inr ⟨1, mk_93, rfl, q679, Or.inr (Or.inr (Or.inr (Or.inr (Or.inl ⟨rfl, by decide, by decide, q677, q2235⟩))))⟩)
theorem kv5_50006 : 6 = 0 ∨ OKo 5 50 93 ∨ OKv 5 50 6 93 := Or.inr (Or.inr ⟨1, mk_93, rfl, q679, Or.inr (Or.inr (Or.inr (Or.inr (Or.inl ⟨rfl, by decide, by decide, q677, q2235⟩))))⟩)
theorem kv5_50007 : 7 = 0 ∨ OKo 5 50 93 ∨ OKv 5 50 7 93 := Or.inr (Or.inr ⟨1, mk_93, rfl, q679, Or.inr (Or.inr (Or.inr (Or.inr (Or.inl ⟨rfl, by decide, by decide, q677, q2235⟩))))⟩)
theorem kv5_53000 : 0 = 0 ∨ OKo 5 53 94 ∨ OKv 5 53 0 94 := Or.inl rfl
theorem kv5_53005 : 5 = 0 ∨ OKo 5 53 94 ∨ OKv 5 53 5 94 := Or.inr (Or.inr ⟨1, mk_94, rfl, q683, Or.inr (Or.inr (Or.inr (Or.inr (Or.inl ⟨rfl, by decide, by decide, q681, q2236⟩))))⟩)
theorem kv5_53006 : 6 = 0 ∨ OKo 5 53 94 ∨ OKv 5 53 6 94 := Or.inr (Or.inr ⟨1, mk_94, rfl, q683, Or.inr (Or.inr (Or.inr (Or.inr (Or.inl ⟨rfl, by decide, by decide, q681, q2236⟩))))⟩)
theorem kv5_53007 : 7 = 0 ∨ OKo 5 53 94 ∨ OKv 5 53 7 94 := Or.inr (Or.inr ⟨1, mk_94, rfl, q683, Or.inr (Or.inr (Or.inr (Or.inr (Or.inl ⟨rfl, by decide, by decide, q681, q2236⟩))))⟩)
theorem kv5_67000 : 0 = 0 ∨ OKo 5 67 279 ∨ OKv 5 67 0 279 := Or.inl rfl
theorem kv5_67022 : 22 = 0 ∨ OKo 5 67 279 ∨ OKv 5 67 22 279 := Or.inr (Or.inr ⟨0, mk_279, rfl, q699, Or.inl ⟨rfl, rfl, q698, q700⟩⟩)
theorem kv5_67050 : 50 = 0 ∨ OKo 5 67 279 ∨ OKv 5 67 50 279 := Or.inr (Or.inr ⟨0, mk_279, rfl, q699, Or.inl ⟨rfl, rfl, q698, q700⟩⟩)
theorem kv5_72000 : 0 = 0 ∨ OKo 5 72 281 ∨ OKv 5 72 0 281 := Or.inl rfl
theorem kv5_72022 : 22 = 0 ∨ OKo 5 72 281 ∨ OKv 5 72 22 281 := Or.inr (Or.inr ⟨1, mk_281, rfl, q709, Or.inl ⟨rfl, rfl, q708, q710⟩⟩)
theorem kv5_72050 : 50 = 0 ∨ OKo 5 72 281 ∨ OKv 5 72 50 281 := Or.inr (Or.inr ⟨1, mk_281, rfl, q709, Or.inl ⟨rfl, rfl, q708, q710⟩⟩)
theorem kv5_76000 : 0 = 0 ∨ OKo 5 76 96 ∨ OKv 5 76 0 96 := Or.inl rfl
theorem kv5_76005 : 5 = 0 ∨ OKo 5 76 96 ∨ OKv 5 76 5 96 := Or.inr (Or.inr ⟨1, mk_96, rfl, q692, Or.inr (Or.inr (Or.inr (Or.inl ⟨rfl, _, "SecondHelpings$Reader", q691, q693, q694, rfl, by decide, Or.inl rfl⟩)))⟩)
theorem kv5_76006 : 6 = 0 ∨ OKo 5 76 96 ∨ OKv 5 76 6 96 := Or.inr (Or.inr ⟨1, mk_96, rfl, q692, Or.inr (Or.inr (Or.inr (Or.inl ⟨rfl, _, "SecondHelpings$Reader", q691, q693, q695, rfl, by decide, Or.inl rfl⟩)))⟩)
theorem kv5_76007 : 7 = 0 ∨ OKo 5 76 96 ∨ OKv 5 76 7 96 := Or.inr (Or.inr ⟨1, mk_96, rfl, q692, Or.inr (Or.inr (Or.inr (Or.inl ⟨rfl, _, "SecondHelpings$Reader", q691, q693, q696, rfl, by decide, Or.inl rfl⟩)))⟩)
theorem kv5_84000 : 0 = 0 ∨ OKo 5 84 95 ∨ OKv 5 84 0 95 := Or.inl rfl
theorem kv5_84005 : 5 = 0 ∨ OKo 5 84 95 ∨ OKv 5 84 5 95 := Or.inr (Or.inr ⟨1, mk_95, rfl, q689, Or.inr (Or.inr (Or.inr (Or.inl ⟨rfl, _, "SecondHelpings$Reader", q784, q2237, q2238, rfl, by decide, Or.inl rfl⟩)))⟩)
theorem kv5_84006 : 6 = 0 ∨ OKo 5 84 95 ∨ OKv 5 84 6 95 := Or.inr (Or.inr ⟨1, mk_95, rfl, q689, Or.inr (Or.inr (Or.inr (Or.inl ⟨rfl, _, "SecondHelpings$Reader", q784, q2237, q2239, rfl, by decide, Or.inl rfl⟩)))⟩)
theorem kv5_84007 : 7 = 0 ∨ OKo 5 84 95 ∨ OKv 5 84 7 95 := Or.inr (Or.inr ⟨1, mk_95, rfl, q689, Or.inr (Or.inr (Or.inr (Or.inl ⟨rfl, _, "SecondHelpings$Reader", q784, q2237, q2240, rfl, by decide, Or.inl rfl⟩)))⟩)
theorem kv5_103000 : 0 = 0 ∨ OKo 5 103 98 ∨ OKv 5 103 0 98 := Or.inl rfl
theorem kv5_103005 : 5 = 0 ∨ OKo 5 103 98 ∨ OKv 5 103 5 98 := Or.inr (Or.inr ⟨1, mk_98, rfl, q753, Or.inr (Or.inr (Or.inr (Or.inl ⟨rfl, _, "SecondHelpings$Reader", q752, q754, q755, rfl, by decide, Or.inl rfl⟩)))⟩)
theorem kv5_103006 : 6 = 0 ∨ OKo 5 103 98 ∨ OKv 5 103 6 98 := Or.inr (Or.inr ⟨1, mk_98, rfl, q753, Or.inr (Or.inr (Or.inr (Or.inl ⟨rfl, _, "SecondHelpings$Reader", q752, q754, q756, rfl, by decide, Or.inl rfl⟩)))⟩)
theorem kv5_103007 : 7 = 0 ∨ OKo 5 103 98 ∨ OKv 5 103 7 98 := Or.inr (Or.inr ⟨1, mk_98, rfl, q753, Or.inr (Or.inr (Or.inr (Or.inl ⟨rfl, _, "SecondHelpings$Reader", q752, q754, q757, rfl, by decide, Or.inl rfl⟩)))⟩)
theorem kv5_107000 : 0 = 0 ∨ OKo 5 107 105 ∨ OKv 5 107 0 105 := Or.inl rfl
theorem kv5_107005 : 5 = 0 ∨ OKo 5 107 105 ∨ OKv 5 107 5 105 := Or.inr (Or.inr ⟨1, mk_105, rfl, q834, Or.inr (Or.inr (Or.inr (Or.inl ⟨rfl, _, "SecondHelpings$Reader", q833, q835, q836, rfl, by decide, Or.inl rfl⟩)))⟩)
theorem kv5_107006 : 6 = 0 ∨ OKo 5 107 105 ∨ OKv 5 107 6 105 := Or.inr (Or.inr ⟨1, mk_105, rfl, q834, Or.inr (Or.inr (Or.inr (Or.inl ⟨rfl, _, "SecondHelpings$Reader", q833, q835, q837, rfl, by decide, Or.inl rfl⟩)))⟩)
theorem kv5_107007 : 7 = 0 ∨ OKo 5 107 105 ∨ OKv 5 107 7 105 := Or.inr (Or.inr ⟨1, mk_105, rfl, q834, Or.inr (Or.inr (Or.inr (Or.inl ⟨rfl, _, "SecondHelpings$Reader", q833, q835, q838, rfl, by decide, Or.inl rfl⟩)))⟩)
theorem kv5_109000 : 0 = 0 ∨ OKo 5 109 97 ∨ OKv 5 109 0 97 := Or.inl rfl
theorem kv5_109005 : 5 = 0 ∨ OKo 5 109 97 ∨ OKv 5 109 5 97 := Or.inr (Or.inr ⟨2, mk_97, rfl, q750, Or.inr (Or.inr (Or.inr (Or.inl ⟨rfl, _, "SecondHelpings$Reader", q797, q2241, q2242, rfl, by decide, Or.inl rfl⟩)))⟩)
theorem kv5_109006 : 6 = 0 ∨ OKo 5 109 97 ∨ OKv 5 109 6 97 := Or.inr (Or.inr ⟨2, mk_97, rfl, q750, Or.inr (Or.inr (Or.inr (Or.inl ⟨rfl, _, "SecondHelpings$Reader", q797, q2241, q2243, rfl, by decide, Or.inl rfl⟩)))⟩)
theorem kv5_109007 : 7 = 0 ∨ OKo 5 109 97 ∨ OKv 5 109 7 97 := Or.inr (Or.inr ⟨2, mk_97, rfl, q750, Or.inr (Or.inr (Or.inr (Or.inl ⟨rfl, _, "SecondHelpings$Reader", q797, q2241, q2244, rfl, by decide, Or.inl rfl⟩)))⟩)
theorem kv5_113000 : 0 = 0 ∨ OKo 5 113 99 ∨ OKv 5 113 0 99 := Or.inl rfl
theorem kv5_113005 : 5 = 0 ∨ OKo 5 113 99 ∨ OKv 5 113 5 99 := Or.inr (Or.inr ⟨0, mk_99, rfl, q782, Or.inr (Or.inr (Or.inr (Or.inl ⟨rfl, _, "SecondHelpings$Reader", q816, q2245, q2246, rfl, by decide, Or.inl rfl⟩)))⟩)
theorem kv5_113006 : 6 = 0 ∨ OKo 5 113 99 ∨ OKv 5 113 6 99 := Or.inr (Or.inr ⟨0, mk_99, rfl, q782, Or.inr (Or.inr (Or.inr (Or.inl ⟨rfl, _, "SecondHelpings$Reader", q816, q2245, q2247, rfl, by decide, Or.inl rfl⟩)))⟩)
theorem kv5_113007 : 7 = 0 ∨ OKo 5 113 99 ∨ OKv 5 113 7 99 := Or.inr (Or.inr ⟨0, mk_99, rfl, q782, Or.inr (Or.inr (Or.inr (Or.inl ⟨rfl, _, "SecondHelpings$Reader", q816, q2245, q2248, rfl, by decide, Or.inl rfl⟩)))⟩)
theorem kv5_117000 : 0 = 0 ∨ OKo 5 117 100 ∨ OKv 5 117 0 100 := Or.inl rfl
theorem kv5_117005 : 5 = 0 ∨ OKo 5 117 100 ∨ OKv 5 117 5 100 := Or.inr (Or.inr ⟨2, mk_100, rfl, q789, Or.inr (Or.inr (Or.inr (Or.inl ⟨rfl, _, "SecondHelpings$Reader", q817, q2249, q2250, rfl, by decide, Or.inl rfl⟩)))⟩)
theorem kv5_117006 : 6 = 0 ∨ OKo 5 117 100 ∨ OKv 5 117 6 100 := Or.inr (Or.inr ⟨2, mk_100, rfl, q789, Or.inr (Or.inr (Or.inr (Or.inl ⟨rfl, _, "SecondHelpings$Reader", q817, q2249, q2251, rfl, by decide, Or.inl rfl⟩)))⟩)
theorem kv5_117007 : 7 = 0 ∨ OKo 5 117 100 ∨ OKv 5 117 7 100 := Or.inr (Or.inr ⟨2, mk_100, rfl, q789, Or.inr (Or.inr (Or.inr (Or.inl ⟨rfl, _, "SecondHelpings$Reader", q817, q2249, q2252, rfl, by decide, Or.inl rfl⟩)))⟩)
theorem kv5_121000 : 0 = 0 ∨ OKo 5 121 103 ∨ OKv 5 121 0 103 := Or.inl rfl
theorem kv5_121005 : 5 = 0 ∨ OKo 5 121 103 ∨ OKv 5 121 5 103 := Or.inr (Or.inr ⟨2, mk_103, rfl, q810, Or.inr (Or.inr (Or.inr (Or.inl ⟨rfl, _, "SecondHelpings$Reader", q809, q811, q812, rfl, by decide, Or.inl rfl⟩)))⟩)
theorem kv5_121006 : 6 = 0 ∨ OKo 5 121 103 ∨ OKv 5 121 6 103 := Or.inr (Or.inr ⟨2, mk_103, rfl, q810, Or.inr (Or.inr (Or.inr (Or.inl ⟨rfl, _, "SecondHelpings$Reader", q809, q811, q813, rfl, by decide, Or.inl rfl⟩)))⟩)
theorem kv5_121007 : 7 = 0 ∨ OKo 5 121 103 ∨ OKv 5 121 7 103 := Or.inr (Or.inr ⟨2, mk_103, rfl, q810, Or.inr (Or.inr (Or.inr (Or.inl ⟨rfl, _, "SecondHelpings$Reader", q809, q811, q814, rfl, by decide, Or.inl rfl⟩)))⟩)
theorem kv6_9000 : 0 = 0 ∨ OKo 6 9 88 ∨ OKv 6 9 0 88 := Or.inl rfl
theorem kv6_9005 : 5 = 0 ∨ OKo 6 9 88 ∨ OKv 6 9 5 88 := Or.inr (Or.inr ⟨2, mk_88, rfl, q381, Or.inr (Or.inr (Or.inl ⟨rfl, rfl, rfl, Or.inl q380⟩))⟩)
theorem kv6_9006 : 6 = 0 ∨ OKo 6 9 88 ∨ OKv 6 9 6 88 := Or.inr (Or.inr ⟨2, mk_88, rfl, q381, Or.inr (Or.inr (Or.inl ⟨rfl, rfl, rfl, Or.inl q380⟩))⟩)
theorem kv6_9007 : 7 = 0 ∨ OKo 6 9 88 ∨ OKv 6 9 7 88 := Or.inr (Or.inr ⟨2, mk_88, rfl, q381, Or.inr (Or.inr (Or.inl ⟨rfl, rfl, rfl, Or.inl q380⟩))⟩)
theorem kv6_23000 : 0 = 0 ∨ OKo 6 23 89 ∨ OKv 6 23 0 89 := Or.inl rfl
theorem kv6_23005 : 5 = 0 ∨ OKo 6 23 89 ∨ OKv 6 23 5 89 := Or.inr (Or.inr ⟨0, mk_89, rfl, q657, Or.inr (Or.inr (Or.inr (Or.inl ⟨rfl, _, "SecondHelpings$Reader", q653, q654, q656, rfl, by decide, Or.inl rfl⟩)))⟩)
theorem kv6_34000 : 0 = 0 ∨ OKo 6 34 95 ∨ OKv 6 34 0 95 := Or.inl rfl
theorem kv6_34005 : 5 = 0 ∨ OKo 6 34 95 ∨ OKv 6 34 5 95 := Or.inr (Or.inr ⟨1, mk_95, rfl, q689, Or.inr (Or.inr (Or.inr (Or.inl ⟨rfl, _, "SecondHelpings$Reader", q685, q686, q688, rfl, by decide, Or.inl rfl⟩)))⟩)
theorem kv6_38000 : 0 = 0 ∨ OKo 6 38 97 ∨ OKv 6 38 0 97 := Or.inl rfl
theorem kv6_38005 : 5 = 0 ∨ OKo 6 38 97 ∨ OKv 6 38 5 97 := Or.inr (Or.inr ⟨2, mk_97, rfl, q750, Or.inr (Or.inr (Or.inr (Or.inl ⟨rfl, _, "SecondHelpings$Reader", q746, q747, q749, rfl, by decide, Or.inl rfl⟩)))⟩)
theorem kv6_54000 : 0 = 0 ∨ OKo 6 54 90 ∨ OKv 6 54 0 90 := Or.inl rfl
theorem kv6_54005 : 5 = 0 ∨ OKo 6 54 90 ∨ OKv 6 54 5 90 := Or.inr (Or.inr ⟨0, mk_90, rfl, q660, Or.inr (Or.inr (Or.inr (Or.inl ⟨rfl, _, "SecondHelpings$Reader", q762, q763, q765, rfl, by decide, Or.inl rfl⟩)))⟩)
theorem kv6_57000 : 0 = 0 ∨ OKo 6 57 108 ∨ OKv 6 57 0 108 := Or.inl rfl
theorem kv6_57005 : 5 = 0 ∨ OKo 6 57 108 ∨ OKv 6 57 5 108 := Or.inr (Or.inr ⟨1, mk_108, rfl, q768, Or.inl ⟨rfl, rfl, q766, qs3⟩⟩)
theorem kv6_61000 : 0 = 0 ∨ OKo 6 61 104 ∨ OKv 6 61 0 104 := Or.inl rfl
theorem kv6_61005 : 5 = 0 ∨ OKo 6 61 104 ∨ OKv 6 61 5 104 := Or.inr (Or.inr ⟨1, mk_104, rfl, q831, Or.inr (Or.inr (Or.inr (Or.inl ⟨rfl, _, "SecondHelpings$Reader", q827, q828, q830, rfl, by decide, Or.inl rfl⟩)))⟩)
theorem kv6_64000 : 0 = 0 ∨ OKo 6 64 99 ∨ OKv 6 64 0 99 := Or.inl rfl
theorem kv6_64005 : 5 = 0 ∨ OKo 6 64 99 ∨ OKv 6 64 5 99 := Or.inr (Or.inr ⟨0, mk_99, rfl, q782, Or.inr (Or.inr (Or.inr (Or.inl ⟨rfl, _, "SecondHelpings$Reader", q778, q779, q781, rfl, by decide, Or.inl rfl⟩)))⟩)
theorem kv6_72000 : 0 = 0 ∨ OKo 6 72 100 ∨ OKv 6 72 0 100 := Or.inl rfl
theorem kv6_72005 : 5 = 0 ∨ OKo 6 72 100 ∨ OKv 6 72 5 100 := Or.inr (Or.inr ⟨2, mk_100, rfl, q789, Or.inr (Or.inr (Or.inr (Or.inl ⟨rfl, _, "SecondHelpings$Reader", q785, q786, q788, rfl, by decide, Or.inl rfl⟩)))⟩)
theorem kv6_83000 : 0 = 0 ∨ OKo 6 83 109 ∨ OKv 6 83 0 109 := Or.inl rfl
theorem kv6_83005 : 5 = 0 ∨ OKo 6 83 109 ∨ OKv 6 83 5 109 := Or.inr (Or.inr ⟨0, mk_109, rfl, q772, Or.inl ⟨rfl, rfl, q770, qs4⟩⟩)
theorem kv6_86000 : 0 = 0 ∨ OKo 6 86 111 ∨ OKv 6 86 0 111 := Or.inl rfl
theorem kv6_86005 : 5 = 0 ∨ OKo 6 86 111 ∨ OKv 6 86 5 111 := Or.inr (Or.inr ⟨0, mk_111, rfl, q820, Or.inl ⟨rfl, rfl, q818, qs6⟩⟩)
theorem kv6_89000 : 0 = 0 ∨ OKo 6 89 102 ∨ OKv 6 89 0 102 := Or.inl rfl
theorem kv6_89005 : 5 = 0 ∨ OKo 6 89 102 ∨ OKv 6 89 5 102 := Or.inr (Or.inr ⟨2, mk_102, rfl, q807, Or.inr (Or.inr (Or.inr (Or.inl ⟨rfl, _, "SecondHelpings$Reader", q803, q804, q806, rfl, by decide, Or.inl rfl⟩)))⟩)
theorem kv6_92000 : 0 = 0 ∨ OKo 6 92 103 ∨ OKv 6 92 0 103 := Or.inl rfl
theorem kv6_92005 : 5 = 0 ∨ OKo 6 92 103 ∨ OKv 6 92 5 103 := Or.inr (Or.inr ⟨2, mk_103, rfl, q810, Or.inr (Or.inr (Or.inr (Or.inl ⟨rfl, _, "SecondHelpings$Reader", q823, q824, q826, rfl, by decide, Or.inl rfl⟩)))⟩)
theorem kv6_99000 : 0 = 0 ∨ OKo 6 99 101 ∨ OKv 6 99 0 101 := Or.inl rfl
theorem kv6_99005 : 5 = 0 ∨ OKo 6 99 101 ∨ OKv 6 99 5 101 := Or.inr (Or.inr ⟨2, mk_101, rfl, q795, Or.inr (Or.inr (Or.inr (Or.inl ⟨rfl, _, "SecondHelpings$Reader", q791, q792, q794, rfl, by decide, Or.inl rfl⟩)))⟩)
theorem kv6_112000 : 0 = 0 ∨ OKo 6 112 110 ∨ OKv 6 112 0 110 := Or.inl rfl
theorem kv6_112005 : 5 = 0 ∨ OKo 6 112 110 ∨ OKv 6 112 5 110 := Or.inr (Or.inr ⟨0, mk_110, rfl, q776, Or.inl ⟨rfl, rfl, q774, qs5⟩⟩)
theorem kv6_123000 : 0 = 0 ∨ OKo 6 123 96 ∨ OKv 6 123 0 96 := Or.inl rfl
theorem kv6_123005 : 5 = 0 ∨ OKo 6 123 96 ∨ OKv 6 123 5 96 := Or.inr (Or.inr ⟨1, mk_96, rfl, q692, Or.inr (Or.inr (Or.inr (Or.inl ⟨rfl, _, "SecondHelpings$Reader", q799, q800, q802, rfl, by decide, Or.inl rfl⟩)))⟩)
theorem kv7_9000 : 0 = 0 ∨ OKo 7 9 88 ∨ OKv 7 9 0 88 := Or.inl rfl
theorem kv7_9005 : 5 = 0 ∨ OKo 7 9 88 ∨ OKv 7 9 5 88 := Or.inr (Or.inr ⟨2, mk_88, rfl, q381, Or.inr (Or.inr (Or.inl ⟨rfl, rfl, rfl, Or.inl q433⟩))⟩)
theorem kv7_9006 : 6 = 0 ∨ OKo 7 9 88 ∨ OKv 7 9 6 88 := Or.inr (Or.inr ⟨2, mk_88, rfl, q381, Or.inr (Or.inr (Or.inl ⟨rfl, rfl, rfl, Or.inl q433⟩))⟩)
theorem kv7_9007 : 7 = 0 ∨ OKo 7 9 88 ∨ OKv 7 9 7 88 := Or.inr (Or.inr ⟨2, mk_88, rfl, q381, Or.inr (Or.inr (Or.inl ⟨rfl, rfl, rfl, Or.inl q433⟩))⟩)
theorem kv7_25000 : 0 = 0 ∨ OKo 7 25 89 ∨ OKv 7 25 0 89 := Or.inl rfl
theorem kv7_25006 : 6 = 0 ∨ OKo 7 25 89 ∨ OKv 7 25 6 89 := Or.inr (Or.inr ⟨0, mk_89, rfl, q657, Or.inr (Or.inr (Or.inr (Or.inl ⟨rfl, _, "SecondHelpings$Reader", q1178, q1179, q1180, rfl, by decide, Or.inl rfl⟩)))⟩)
theorem kv7_32000 : 0 = 0 ∨ OKo 7 32 114 ∨ OKv 7 32 0 114 := Or.inl rfl
theorem kv7_32006 : 6 = 0 ∨ OKo 7 32 114 ∨ OKv 7 32 6 114 := Or.inr (Or.inr ⟨0, mk_114, rfl, q1183, Or.inl ⟨rfl, rfl, q1181, qs22⟩⟩)
theorem kv7_36000 : 0 = 0 ∨ OKo 7 36 104 ∨ OKv 7 36 0 104 := Or.inl rfl
theorem kv7_36006 : 6 = 0 ∨ OKo 7 36 104 ∨ OKv 7 36 6 104 := Or.inr (Or.inr ⟨1, mk_104, rfl, q831, Or.inr (Or.inr (Or.inr (Or.inl ⟨rfl, _, "SecondHelpings$Reader", q1295, q1296, q1297, rfl, by decide, Or.inl rfl⟩)))⟩)
theorem kv7_42000 : 0 = 0 ∨ OKo 7 42 96 ∨ OKv 7 42 0 96 := Or.inl rfl
theorem kv7_42006 : 6 = 0 ∨ OKo 7 42 96 ∨ OKv 7 42 6 96 := Or.inr (Or.inr ⟨1, mk_96, rfl, q692, Or.inr (Or.inr (Or.inr (Or.inl ⟨rfl, _, "SecondHelpings$Reader", q1186, q1187, q1188, rfl, by decide, Or.inl rfl⟩)))⟩)
theorem kv7_59000 : 0 = 0 ∨ OKo 7 59 103 ∨ OKv 7 59 0 103 := Or.inl rfl
theorem kv7_59006 : 6 = 0 ∨ OKo 7 59 103 ∨ OKv 7 59 6 103 := Or.inr (Or.inr ⟨2, mk_103, rfl, q810, Or.inr (Or.inr (Or.inr (Or.inl ⟨rfl, _, "SecondHelpings$Reader", q1189, q1190, q1191, rfl, by decide, Or.inl rfl⟩)))⟩)
theorem kv7_63000 : 0 = 0 ∨ OKo 7 63 97 ∨ OKv 7 63 0 97 := Or.inl rfl
theorem kv7_63006 : 6 = 0 ∨ OKo 7 63 97 ∨ OKv 7 63 6 97 := Or.inr (Or.inr ⟨2, mk_97, rfl, q750, Or.inr (Or.inr (Or.inr (Or.inl ⟨rfl, _, "SecondHelpings$Reader", q1192, q1193, q1194, rfl, by decide, Or.inl rfl⟩)))⟩)
theorem kv7_67000 : 0 = 0 ∨ OKo 7 67 90 ∨ OKv 7 67 0 90 := Or.inl rfl
theorem kv7_67006 : 6 = 0 ∨ OKo 7 67 90 ∨ OKv 7 67 6 90 := Or.inr (Or.inr ⟨0, mk_90, rfl, q660, Or.inr (Or.inr (Or.inr (Or.inl ⟨rfl, _, "SecondHelpings$Reader", q1195, q1196, q1197, rfl, by decide, Or.inl rfl⟩)))⟩)
theorem kv7_72000 : 0 = 0 ∨ OKo 7 72 101 ∨ OKv 7 72 0 101 := Or.inl rfl
theorem kv7_72006 : 6 = 0 ∨ OKo 7 72 101 ∨ OKv 7 72 6 101 := Or.inr (Or.inr ⟨2, mk_101, rfl, q795, Or.inr (Or.inr (Or.inr (Or.inl ⟨rfl, _, "SecondHelpings$Reader", q1200, q1201, q1202, rfl, by decide, Or.inl rfl⟩)))⟩)
theorem kv7_76000 : 0 = 0 ∨ OKo 7 76 242 ∨ OKv 7 76 0 242 := Or.inl rfl
theorem kv7_76009 : 9 = 0 ∨ OKo 7 76 242 ∨ OKv 7 76 9 242 := Or.inr (Or.inr ⟨1, mk_242, rfl, q1204, Or.inr (Or.inr (Or.inl ⟨rfl, rfl, rfl, Or.inl q1203⟩))⟩)
theorem kv7_88000 : 0 = 0 ∨ OKo 7 88 102 ∨ OKv 7 88 0 102 := Or.inl rfl
theorem kv7_88006 : 6 = 0 ∨ OKo 7 88 102 ∨ OKv 7 88 6 102 := Or.inr (Or.inr ⟨2, mk_102, rfl, q807, Or.inr (Or.inr (Or.inr (Or.inl ⟨rfl, _, "SecondHelpings$Reader", q1216, q1217, q1218, rfl, by decide, Or.inl rfl⟩)))⟩)
theorem kv7_93000 : 0 = 0 ∨ OKo 7 93 245 ∨ OKv 7 93 0 245 := Or.inl rfl
theorem kv7_93010 : 10 = 0 ∨ OKo 7 93 245 ∨ OKv 7 93 10 245 := Or.inr (Or.inr ⟨3, mk_245, rfl, q1222, Or.inr (Or.inr (Or.inl ⟨rfl, rfl, rfl, Or.inl q1221⟩))⟩)
theorem kv7_98000 : 0 = 0 ∨ OKo 7 98 248 ∨ OKv 7 98 0 248 := Or.inl rfl
theorem kv7_98011 : 11 = 0 ∨ OKo 7 98 248 ∨ OKv 7 98 11 248 := Or.inr (Or.inr ⟨3, mk_248, rfl, q1238, Or.inr (Or.inr (Or.inl ⟨rfl, rfl, rfl, Or.inl q1237⟩))⟩)
theorem kv7_103000 : 0 = 0 ∨ OKo 7 103 251 ∨ OKv 7 103 0 251 := Or.inl rfl
theorem kv7_103012 : 12 = 0 ∨ OKo 7 103 251 ∨ OKv 7 103 12 251 := Or.inr (Or.inr ⟨1, mk_251, rfl, q1255, Or.inr (Or.inr (Or.inl ⟨rfl, rfl, rfl, Or.inl q1254⟩))⟩)
theorem kv7_108000 : 0 = 0 ∨ OKo 7 108 254 ∨ OKv 7 108 0 254 := Or.inl rfl
theorem kv7_108013 : 13 = 0 ∨ OKo 7 108 254 ∨ OKv 7 108 13 254 := Or.inr (Or.inr ⟨1, mk_254, rfl, q1266, Or.inr (Or.inr (Or.inl ⟨rfl, rfl, rfl, Or.inl q1265⟩))⟩)
theorem kv7_113000 : 0 = 0 ∨ OKo 7 113 257 ∨ OKv 7 113 0 257 := Or.inl rfl
theorem kv7_113014 : 14 = 0 ∨ OKo 7 113 257 ∨ OKv 7 113 14 257 := Or.inr (Or.inr ⟨1, mk_257, rfl, q1277, Or.inr (Or.inr (Or.inl ⟨rfl, rfl, rfl, Or.inl q1276⟩))⟩)
theorem kv7_118000 : 0 = 0 ∨ OKo 7 118 260 ∨ OKv 7 118 0 260 := Or.inl rfl
theorem kv7_118015 : 15 = 0 ∨ OKo 7 118 260 ∨ OKv 7 118 15 260 := Or.inr (Or.inr ⟨1, mk_260, rfl, q1288, Or.inr (Or.inr (Or.inl ⟨rfl, rfl, rfl, Or.inl q1287⟩))⟩)
theorem kv8_9000 : 0 = 0 ∨ OKo 8 9 88 ∨ OKv 8 9 0 88 := Or.inl rfl
theorem kv8_9005 : 5 = 0 ∨ OKo 8 9 88 ∨ OKv 8 9 5 88 := Or.inr (Or.inr ⟨2, mk_88, rfl, q381, Or.inr (Or.inr (Or.inl ⟨rfl, rfl, rfl, Or.inl q472⟩))⟩)
theorem kv8_9006 : 6 = 0 ∨ OKo 8 9 88 ∨ OKv 8 9 6 88 := Or.inr (Or.inr ⟨2, mk_88, rfl, q381, Or.inr (Or.inr (Or.inl ⟨rfl, rfl, rfl, Or.inl q472⟩))⟩)
theorem kv8_9007 : 7 = 0 ∨ OKo 8 9 88 ∨ OKv 8 9 7 88 := Or.inr (Or.inr ⟨2, mk_88, rfl, q381, Or.inr (Or.inr (Or.inl ⟨rfl, rfl, rfl, Or.inl q472⟩))⟩)
theorem kv8_46000 : 0 = 0 ∨ OKo 8 46 89 ∨ OKv 8 46 0 89 := Or.inl rfl
theorem kv8_46007 : 7 = 0 ∨ OKo 8 46 89 ∨ OKv 8 46 7 89 := Or.inr (Or.inr ⟨0, mk_89, rfl, q657, Or.inr (Or.inr (Or.inr (Or.inl ⟨rfl, _, "SecondHelpings$Reader", q1381, q1382, q1383, rfl, by decide, Or.inl rfl⟩)))⟩)
theorem kv8_50000 : 0 = 0 ∨ OKo 8 50 117 ∨ OKv 8 50 0 117 := Or.inl rfl
theorem kv8_50007 : 7 = 0 ∨ OKo 8 50 117 ∨ OKv 8 50 7 117 := Or.inr (Or.inr ⟨1, mk_117, rfl, q1386, Or.inl ⟨rfl, rfl, q1384, qs23⟩⟩)
theorem kv8_57000 : 0 = 0 ∨ OKo 8 57 97 ∨ OKv 8 57 0 97 := Or.inl rfl
theorem kv8_57007 : 7 = 0 ∨ OKo 8 57 97 ∨ OKv 8 57 7 97 := Or.inr (Or.inr ⟨2, mk_97, rfl, q750, Or.inr (Or.inr (Or.inr (Or.inl ⟨rfl, _, "SecondHelpings$Reader", q1407, q1408, q1409, rfl, by decide, Or.inl rfl⟩)))⟩)
theorem kv8_61000 : 0 = 0 ∨ OKo 8 61 118 ∨ OKv 8 61 0 118 := Or.inl rfl
theorem kv8_61007 : 7 = 0 ∨ OKo 8 61 118 ∨ OKv 8 61 7 118 := Or.inr (Or.inr ⟨1, mk_118, rfl, q1390, Or.inl ⟨rfl, rfl, q1388, qs24⟩⟩)
theorem kv8_66000 : 0 = 0 ∨ OKo 8 66 96 ∨ OKv 8 66 0 96 := Or.inl rfl
theorem kv8_66007 : 7 = 0 ∨ OKo 8 66 96 ∨ OKv 8 66 7 96 := Or.inr (Or.inr ⟨1, mk_96, rfl, q692, Or.inr (Or.inr (Or.inr (Or.inl ⟨rfl, _, "SecondHelpings$Reader", q1397, q1398, q1399, rfl, by decide, Or.inl rfl⟩)))⟩)
theorem kv8_70000 : 0 = 0 ∨ OKo 8 70 90 ∨ OKv 8 70 0 90 := Or.inl rfl
theorem kv8_70007 : 7 = 0 ∨ OKo 8 70 90 ∨ OKv 8 70 7 90 := Or.inr (Or.inr ⟨0, mk_90, rfl, q660, Or.inr (Or.inr (Or.inr (Or.inl ⟨rfl, _, "SecondHelpings$Reader", q1410, q1411, q1412, rfl, by decide, Or.inl rfl⟩)))⟩)
theorem kv8_75000 : 0 = 0 ∨ OKo 8 75 271 ∨ OKv 8 75 0 271 := Or.inl rfl
theorem kv8_75020 : 20 = 0 ∨ OKo 8 75 271 ∨ OKv 8 75 20 271 := Or.inr (Or.inr ⟨2, mk_271, rfl, q1476, Or.inr (Or.inr (Or.inl ⟨rfl, rfl, rfl, Or.inl q1475⟩))⟩)
theorem kv8_78000 : 0 = 0 ∨ OKo 8 78 119 ∨ OKv 8 78 0 119 := Or.inl rfl
theorem kv8_78007 : 7 = 0 ∨ OKo 8 78 119 ∨ OKv 8 78 7 119 := Or.inr (Or.inr ⟨1, mk_119, rfl, q1394, Or.inl ⟨rfl, rfl, q1392, qs25⟩⟩)
theorem kv8_85000 : 0 = 0 ∨ OKo 8 85 269 ∨ OKv 8 85 0 269 := Or.inl rfl
theorem kv8_85019 : 19 = 0 ∨ OKo 8 85 269 ∨ OKv 8 85 19 269 := Or.inr (Or.inr ⟨2, mk_269, rfl, q1462, Or.inr (Or.inr (Or.inl ⟨rfl, rfl, rfl, Or.inl q1461⟩))⟩)
theorem kv8_88000 : 0 = 0 ∨ OKo 8 88 105 ∨ OKv 8 88 0 105 := Or.inl rfl
theorem kv8_88007 : 7 = 0 ∨ OKo 8 88 105 ∨ OKv 8 88 7 105 := Or.inr (Or.inr ⟨1, mk_105, rfl, q834, Or.inr (Or.inr (Or.inr (Or.inl ⟨rfl, _, "SecondHelpings$Reader", q1400, q1401, q1403, rfl, by decide, Or.inl rfl⟩)))⟩)
theorem kv8_91000 : 0 = 0 ∨ OKo 8 91 95 ∨ OKv 8 91 0 95 := Or.inl rfl
theorem kv8_91007 : 7 = 0 ∨ OKo 8 91 95 ∨ OKv 8 91 7 95 := Or.inr (Or.inr ⟨1, mk_95, rfl, q689, Or.inr (Or.inr (Or.inr (Or.inl ⟨rfl, _, "SecondHelpings$Reader", q1404, q1405, q1406, rfl, by decide, Or.inl rfl⟩)))⟩)
theorem kv8_97000 : 0 = 0 ∨ OKo 8 97 263 ∨ OKv 8 97 0 263 := Or.inl rfl
theorem kv8_97016 : 16 = 0 ∨ OKo 8 97 263 ∨ OKv 8 97 16 263 := Or.inr (Or.inr ⟨1, mk_263, rfl, q1416, Or.inr (Or.inr (Or.inl ⟨rfl, rfl, rfl, Or.inl q1415⟩))⟩)
theorem kv8_100000 : 0 = 0 ∨ OKo 8 100 104 ∨ OKv 8 100 0 104 := Or.inl rfl
theorem kv8_100007 : 7 = 0 ∨ OKo 8 100 104 ∨ OKv 8 100 7 104 := Or.inr (Or.inr ⟨1, mk_104, rfl, q831, Or.inr (Or.inr (Or.inr (Or.inl ⟨rfl, _, "SecondHelpings$Reader", q1423, q1424, q1425, rfl, by decide, Or.inl rfl⟩)))⟩)
theorem kv8_119000 : 0 = 0 ∨ OKo 8 119 102 ∨ OKv 8 119 0 102 := Or.inl rfl
theorem kv8_119007 : 7 = 0 ∨ OKo 8 119 102 ∨ OKv 8 119 7 102 := Or.inr (Or.inr ⟨2, mk_102, rfl, q807, Or.inr (Or.inr (Or.inr (Or.inl ⟨rfl, _, "SecondHelpings$Reader", q1428, q1429, q1430, rfl, by decide, Or.inl rfl⟩)))⟩)
theorem kv8_129000 : 0 = 0 ∨ OKo 8 129 265 ∨ OKv 8 129 0 265 := Or.inl rfl
theorem kv8_129017 : 17 = 0 ∨ OKo 8 129 265 ∨ OKv 8 129 17 265 := Or.inr (Or.inr ⟨2, mk_265, rfl, q1432, Or.inr (Or.inr (Or.inl ⟨rfl, rfl, rfl, Or.inl q1431⟩))⟩)
theorem kv8_137000 : 0 = 0 ∨ OKo 8 137 267 ∨ OKv 8 137 0 267 := Or.inl rfl
theorem kv8_137018 : 18 = 0 ∨ OKo 8 137 267 ∨ OKv 8 137 18 267 := Or.inr (Or.inr ⟨3, mk_267, rfl, q1445, Or.inr (Or.inr (Or.inl ⟨rfl, rfl, rfl, Or.inl q1444⟩))⟩)
theorem kv9_1000 : 0 = 0 ∨ OKo 9 1 301 ∨ OKv 9 1 0 301 := Or.inl rfl
theorem kv9_1008 : 8 = 0 ∨ OKo 9 1 301 ∨ OKv 9 1 8 301 := Or.inr (Or.inl ⟨rfl, q1606⟩)
theorem kv9_88000 : 0 = 0 ∨ OKo 9 88 123 ∨ OKv 9 88 0 123 := Or.inl rfl
theorem kv9_88008 : 8 = 0 ∨ OKo 9 88 123 ∨ OKv 9 88 8 123 := Or.inr (Or.inr ⟨1, mk_123, rfl, q1772, Or.inl ⟨rfl, rfl, q1770, qs26⟩⟩)
theorem kv9_124000 : 0 = 0 ∨ OKo 9 124 131 ∨ OKv 9 124 0 131 := Or.inl rfl
theorem kv9_124008 : 8 = 0 ∨ OKo 9 124 131 ∨ OKv 9 124 8 131 := Or.inr (Or.inr ⟨1, mk_131, rfl, q1802, Or.inl ⟨rfl, rfl, q1800, qs30⟩⟩)
theorem kv9_146000 : 0 = 0 ∨ OKo 9 146 138 ∨ OKv 9 146 0 138 := Or.inl rfl
theorem kv9_146008 : 8 = 0 ∨ OKo 9 146 138 ∨ OKv 9 146 8 138 := Or.inr (Or.inr ⟨1, mk_138, rfl, q1830, Or.inl ⟨rfl, rfl, q1828, qs35⟩⟩)
theorem kv9_156000 : 0 = 0 ∨ OKo 9 156 128 ∨ OKv 9 156 0 128 := Or.inl rfl
theorem kv9_156008 : 8 = 0 ∨ OKo 9 156 128 ∨ OKv 9 156 8 128 := Or.inr (Or.inr ⟨0, mk_128, rfl, q1792, Or.inl ⟨rfl, rfl, q1790, qs29⟩⟩)
theorem kv9_159000 : 0 = 0 ∨ OKo 9 159 151 ∨ OKv 9 159 0 151 := Or.inl rfl
theorem kv9_159008 : 8 = 0 ∨ OKo 9 159 151 ∨ OKv 9 159 8 151 := Or.inr (Or.inr ⟨1, mk_151, rfl, q1880, Or.inl ⟨rfl, rfl, q1878, qs46⟩⟩)
theorem kv9_162000 : 0 = 0 ∨ OKo 9 162 127 ∨ OKv 9 162 0 127 := Or.inl rfl
theorem kv9_162008 : 8 = 0 ∨ OKo 9 162 127 ∨ OKv 9 162 8 127 := Or.inr (Or.inr ⟨0, mk_127, rfl, q1788, Or.inl ⟨rfl, rfl, q1786, qs28⟩⟩)
theorem kv9_166000 : 0 = 0 ∨ OKo 9 166 140 ∨ OKv 9 166 0 140 := Or.inl rfl
theorem kv9_166008 : 8 = 0 ∨ OKo 9 166 140 ∨ OKv 9 166 8 140 := Or.inr (Or.inr ⟨0, mk_140, rfl, q1838, Or.inl ⟨rfl, rfl, q1836, qs37⟩⟩)
theorem kv9_174000 : 0 = 0 ∨ OKo 9 174 146 ∨ OKv 9 174 0 146 := Or.inl rfl
theorem kv9_174008 : 8 = 0 ∨ OKo 9 174 146 ∨ OKv 9 174 8 146 := Or.inr (Or.inr ⟨2, mk_146, rfl, q1860, Or.inl ⟨rfl, rfl, q1858, qs41⟩⟩)
theorem kv9_178000 : 0 = 0 ∨ OKo 9 178 137 ∨ OKv 9 178 0 137 := Or.inl rfl
theorem kv9_178008 : 8 = 0 ∨ OKo 9 178 137 ∨ OKv 9 178 8 137 := Or.inr (Or.inr ⟨2, mk_137, rfl, q1826, Or.inl ⟨rfl, rfl, q1824, qs34⟩⟩)
theorem kv9_181000 : 0 = 0 ∨ OKo 9 181 139 ∨ OKv 9 181 0 139 := Or.inl rfl
theorem kv9_181008 : 8 = 0 ∨ OKo 9 181 139 ∨ OKv 9 181 8 139 := Or.inr (Or.inr ⟨1, mk_139, rfl, q1834, Or.inl ⟨rfl, rfl, q1832, qs36⟩⟩)
theorem kv9_184000 : 0 = 0 ∨ OKo 9 184 142 ∨ OKv 9 184 0 142 := Or.inl rfl
theorem kv9_184008 : 8 = 0 ∨ OKo 9 184 142 ∨ OKv 9 184 8 142 := Or.inr (Or.inr ⟨2, mk_142, rfl, q1845, Or.inl ⟨rfl, rfl, q1843, qs38⟩⟩)
theorem kv9_187000 : 0 = 0 ∨ OKo 9 187 144 ∨ OKv 9 187 0 144 := Or.inl rfl
theorem kv9_187008 : 8 = 0 ∨ OKo 9 187 144 ∨ OKv 9 187 8 144 := Or.inr (Or.inr ⟨2, mk_144, rfl, q1852, Or.inl ⟨rfl, rfl, q1850, qs39⟩⟩)
theorem kv9_191000 : 0 = 0 ∨ OKo 9 191 133 ∨ OKv 9 191 0 133 := Or.inl rfl
theorem kv9_191008 : 8 = 0 ∨ OKo 9 191 133 ∨ OKv 9 191 8 133 := Or.inr (Or.inr ⟨1, mk_133, rfl, q1812, Or.inl ⟨rfl, rfl, q1810, qs32⟩⟩)
theorem kv9_194000 : 0 = 0 ∨ OKo 9 194 145 ∨ OKv 9 194 0 145 := Or.inl rfl
theorem kv9_194008 : 8 = 0 ∨ OKo 9 194 145 ∨ OKv 9 194 8 145 := Or.inr (Or.inr ⟨2, mk_145, rfl, q1856, Or.inl ⟨rfl, rfl, q1854, qs40⟩⟩)
theorem kv9_201000 : 0 = 0 ∨ OKo 9 201 136 ∨ OKv 9 201 0 136 := Or.inl rfl
theorem kv9_201008 : 8 = 0 ∨ OKo 9 201 136 ∨ OKv 9 201 8 136 := Or.inr (Or.inr ⟨0, mk_136, rfl, q1822, Or.inl ⟨rfl, rfl, q1820, qs33⟩⟩)
theorem kv9_204000 : 0 = 0 ∨ OKo 9 204 147 ∨ OKv 9 204 0 147 := Or.inl rfl
theorem kv9_204008 : 8 = 0 ∨ OKo 9 204 147 ∨ OKv 9 204 8 147 := Or.inr (Or.inr ⟨0, mk_147, rfl, q1864, Or.inl ⟨rfl, rfl, q1862, qs42⟩⟩)
theorem kv9_207000 : 0 = 0 ∨ OKo 9 207 148 ∨ OKv 9 207 0 148 := Or.inl rfl
theorem kv9_207008 : 8 = 0 ∨ OKo 9 207 148 ∨ OKv 9 207 8 148 := Or.inr (Or.inr ⟨0, mk_148, rfl, q1868, Or.inl ⟨rfl, rfl, q1866, qs43⟩⟩)
theorem kv9_210000 : 0 = 0 ∨ OKo 9 210 149 ∨ OKv 9 210 0 149 := Or.inl rfl
theorem kv9_210008 : 8 = 0 ∨ OKo 9 210 149 ∨ OKv 9 210 8 149 := Or.inr (Or.inr ⟨0, mk_149, rfl, q1872, Or.inl ⟨rfl, rfl, q1870, qs44⟩⟩)
theorem kv9_216000 : 0 = 0 ∨ OKo 9 216 126 ∨ OKv 9 216 0 126 := Or.inl rfl
theorem kv9_216008 : 8 = 0 ∨ OKo 9 216 126 ∨ OKv 9 216 8 126 := Or.inr (Or.inr ⟨1, mk_126, rfl, q1784, Or.inl ⟨rfl, rfl, q1782, qs27⟩⟩)
theorem kv9_219000 : 0 = 0 ∨ OKo 9 219 132 ∨ OKv 9 219 0 132 := Or.inl rfl
theorem kv9_219008 : 8 = 0 ∨ OKo 9 219 132 ∨ OKv 9 219 8 132 := Or.inr (Or.inr ⟨0, mk_132, rfl, q1808, Or.inl ⟨rfl, rfl, q1806, qs31⟩⟩)
theorem kv9_222000 : 0 = 0 ∨ OKo 9 222 150 ∨ OKv 9 222 0 150 := Or.inl rfl
theorem kv9_222008 : 8 = 0 ∨ OKo 9 222 150 ∨ OKv 9 222 8 150 := Or.inr (Or.inr ⟨0, mk_150, rfl, q1876, Or.inl ⟨rfl, rfl, q1874, qs45⟩⟩)
theorem kv9_225000 : 0 = 0 ∨ OKo 9 225 152 ∨ OKv 9 225 0 152 := Or.inl rfl
theorem kv9_225008 : 8 = 0 ∨ OKo 9 225 152 ∨ OKv 9 225 8 152 := Or.inr (Or.inr ⟨0, mk_152, rfl, q1884, Or.inl ⟨rfl, rfl, q1882, qs47⟩⟩)
theorem kv9_234000 : 0 = 0 ∨ OKo 9 234 160 ∨ OKv 9 234 0 160 := Or.inl rfl
theorem kv9_234008 : 8 = 0 ∨ OKo 9 234 160 ∨ OKv 9 234 8 160 := Or.inr (Or.inr ⟨2, mk_160, rfl, q1915, Or.inl ⟨rfl, rfl, q1913, qs52⟩⟩)
theorem kv9_238000 : 0 = 0 ∨ OKo 9 238 155 ∨ OKv 9 238 0 155 := Or.inl rfl
theorem kv9_238008 : 8 = 0 ∨ OKo 9 238 155 ∨ OKv 9 238 8 155 := Or.inr (Or.inr ⟨1, mk_155, rfl, q1896, Or.inl ⟨rfl, rfl, q1894, qs48⟩⟩)
theorem kv9_241000 : 0 = 0 ∨ OKo 9 241 156 ∨ OKv 9 241 0 156 := Or.inl rfl
theorem kv9_241008 : 8 = 0 ∨ OKo 9 241 156 ∨ OKv 9 241 8 156 := Or.inr (Or.inr ⟨0, mk_156, rfl, q1900, Or.inl ⟨rfl, rfl, q1898, qs49⟩⟩)
theorem kv9_244000 : 0 = 0 ∨ OKo 9 244 157 ∨ OKv 9 244 0 157 := Or.inl rfl
theorem kv9_244008 : 8 = 0 ∨ OKo 9 244 157 ∨ OKv 9 244 8 157 := Or.inr (Or.inr ⟨1, mk_157, rfl, q1904, Or.inl ⟨rfl, rfl, q1902, qs50⟩⟩)
theorem kv9_247000 : 0 = 0 ∨ OKo 9 247 159 ∨ OKv 9 247 0 159 := Or.inl rfl
theorem kv9_247008 : 8 = 0 ∨ OKo 9 247 159 ∨ OKv 9 247 8 159 := Or.inr (Or.inr ⟨1, mk_159, rfl, q1911, Or.inl ⟨rfl, rfl, q1909, qs51⟩⟩)
theorem kv9_250000 : 0 = 0 ∨ OKo 9 250 162 ∨ OKv 9 250 0 162 := Or.inl rfl
theorem kv9_250008 : 8 = 0 ∨ OKo 9 250 162 ∨ OKv 9 250 8 162 := Or.inr (Or.inr ⟨1, mk_162, rfl, q1923, Or.inl ⟨rfl, rfl, q1921, qs53⟩⟩)
theorem kv9_253000 : 0 = 0 ∨ OKo 9 253 165 ∨ OKv 9 253 0 165 := Or.inl rfl
theorem kv9_253008 : 8 = 0 ∨ OKo 9 253 165 ∨ OKv 9 253 8 165 := Or.inr (Or.inr ⟨1, mk_165, rfl, q1935, Or.inl ⟨rfl, rfl, q1933, qs54⟩⟩)
theorem kv9_256000 : 0 = 0 ∨ OKo 9 256 169 ∨ OKv 9 256 0 169 := Or.inl rfl
theorem kv9_256008 : 8 = 0 ∨ OKo 9 256 169 ∨ OKv 9 256 8 169 := Or.inr (Or.inr ⟨2, mk_169, rfl, q1951, Or.inl ⟨rfl, rfl, q1949, qs57⟩⟩)
theorem kv9_259000 : 0 = 0 ∨ OKo 9 259 167 ∨ OKv 9 259 0 167 := Or.inl rfl
theorem kv9_259008 : 8 = 0 ∨ OKo 9 259 167 ∨ OKv 9 259 8 167 := Or.inr (Or.inr ⟨0, mk_167, rfl, q1943, Or.inl ⟨rfl, rfl, q1941, qs55⟩⟩)
theorem kv9_262000 : 0 = 0 ∨ OKo 9 262 168 ∨ OKv 9 262 0 168 := Or.inl rfl
theorem kv9_262008 : 8 = 0 ∨ OKo 9 262 168 ∨ OKv 9 262 8 168 := Or.inr (Or.inr ⟨2, mk_168, rfl, q1947, Or.inl ⟨rfl, rfl, q1945, qs56⟩⟩)
theorem kv9_268000 : 0 = 0 ∨ OKo 9 268 174 ∨ OKv 9 268 0 174 := Or.inl rfl
theorem kv9_268008 : 8 = 0 ∨ OKo 9 268 174 ∨ OKv 9 268 8 174 := Or.inr (Or.inr ⟨1, mk_174, rfl, q1971, Or.inl ⟨rfl, rfl, q1969, qs60⟩⟩)
theorem kv9_271000 : 0 = 0 ∨ OKo 9 271 177 ∨ OKv 9 271 0 177 := Or.inl rfl
theorem kv9_271008 : 8 = 0 ∨ OKo 9 271 177 ∨ OKv 9 271 8 177 := Or.inr (Or.inr ⟨3, mk_177, rfl, q1983, Or.inl ⟨rfl, rfl, q1981, qs63⟩⟩)
theorem kv9_275000 : 0 = 0 ∨ OKo 9 275 178 ∨ OKv 9 275 0 178 := Or.inl rfl
theorem kv9_275008 : 8 = 0 ∨ OKo 9 275 178 ∨ OKv 9 275 8 178 := Or.inr (Or.inr ⟨1, mk_178, rfl, q1987, Or.inl ⟨rfl, rfl, q1985, qs64⟩⟩)
theorem kv9_278000 : 0 = 0 ∨ OKo 9 278 173 ∨ OKv 9 278 0 173 := Or.inl rfl
theorem kv9_278008 : 8 = 0 ∨ OKo 9 278 173 ∨ OKv 9 278 8 173 := Or.inr (Or.inr ⟨4, mk_173, rfl, q1967, Or.inl ⟨rfl, rfl, q1965, qs59⟩⟩)
theorem kv9_282000 : 0 = 0 ∨ OKo 9 282 175 ∨ OKv 9 282 0 175 := Or.inl rfl
theorem kv9_282008 : 8 = 0 ∨ OKo 9 282 175 ∨ OKv 9 282 8 175 := Or.inr (Or.inr ⟨0, mk_175, rfl, q1975, Or.inl ⟨rfl, rfl, q1973, qs61⟩⟩)
theorem kv9_285000 : 0 = 0 ∨ OKo 9 285 176 ∨ OKv 9 285 0 176 := Or.inl rfl
theorem kv9_285008 : 8 = 0 ∨ OKo 9 285 176 ∨ OKv 9 285 8 176 := Or.inr (Or.inr ⟨4, mk_176, rfl, q1979, Or.inl ⟨rfl, rfl, q1977, qs62⟩⟩)
theorem kv9_289000 : 0 = 0 ∨ OKo 9 289 172 ∨ OKv 9 289 0 172 := Or.inl rfl
theorem kv9_289008 : 8 = 0 ∨ OKo 9 289 172 ∨ OKv 9 289 8 172 := Or.inr (Or.inr ⟨4, mk_172, rfl, q1963, Or.inl ⟨rfl, rfl, q1961, qs58⟩⟩)
theorem kv9_292000 : 0 = 0 ∨ OKo 9 292 188 ∨ OKv 9 292 0 188 := Or.inl rfl
theorem kv9_292008 : 8 = 0 ∨ OKo 9 292 188 ∨ OKv 9 292 8 188 := Or.inr (Or.inr ⟨0, mk_188, rfl, q2026, Or.inl ⟨rfl, rfl, q2024, qs66⟩⟩)
theorem kv9_295000 : 0 = 0 ∨ OKo 9 295 187 ∨ OKv 9 295 0 187 := Or.inl rfl
theorem kv9_295008 : 8 = 0 ∨ OKo 9 295 187 ∨ OKv 9 295 8 187 := Or.inr (Or.inr ⟨1, mk_187, rfl, q2022, Or.inl ⟨rfl, rfl, q2020, qs65⟩⟩)
theorem kv9_301000 : 0 = 0 ∨ OKo 9 301 193 ∨ OKv 9 301 0 193 := Or.inl rfl
theorem kv9_301008 : 8 = 0 ∨ OKo 9 301 193 ∨ OKv 9 301 8 193 := Or.inr (Or.inr ⟨1, mk_193, rfl, q2046, Or.inl ⟨rfl, rfl, q2044, qs69⟩⟩)
theorem kv9_304000 : 0 = 0 ∨ OKo 9 304 192 ∨ OKv 9 304 0 192 := Or.inl rfl
theorem kv9_304008 : 8 = 0 ∨ OKo 9 304 192 ∨ OKv 9 304 8 192 := Or.inr (Or.inr ⟨2, mk_192, rfl, q2042, Or.inl ⟨rfl, rfl, q2040, qs68⟩⟩)
theorem kv9_309000 : 0 = 0 ∨ OKo 9 309 190 ∨ OKv 9 309 0 190 := Or.inl rfl
theorem kv9_309008 : 8 = 0 ∨ OKo 9 309 190 ∨ OKv 9 309 8 190 := Or.inr (Or.inr ⟨0, mk_190, rfl, q2035, Or.inl ⟨rfl, rfl, q2033, qs67⟩⟩)
theorem kv9_323000 : 0 = 0 ∨ OKo 9 323 202 ∨ OKv 9 323 0 202 := Or.inl rfl
theorem kv9_323008 : 8 = 0 ∨ OKo 9 323 202 ∨ OKv 9 323 8 202 := Or.inr (Or.inr ⟨3, mk_202, rfl, q2081, Or.inl ⟨rfl, rfl, q2079, qs70⟩⟩)
theorem kv9_329000 : 0 = 0 ∨ OKo 9 329 205 ∨ OKv 9 329 0 205 := Or.inl rfl
theorem kv9_329008 : 8 = 0 ∨ OKo 9 329 205 ∨ OKv 9 329 8 205 := Or.inr (Or.inr ⟨0, mk_205, rfl, q2093, Or.inl ⟨rfl, rfl, q2091, qs71⟩⟩)
theorem kv9_332000 : 0 = 0 ∨ OKo 9 332 206 ∨ OKv 9 332 0 206 := Or.inl rfl
theorem kv9_332008 : 8 = 0 ∨ OKo 9 332 206 ∨ OKv 9 332 8 206 := Or.inr (Or.inr ⟨0, mk_206, rfl, q2097, Or.inl ⟨rfl, rfl, q2095, qs72⟩⟩)
theorem kv9_338000 : 0 = 0 ∨ OKo 9 338 210 ∨ OKv 9 338 0 210 := Or.inl rfl
theorem kv9_338008 : 8 = 0 ∨ OKo 9 338 210 ∨ OKv 9 338 8 210 := Or.inr (Or.inr ⟨1, mk_210, rfl, q2113, Or.inl ⟨rfl, rfl, q2111, qs73⟩⟩)
theorem kv9_342000 : 0 = 0 ∨ OKo 9 342 211 ∨ OKv 9 342 0 211 := Or.inl rfl
theorem kv9_342008 : 8 = 0 ∨ OKo 9 342 211 ∨ OKv 9 342 8 211 := Or.inr (Or.inr ⟨1, mk_211, rfl, q2117, Or.inl ⟨rfl, rfl, q2115, qs74⟩⟩)
theorem kv9_345000 : 0 = 0 ∨ OKo 9 345 213 ∨ OKv 9 345 0 213 := Or.inl rfl
theorem kv9_345008 : 8 = 0 ∨ OKo 9 345 213 ∨ OKv 9 345 8 213 := Or.inr (Or.inr ⟨1, mk_213, rfl, q2125, Or.inl ⟨rfl, rfl, q2123, qs76⟩⟩)
theorem kv9_348000 : 0 = 0 ∨ OKo 9 348 212 ∨ OKv 9 348 0 212 := Or.inl rfl
theorem kv9_348008 : 8 = 0 ∨ OKo 9 348 212 ∨ OKv 9 348 8 212 := Or.inr (Or.inr ⟨1, mk_212, rfl, q2121, Or.inl ⟨rfl, rfl, q2119, qs75⟩⟩)
theorem kv9_355000 : 0 = 0 ∨ OKo 9 355 217 ∨ OKv 9 355 0 217 := Or.inl rfl
theorem kv9_355008 : 8 = 0 ∨ OKo 9 355 217 ∨ OKv 9 355 8 217 := Or.inr (Or.inr ⟨1, mk_217, rfl, q2141, Or.inl ⟨rfl, rfl, q2139, qs78⟩⟩)
theorem kv9_358000 : 0 = 0 ∨ OKo 9 358 216 ∨ OKv 9 358 0 216 := Or.inl rfl
theorem kv9_358008 : 8 = 0 ∨ OKo 9 358 216 ∨ OKv 9 358 8 216 := Or.inr (Or.inr ⟨2, mk_216, rfl, q2137, Or.inl ⟨rfl, rfl, q2135, qs77⟩⟩)
theorem kv9_364000 : 0 = 0 ∨ OKo 9 364 221 ∨ OKv 9 364 0 221 := Or.inl rfl
theorem kv9_364008 : 8 = 0 ∨ OKo 9 364 221 ∨ OKv 9 364 8 221 := Or.inr (Or.inr ⟨1, mk_221, rfl, q2158, Or.inl ⟨rfl, rfl, q2156, qs80⟩⟩)
theorem kv9_367000 : 0 = 0 ∨ OKo 9 367 220 ∨ OKv 9 367 0 220 := Or.inl rfl
theorem kv9_367008 : 8 = 0 ∨ OKo 9 367 220 ∨ OKv 9 367 8 220 := Or.inr (Or.inr ⟨0, mk_220, rfl, q2154, Or.inl ⟨rfl, rfl, q2152, qs79⟩⟩)
theorem kv9_370000 : 0 = 0 ∨ OKo 9 370 222 ∨ OKv 9 370 0 222 := Or.inl rfl
theorem kv9_370008 : 8 = 0 ∨ OKo 9 370 222 ∨ OKv 9 370 8 222 := Or.inr (Or.inr ⟨1, mk_222, rfl, q2162, Or.inl ⟨rfl, rfl, q2160, qs81⟩⟩)
theorem kv9_376000 : 0 = 0 ∨ OKo 9 376 223 ∨ OKv 9 376 0 223 := Or.inl rfl
theorem kv9_376008 : 8 = 0 ∨ OKo 9 376 223 ∨ OKv 9 376 8 223 := Or.inr (Or.inr ⟨1, mk_223, rfl, q2166, Or.inl ⟨rfl, rfl, q2164, qs82⟩⟩)
theorem kv9_383000 : 0 = 0 ∨ OKo 9 383 227 ∨ OKv 9 383 0 227 := Or.inl rfl
theorem kv9_383008 : 8 = 0 ∨ OKo 9 383 227 ∨ OKv 9 383 8 227 := Or.inr (Or.inr ⟨0, mk_227, rfl, q2182, Or.inl ⟨rfl, rfl, q2180, qs84⟩⟩)
theorem kv9_389000 : 0 = 0 ∨ OKo 9 389 231 ∨ OKv 9 389 0 231 := Or.inl rfl
theorem kv9_389008 : 8 = 0 ∨ OKo 9 389 231 ∨ OKv 9 389 8 231 := Or.inr (Or.inr ⟨4, mk_231, rfl, q2198, Or.inl ⟨rfl, rfl, q2196, qs88⟩⟩)
theorem kv9_392000 : 0 = 0 ∨ OKo 9 392 228 ∨ OKv 9 392 0 228 := Or.inl rfl
theorem kv9_392008 : 8 = 0 ∨ OKo 9 392 228 ∨ OKv 9 392 8 228 := Or.inr (Or.inr ⟨0, mk_228, rfl, q2186, Or.inl ⟨rfl, rfl, q2184, qs85⟩⟩)
theorem kv9_401000 : 0 = 0 ∨ OKo 9 401 229 ∨ OKv 9 401 0 229 := Or.inl rfl
theorem kv9_401008 : 8 = 0 ∨ OKo 9 401 229 ∨ OKv 9 401 8 229 := Or.inr (Or.inr ⟨0, mk_229, rfl, q2190, Or.inl ⟨rfl, rfl, q2188, qs86⟩⟩)
theorem kv9_404000 : 0 = 0 ∨ OKo 9 404 230 ∨ OKv 9 404 0 230 := Or.inl rfl
theorem kv9_404008 : 8 = 0 ∨ OKo 9 404 230 ∨ OKv 9 404 8 230 := Or.inr (Or.inr ⟨0, mk_230, rfl, q2194, Or.inl ⟨rfl, rfl, q2192, qs87⟩⟩)
theorem kv9_407000 : 0 = 0 ∨ OKo 9 407 232 ∨ OKv 9 407 0 232 := Or.inl rfl
theorem kv9_407008 : 8 = 0 ∨ OKo 9 407 232 ∨ OKv 9 407 8 232 := Or.inr (Or.inr ⟨1, mk_232, rfl, q2202, Or.inl ⟨rfl, rfl, q2200, qs89⟩⟩)
theorem kv9_410000 : 0 = 0 ∨ OKo 9 410 234 ∨ OKv 9 410 0 234 := Or.inl rfl
theorem kv9_410008 : 8 = 0 ∨ OKo 9 410 234 ∨ OKv 9 410 8 234 := Or.inr (Or.inr ⟨1, mk_234, rfl, q2210, Or.inl ⟨rfl, rfl, q2208, qs91⟩⟩)
theorem kv9_413000 : 0 = 0 ∨ OKo 9 413 226 ∨ OKv 9 413 0 226 := Or.inl rfl
theorem kv9_413008 : 8 = 0 ∨ OKo 9 413 226 ∨ OKv 9 413 8 226 := Or.inr (Or.inr ⟨0, mk_226, rfl, q2178, Or.inl ⟨rfl, rfl, q2176, qs83⟩⟩)
theorem kv9_416000 : 0 = 0 ∨ OKo 9 416 233 ∨ OKv 9 416 0 233 := Or.inl rfl
theorem kv9_416008 : 8 = 0 ∨ OKo 9 416 233 ∨ OKv 9 416 8 233 := Or.inr (Or.inr ⟨2, mk_233, rfl, q2206, Or.inl ⟨rfl, rfl, q2204, qs90⟩⟩)
theorem kv9_419000 : 0 = 0 ∨ OKo 9 419 236 ∨ OKv 9 419 0 236 := Or.inl rfl
theorem kv9_419008 : 8 = 0 ∨ OKo 9 419 236 ∨ OKv 9 419 8 236 := Or.inr (Or.inr ⟨2, mk_236, rfl, q2218, Or.inl ⟨rfl, rfl, q2216, qs92⟩⟩)
theorem kv10_1000 : 0 = 0 ∨ OKo 10 1 301 ∨ OKv 10 1 0 301 := Or.inl rfl
theorem kv10_1009 : 9 = 0 ∨ OKo 10 1 301 ∨ OKv 10 1 9 301 := Or.inr (Or.inl ⟨rfl, q1209⟩)
theorem kv10_1010 : 10 = 0 ∨ OKo 10 1 301 ∨ OKv 10 1 10 301 := Or.inr (Or.inl ⟨rfl, q1209⟩)
theorem kv10_1011 : 11 = 0 ∨ OKo 10 1 301 ∨ OKv 10 1 11 301 := Or.inr (Or.inl ⟨rfl, q1209⟩)
theorem kv10_1012 : 12 = 0 ∨ OKo 10 1 301 ∨ OKv 10 1 12 301 := Or.inr (Or.inl ⟨rfl, q1209⟩)
theorem kv10_1013 : 13 = 0 ∨ OKo 10 1 301 ∨ OKv 10 1 13 301 := Or.inr (Or.inl ⟨rfl, q1209⟩)
theorem kv10_1014 : 14 = 0 ∨ OKo 10 1 301 ∨ OKv 10 1 14 301 := Or.inr (Or.inl ⟨rfl, q1209⟩)
theorem kv10_1015 : 15 = 0 ∨ OKo 10 1 301 ∨ OKv 10 1 15 301 := Or.inr (Or.inl ⟨rfl, q1209⟩)
theorem kv11_3000 : 0 = 0 ∨ OKo 11 3 240 ∨ OKv 11 3 0 240 := Or.inl rfl
theorem kv11_3009 : 9 = 0 ∨ OKo 11 3 240 ∨ OKv 11 3 9 240 := Or.inr (Or.inr ⟨0, mk_240, rfl, q1207, Or.inr (Or.inr (Or.inl ⟨rfl, rfl, rfl, Or.inr ⟨_, q1206⟩⟩))⟩)
theorem kv11_3010 : 10 = 0 ∨ OKo 11 3 240 ∨ OKv 11 3 10 240 := Or.inr (Or.inr ⟨0, mk_240, rfl, q1207, Or.inr (Or.inr (Or.inl ⟨rfl, rfl, rfl, Or.inr ⟨_, q1206⟩⟩))⟩)
theorem kv11_3011 : 11 = 0 ∨ OKo 11 3 240 ∨ OKv 11 3 11 240 := Or.inr (Or.inr ⟨0, mk_240, rfl, q1207, Or.inr (Or.inr (Or.inl ⟨rfl, rfl, rfl, Or.inr ⟨_, q1206⟩⟩))⟩)
theorem kv11_3012 : 12 = 0 ∨ OKo 11 3 240 ∨ OKv 11 3 12 240 := Or.inr (Or.inr ⟨0, mk_240, rfl, q1207, Or.inr (Or.inr (Or.inl ⟨rfl, rfl, rfl, Or.inr ⟨_, q1206⟩⟩))⟩)
theorem kv11_3013 : 13 = 0 ∨ OKo 11 3 240 ∨ OKv 11 3 13 240 := Or.inr (Or.inr ⟨0, mk_240, rfl, q1207, Or.inr (Or.inr (Or.inl ⟨rfl, rfl, rfl, Or.inr ⟨_, q1206⟩⟩))⟩)
theorem kv11_3014 : 14 = 0 ∨ OKo 11 3 240 ∨ OKv 11 3 14 240 := Or.inr (Or.inr ⟨0, mk_240, rfl, q1207, Or.inr (Or.inr (Or.inl ⟨rfl, rfl, rfl, Or.inr ⟨_, q1206⟩⟩))⟩)
theorem kv11_3015 : 15 = 0 ∨ OKo 11 3 240 ∨ OKv 11 3 15 240 := Or.inr (Or.inr ⟨0, mk_240, rfl, q1207, Or.inr (Or.inr (Or.inl ⟨rfl, rfl, rfl, Or.inr ⟨_, q1206⟩⟩))⟩)
theorem kv11_20000 : 0 = 0 ∨ OKo 11 20 81 ∨ OKv 11 20 0 81 := Or.inl rfl
theorem kv11_20004 : 4 = 0 ∨ OKo 11 20 81 ∨ OKv 11 20 4 81 := Or.inr (Or.inr ⟨2, mk_81, rfl, q972, Or.inl ⟨rfl, rfl, q1357, q973⟩⟩)
theorem kv12_1000 : 0 = 0 ∨ OKo 12 1 240 ∨ OKv 12 1 0 240 := Or.inl rfl
theorem kv12_1009 : 9 = 0 ∨ OKo 12 1 240 ∨ OKv 12 1 9 240 := Or.inr (Or.inr ⟨0, mk_240, rfl, q1207, Or.inr (Or.inr (Or.inl ⟨rfl, rfl, rfl, Or.inr ⟨_, q1224⟩⟩))⟩)
theorem kv12_1010 : 10 = 0 ∨ OKo 12 1 240 ∨ OKv 12 1 10 240 := Or.inr (Or.inr ⟨0, mk_240, rfl, q1207, Or.inr (Or.inr (Or.inl ⟨rfl, rfl, rfl, Or.inr ⟨_, q1224⟩⟩))⟩)
theorem kv12_1011 : 11 = 0 ∨ OKo 12 1 240 ∨ OKv 12 1 11 240 := Or.inr (Or.inr ⟨0, mk_240, rfl, q1207, Or.inr (Or.inr (Or.inl ⟨rfl, rfl, rfl, Or.inr ⟨_, q1224⟩⟩))⟩)
theorem kv12_1012 : 12 = 0 ∨ OKo 12 1 240 ∨ OKv 12 1 12 240 := Or.inr (Or.inr ⟨0, mk_240, rfl, q1207, Or.inr (Or.inr (Or.inl ⟨rfl, rfl, rfl, Or.inr ⟨_, q1224⟩⟩))⟩)
theorem kv12_1013 : 13 = 0 ∨ OKo 12 1 240 ∨ OKv 12 1 13 240 := Or.inr (Or.inr ⟨0, mk_240, rfl, q1207, Or.inr (Or.inr (Or.inl ⟨rfl, rfl, rfl, Or.inr ⟨_, q1224⟩⟩))⟩)
theorem kv12_1014 : 14 = 0 ∨ OKo 12 1 240 ∨ OKv 12 1 14 240 := Or.inr (Or.inr ⟨0, mk_240, rfl, q1207, Or.inr (Or.inr (Or.inl ⟨rfl, rfl, rfl, Or.inr ⟨_, q1224⟩⟩))⟩)
theorem kv12_1015 : 15 = 0 ∨ OKo 12 1 240 ∨ OKv 12 1 15 240 := Or.inr (Or.inr ⟨0, mk_240, rfl, q1207, Or.inr (Or.inr (Or.inl ⟨rfl, rfl, rfl, Or.inr ⟨_, q1224⟩⟩))⟩)
theorem kv12_19000 : 0 = 0 ∨ OKo 12 19 66 ∨ OKv 12 19 0 66 := Or.inl rfl
theorem kv12_19004 : 4 = 0 ∨ OKo 12 19 66 ∨ OKv 12 19 4 66 := Or.inr (Or.inr ⟨4, mk_66, rfl, q878, Or.inl ⟨rfl, rfl, q1318, q879⟩⟩)
theorem kv12_25000 : 0 = 0 ∨ OKo 12 25 68 ∨ OKv 12 25 0 68 := Or.inl rfl
theorem kv12_25004 : 4 = 0 ∨ OKo 12 25 68 ∨ OKv 12 25 4 68 := Or.inr (Or.inr ⟨3, mk_68, rfl, q892, Or.inl ⟨rfl, rfl, q1353, q893⟩⟩)
theorem kv13_1000 : 0 = 0 ∨ OKo 13 1 240 ∨ OKv 13 1 0 240 := Or.inl rfl
theorem kv13_1009 : 9 = 0 ∨ OKo 13 1 240 ∨ OKv 13 1 9 240 := Or.inr (Or.inr ⟨0, mk_240, rfl, q1207, Or.inr (Or.inr (Or.inl ⟨rfl, rfl, rfl, Or.inr ⟨_, q1240⟩⟩))⟩)
theorem kv13_1010 : 10 = 0 ∨ OKo 13 1 240 ∨ OKv 13 1 10 240 := Or.inr (Or.inr ⟨0, mk_240, rfl, q1207, Or.inr (Or.inr (Or.inl ⟨rfl, rfl, rfl, Or.inr ⟨_, q1240⟩⟩))⟩)
theorem kv13_1011 : 11 = 0 ∨ OKo 13 1 240 ∨ OKv 13 1 11 240 := Or.inr (Or.inr ⟨0, mk_240, rfl, q1207, Or.inr (Or.inr (Or.inl ⟨rfl, rfl, rfl, Or.inr ⟨_, q1240⟩⟩))⟩)
theorem kv13_1012 : 12 = 0 ∨ OKo 13 1 240 ∨ OKv 13 1 12 240 := Or.inr (Or.inr ⟨0, mk_240, rfl, q1207, Or.inr (Or.inr (Or.inl ⟨rfl, rfl, rfl, Or.inr ⟨_, q1240⟩⟩))⟩)
theorem kv13_1013 : 13 = 0 ∨ OKo 13 1 240 ∨ OKv 13 1 13 240 := Or.inr (Or.inr ⟨0, mk_240, rfl, q1207, Or.inr (Or.inr (Or.inl ⟨rfl, rfl, rfl, Or.inr ⟨_, q1240⟩⟩))⟩)
theorem kv13_1014 : 14 = 0 ∨ OKo 13 1 240 ∨ OKv 13 1 14 240 := Or.inr (Or.inr ⟨0, mk_240, rfl, q1207, Or.inr (Or.inr (Or.inl ⟨rfl, rfl, rfl, Or.inr ⟨_, q1240⟩⟩))⟩)
theorem kv13_1015 : 15 = 0 ∨ OKo 13 1 240 ∨ OKv 13 1 15 240 := Or.inr (Or.inr ⟨0, mk_240, rfl, q1207, Or.inr (Or.inr (Or.inl ⟨rfl, rfl, rfl, Or.inr ⟨_, q1240⟩⟩))⟩)
theorem kv13_19000 : 0 = 0 ∨ OKo 13 19 69 ∨ OKv 13 19 0 69 := Or.inl rfl
theorem kv13_19004 : 4 = 0 ∨ OKo 13 19 69 ∨ OKv 13 19 4 69 := Or.inr (Or.inr ⟨3, mk_69, rfl, q900, Or.inl ⟨rfl, rfl, q1337, q901⟩⟩)
theorem kv13_29000 : 0 = 0 ∨ OKo 13 29 70 ∨ OKv 13 29 0 70 := Or.inl rfl
theorem kv13_29004 : 4 = 0 ∨ OKo 13 29 70 ∨ OKv 13 29 4 70 := Or.inr (Or.inr ⟨3, mk_70, rfl, q904, Or.inl ⟨rfl, rfl, q1368, q905⟩⟩)
theorem kv14_1000 : 0 = 0 ∨ OKo 14 1 240 ∨ OKv 14 1 0 240 := Or.inl rfl
theorem kv14_1009 : 9 = 0 ∨ OKo 14 1 240 ∨ OKv 14 1 9 240 := Or.inr (Or.inr ⟨0, mk_240, rfl, q1207, Or.inr (Or.inr (Or.inl ⟨rfl, rfl, rfl, Or.inr ⟨_, q1257⟩⟩))⟩)
theorem kv14_1010 : 10 = 0 ∨ OKo 14 1 240 ∨ OKv 14 1 10 240 := Or.inr (Or.inr ⟨0, mk_240, rfl, q1207, Or.inr (Or.inr (Or.inl ⟨rfl, rfl, rfl, Or.inr ⟨_, q1257⟩⟩))⟩)
theorem kv14_1011 : 11 = 0 ∨ OKo 14 1 240 ∨ OKv 14 1 11 240 := Or.inr (Or.inr ⟨0, mk_240, rfl, q1207, Or.inr (Or.inr (Or.inl ⟨rfl, rfl, rfl, Or.inr ⟨_, q1257⟩⟩))⟩)
theorem kv14_1012 : 12 = 0 ∨ OKo 14 1 240 ∨ OKv 14 1 12 240 := Or.inr (Or.inr ⟨0, mk_240, rfl, q1207, Or.inr (Or.inr (Or.inl ⟨rfl, rfl, rfl, Or.inr ⟨_, q1257⟩⟩))⟩)
theorem kv14_1013 : 13 = 0 ∨ OKo 14 1 240 ∨ OKv 14 1 13 240 := Or.inr (Or.inr ⟨0, mk_240, rfl, q1207, Or.inr (Or.inr (Or.inl ⟨rfl, rfl, rfl, Or.inr ⟨_, q1257⟩⟩))⟩)
theorem kv14_1014 : 14 = 0 ∨ OKo 14 1 240 ∨ OKv 14 1 14 240 := Or.inr (Or.inr ⟨0, mk_240, rfl, q1207, Or.inr (Or.inr (Or.inl ⟨rfl, rfl, rfl, Or.inr ⟨_, q1257⟩⟩))⟩)
theorem kv14_1015 : 15 = 0 ∨ OKo 14 1 240 ∨ OKv 14 1 15 240 := Or.inr (Or.inr ⟨0, mk_240, rfl, q1207, Or.inr (Or.inr (Or.inl ⟨rfl, rfl, rfl, Or.inr ⟨_, q1257⟩⟩))⟩)
theorem kv14_13000 : 0 = 0 ∨ OKo 14 13 71 ∨ OKv 14 13 0 71 := Or.inl rfl
theorem kv14_13004 : 4 = 0 ∨ OKo 14 13 71 ∨ OKv 14 13 4 71 := Or.inr (Or.inr ⟨1, mk_71, rfl, q912, Or.inl ⟨rfl, rfl, q1331, q913⟩⟩)
theorem kv14_23000 : 0 = 0 ∨ OKo 14 23 73 ∨ OKv 14 23 0 73 := Or.inl rfl
theorem kv14_23004 : 4 = 0 ∨ OKo 14 23 73 ∨ OKv 14 23 4 73 := Or.inr (Or.inr ⟨2, mk_73, rfl, q921, Or.inr (Or.inl ⟨rfl, rfl, ⟨_, q1364⟩, qs10⟩)⟩)
theorem kv15_1000 : 0 = 0 ∨ OKo 15 1 240 ∨ OKv 15 1 0 240 := Or.inl rfl
theorem kv15_1009 : 9 = 0 ∨ OKo 15 1 240 ∨ OKv 15 1 9 240 := Or.inr (Or.inr ⟨0, mk_240, rfl, q1207, Or.inr (Or.inr (Or.inl ⟨rfl, rfl, rfl, Or.inr ⟨_, q1268⟩⟩))⟩)
theorem kv15_1010 : 10 = 0 ∨ OKo 15 1 240 ∨ OKv 15 1 10 240 := Or.inr (Or.inr ⟨0, mk_240, rfl, q1207, Or.inr (Or.inr (Or.inl ⟨rfl, rfl, rfl, Or.inr ⟨_, q1268⟩⟩))⟩)
theorem kv15_1011 : 11 = 0 ∨ OKo 15 1 240 ∨ OKv 15 1 11 240 := Or.inr (Or.inr ⟨0, mk_240, rfl, q1207, Or.inr (Or.inr (Or.inl ⟨rfl, rfl, rfl, Or.inr ⟨_, q1268⟩⟩))⟩)
theorem kv15_1012 : 12 = 0 ∨ OKo 15 1 240 ∨ OKv 15 1 12 240 := Or.inr (Or.inr ⟨0, mk_240, rfl, q1207, Or.inr (Or.inr (Or.inl ⟨rfl, rfl, rfl, Or.inr ⟨_, q1268⟩⟩))⟩)
theorem kv15_1013 : 13 = 0 ∨ OKo 15 1 240 ∨ OKv 15 1 13 240 := Or.inr (Or.inr ⟨0, mk_240, rfl, q1207, Or.inr (Or.inr (Or.inl ⟨rfl, rfl, rfl, Or.inr ⟨_, q1268⟩⟩))⟩)
theorem kv15_1014 : 14 = 0 ∨ OKo 15 1 240 ∨ OKv 15 1 14 240 := Or.inr (Or.inr ⟨0, mk_240, rfl, q1207, Or.inr (Or.inr (Or.inl ⟨rfl, rfl, rfl, Or.inr ⟨_, q1268⟩⟩))⟩)
theorem kv15_1015 : 15 = 0 ∨ OKo 15 1 240 ∨ OKv 15 1 15 240 := Or.inr (Or.inr ⟨0, mk_240, rfl, q1207, Or.inr (Or.inr (Or.inl ⟨rfl, rfl, rfl, Or.inr ⟨_, q1268⟩⟩))⟩)
theorem kv15_13000 : 0 = 0 ∨ OKo 15 13 77 ∨ OKv 15 13 0 77 := Or.inl rfl
theorem kv15_13004 : 4 = 0 ∨ OKo 15 13 77 ∨ OKv 15 13 4 77 := Or.inr (Or.inr ⟨1, mk_77, rfl, q943, Or.inl ⟨rfl, rfl, q1325, q944⟩⟩)
theorem kv16_1000 : 0 = 0 ∨ OKo 16 1 240 ∨ OKv 16 1 0 240 := Or.inl rfl
theorem kv16_1009 : 9 = 0 ∨ OKo 16 1 240 ∨ OKv 16 1 9 240 := Or.inr (Or.inr ⟨0, mk_240, rfl, q1207, Or.inr (Or.inr (Or.inl ⟨rfl, rfl, rfl, Or.inr ⟨_, q1279⟩⟩))⟩)
theorem kv16_1010 : 10 = 0 ∨ OKo 16 1 240 ∨ OKv 16 1 10 240 := Or.inr (Or.inr ⟨0, mk_240, rfl, q1207, Or.inr (Or.inr (Or.inl ⟨rfl, rfl, rfl, Or.inr ⟨_, q1279⟩⟩))⟩)
theorem kv16_1011 : 11 = 0 ∨ OKo 16 1 240 ∨ OKv 16 1 11 240 := Or.inr (Or.inr ⟨0, mk_240, rfl, q1207, Or.inr (Or.inr (Or.inl ⟨rfl, rfl, rfl, Or.inr ⟨_, q1279⟩⟩))⟩)
theorem kv16_1012 : 12 = 0 ∨ OKo 16 1 240 ∨ OKv 16 1 12 240 := Or.inr (Or.inr ⟨0, mk_240, rfl, q1207, Or.inr (Or.inr (Or.inl ⟨rfl, rfl, rfl, Or.inr ⟨_, q1279⟩⟩))⟩)
theorem kv16_1013 : 13 = 0 ∨ OKo 16 1 240 ∨ OKv 16 1 13 240 := Or.inr (Or.inr ⟨0, mk_240, rfl, q1207, Or.inr (Or.inr (Or.inl ⟨rfl, rfl, rfl, Or.inr ⟨_, q1279⟩⟩))⟩)
theorem kv16_1014 : 14 = 0 ∨ OKo 16 1 240 ∨ OKv 16 1 14 240 := Or.inr (Or.inr ⟨0, mk_240, rfl, q1207, Or.inr (Or.inr (Or.inl ⟨rfl, rfl, rfl, Or.inr ⟨_, q1279⟩⟩))⟩)
theorem kv16_1015 : 15 = 0 ∨ OKo 16 1 240 ∨ OKv 16 1 15 240 := Or.inr (Or.inr ⟨0, mk_240, rfl, q1207, Or.inr (Or.inr (Or.inl ⟨rfl, rfl, rfl, Or.inr ⟨_, q1279⟩⟩))⟩)
theorem kv16_13000 : 0 = 0 ∨ OKo 16 13 78 ∨ OKv 16 13 0 78 := Or.inl rfl
theorem kv16_13004 : 4 = 0 ∨ OKo 16 13 78 ∨ OKv 16 13 4 78 := Or.inr (Or.inr ⟨1, mk_78, rfl, q951, Or.inl ⟨rfl, rfl, q1304, q952⟩⟩)
theorem kv17_1000 : 0 = 0 ∨ OKo 17 1 240 ∨ OKv 17 1 0 240 := Or.inl rfl
theorem kv17_1009 : 9 = 0 ∨ OKo 17 1 240 ∨ OKv 17 1 9 240 := Or.inr (Or.inr ⟨0, mk_240, rfl, q1207, Or.inr (Or.inr (Or.inl ⟨rfl, rfl, rfl, Or.inr ⟨_, q1290⟩⟩))⟩)
theorem kv17_1010 : 10 = 0 ∨ OKo 17 1 240 ∨ OKv 17 1 10 240 := Or.inr (Or.inr ⟨0, mk_240, rfl, q1207, Or.inr (Or.inr (Or.inl ⟨rfl, rfl, rfl, Or.inr ⟨_, q1290⟩⟩))⟩)
theorem kv17_1011 : 11 = 0 ∨ OKo 17 1 240 ∨ OKv 17 1 11 240 := Or.inr (Or.inr ⟨0, mk_240, rfl, q1207, Or.inr (Or.inr (Or.inl ⟨rfl, rfl, rfl, Or.inr ⟨_, q1290⟩⟩))⟩)
theorem kv17_1012 : 12 = 0 ∨ OKo 17 1 240 ∨ OKv 17 1 12 240 := Or.inr (Or.inr ⟨0, mk_240, rfl, q1207, Or.inr (Or.inr (Or.inl ⟨rfl, rfl, rfl, Or.inr ⟨_, q1290⟩⟩))⟩)
theorem kv17_1013 : 13 = 0 ∨ OKo 17 1 240 ∨ OKv 17 1 13 240 := Or.inr (Or.inr ⟨0, mk_240, rfl, q1207, Or.inr (Or.inr (Or.inl ⟨rfl, rfl, rfl, Or.inr ⟨_, q1290⟩⟩))⟩)
theorem kv17_1014 : 14 = 0 ∨ OKo 17 1 240 ∨ OKv 17 1 14 240 := Or.inr (Or.inr ⟨0, mk_240, rfl, q1207, Or.inr (Or.inr (Or.inl ⟨rfl, rfl, rfl, Or.inr ⟨_, q1290⟩⟩))⟩)
theorem kv17_1015 : 15 = 0 ∨ OKo 17 1 240 ∨ OKv 17 1 15 240 := Or.inr (Or.inr ⟨0, mk_240, rfl, q1207, Or.inr (Or.inr (Or.inl ⟨rfl, rfl, rfl, Or.inr ⟨_, q1290⟩⟩))⟩)
theorem kv17_13000 : 0 = 0 ∨ OKo 17 13 79 ∨ OKv 17 13 0 79 := Or.inl rfl
theorem kv17_13004 : 4 = 0 ∨ OKo 17 13 79 ∨ OKv 17 13 4 79 := Or.inr (Or.inr ⟨1, mk_79, rfl, q959, Or.inl ⟨rfl, rfl, q1312, q960⟩⟩)
theorem kv17_23000 : 0 = 0 ∨ OKo 17 23 80 ∨ OKv 17 23 0 80 := Or.inl rfl
theorem kv17_23004 : 4 = 0 ∨ OKo 17 23 80 ∨ OKv 17 23 4 80 := Or.inr (Or.inr ⟨2, mk_80, rfl, q963, Or.inl ⟨rfl, rfl, q1349, q964⟩⟩)
theorem kv18_1000 : 0 = 0 ∨ OKo 18 1 301 ∨ OKv 18 1 0 301 := Or.inl rfl
theorem kv18_1016 : 16 = 0 ∨ OKo 18 1 301 ∨ OKv 18 1 16 301 := Or.inr (Or.inl ⟨rfl, q1418⟩)
theorem kv18_13000 : 0 = 0 ∨ OKo 18 13 264 ∨ OKv 18 13 0 264 := Or.inl rfl
theorem kv18_13016 : 16 = 0 ∨ OKo 18 13 264 ∨ OKv 18 13 16 264 := Or.inr (Or.inr ⟨2, mk_264, rfl, q1528, Or.inr (Or.inr (Or.inr (Or.inr (Or.inr ⟨rfl, by decide, rfl, q1532, q1526⟩))))⟩)
theorem kv18_13017 : 17 = 0 ∨ OKo 18 13 266 ∨ OKv 18 13 17 266 := Or.inr (Or.inr ⟨2, mk_266, rfl, q1519, Or.inr (Or.inr (Or.inr (Or.inr (Or.inr ⟨rfl, by decide, rfl, q1532, q1517⟩))))⟩)
theorem kv18_13018 : 18 = 0 ∨ OKo 18 13 268 ∨ OKv 18 13 18 268 := Or.inr (Or.inr ⟨2, mk_268, rfl, q1513, Or.inr (Or.inr (Or.inr (Or.inr (Or.inr ⟨rfl, by decide, rfl, q1532, q1511⟩))))⟩)
theorem kv18_13019 : 19 = 0 ∨ OKo 18 13 270 ∨ OKv 18 13 19 270 := Or.inr (Or.inr ⟨2, mk_270, rfl, q1505, Or.inr (Or.inr (Or.inr (Or.inr (Or.inr ⟨rfl, by decide, rfl, q1532, q1503⟩))))⟩)
theorem kv18_13020 : 20 = 0 ∨ OKo 18 13 272 ∨ OKv 18 13 20 272 := Or.inr (Or.inr ⟨2, mk_272, rfl, q1497, Or.inr (Or.inr (Or.inr (Or.inr (Or.inr ⟨rfl, by decide, rfl, q1532, q1495⟩))))⟩)
theorem kv19_3000 : 0 = 0 ∨ OKo 19 3 301 ∨ OKv 19 3 0 301 := Or.inl rfl
theorem kv19_3017 : 17 = 0 ∨ OKo 19 3 301 ∨ OKv 19 3 17 301 := Or.inr (Or.inl ⟨rfl, q1434⟩)
theorem kv19_22000 : 0 = 0 ∨ OKo 19 22 67 ∨ OKv 19 22 0 67 := Or.inl rfl
theorem kv19_22004 : 4 = 0 ∨ OKo 19 22 67 ∨ OKv 19 22 4 67 := Or.inr (Or.inr ⟨1, mk_67, rfl, q882, Or.inl ⟨rfl, rfl, q1522, q883⟩⟩)
theorem kv19_35000 : 0 = 0 ∨ OKo 19 35 72 ∨ OKv 19 35 0 72 := Or.inl rfl
theorem kv19_35004 : 4 = 0 ∨ OKo 19 35 72 ∨ OKv 19 35 4 72 := Or.inr (Or.inr ⟨1, mk_72, rfl, q916, Or.inl ⟨rfl, rfl, q1524, q917⟩⟩)
theorem kv20_1000 : 0 = 0 ∨ OKo 20 1 301 ∨ OKv 20 1 0 301 := Or.inl rfl
theorem kv20_1018 : 18 = 0 ∨ OKo 20 1 301 ∨ OKv 20 1 18 301 := Or.inr (Or.inl ⟨rfl, q1447⟩)
theorem kv21_1000 : 0 = 0 ∨ OKo 21 1 301 ∨ OKv 21 1 0 301 := Or.inl rfl
theorem kv21_1019 : 19 = 0 ∨ OKo 21 1 301 ∨ OKv 21 1 19 301 := Or.inr (Or.inl ⟨rfl, q1464⟩)
theorem kv21_16000 : 0 = 0 ∨ OKo 21 16 264 ∨ OKv 21 16 0 264 := Or.inl rfl
theorem kv21_16016 : 16 = 0 ∨ OKo 21 16 264 ∨ OKv 21 16 16 264 := Or.inr (Or.inr ⟨2, mk_264, rfl, q1528, Or.inr (Or.inr (Or.inr (Or.inr (Or.inr ⟨rfl, by decide, rfl, q1509, q1526⟩))))⟩)
theorem kv21_16017 : 17 = 0 ∨ OKo 21 16 266 ∨ OKv 21 16 17 266 := Or.inr (Or.inr ⟨2, mk_266, rfl, q1519, Or.inr (Or.inr (Or.inr (Or.inr (Or.inr ⟨rfl, by decide, rfl, q1509, q1517⟩))))⟩)
theorem kv21_16018 : 18 = 0 ∨ OKo 21 16 268 ∨ OKv 21 16 18 268 := Or.inr (Or.inr ⟨2, mk_268, rfl, q1513, Or.inr (Or.inr (Or.inr (Or.inr (Or.inr ⟨rfl, by decide, rfl, q1509, q1511⟩))))⟩)
theorem kv21_16019 : 19 = 0 ∨ OKo 21 16 270 ∨ OKv 21 16 19 270 := Or.inr (Or.inr ⟨2, mk_270, rfl, q1505, Or.inr (Or.inr (Or.inr (Or.inr (Or.inr ⟨rfl, by decide, rfl, q1509, q1503⟩))))⟩)
theorem kv21_16020 : 20 = 0 ∨ OKo 21 16 272 ∨ OKv 21 16 20 272 := Or.inr (Or.inr ⟨2, mk_272, rfl, q1497, Or.inr (Or.inr (Or.inr (Or.inr (Or.inr ⟨rfl, by decide, rfl, q1509, q1495⟩))))⟩)
theorem kv22_1000 : 0 = 0 ∨ OKo 22 1 301 ∨ OKv 22 1 0 301 := Or.inl rfl
theorem kv22_1020 : 20 = 0 ∨ OKo 22 1 301 ∨ OKv 22 1 20 301 := Or.inr (Or.inl ⟨rfl, q1478⟩)
theorem kv22_16000 : 0 = 0 ∨ OKo 22 16 264 ∨ OKv 22 16 0 264 := Or.inl rfl
theorem kv22_16016 : 16 = 0 ∨ OKo 22 16 264 ∨ OKv 22 16 16 264 := Or.inr (Or.inr ⟨2, mk_264, rfl, q1528, Or.inr (Or.inr (Or.inr (Or.inr (Or.inr ⟨rfl, by decide, rfl, q1501, q1526⟩))))⟩)
theorem kv22_16017 : 17 = 0 ∨ OKo 22 16 266 ∨ OKv 22 16 17 266 := Or.inr (Or.inr ⟨2, mk_266, rfl, q1519, Or.inr (Or.inr (Or.inr (Or.inr (Or.inr ⟨rfl, by decide, rfl, q1501, q1517⟩))))⟩)
theorem kv22_16018 : 18 = 0 ∨ OKo 22 16 268 ∨ OKv 22 16 18 268 := Or.inr (Or.inr ⟨2, mk_268, rfl, q1513, Or.inr (Or.inr (Or.inr (Or.inr (Or.inr ⟨rfl, by decide, rfl, q1501, q1511⟩))))⟩)
theorem kv22_16019 : 19 = 0 ∨ OKo 22 16 270 ∨ OKv 22 16 19 270 := Or.inr (Or.inr ⟨2, mk_270, rfl, q1505, Or.inr (Or.inr (Or.inr (Or.inr (Or.inr ⟨rfl, by decide, rfl, q1501, q1503⟩))))⟩)
theorem kv22_16020 : 20 = 0 ∨ OKo 22 16 272 ∨ OKv 22 16 20 272 := Or.inr (Or.inr ⟨2, mk_272, rfl, q1497, Or.inr (Or.inr (Or.inr (Or.inr (Or.inr ⟨rfl, by decide, rfl, q1501, q1495⟩))))⟩)
theorem kv23_1000 : 0 = 0 ∨ OKo 23 1 301 ∨ OKv 23 1 0 301 := Or.inl rfl
theorem kv23_1021 : 21 = 0 ∨ OKo 23 1 301 ∨ OKv 23 1 21 301 := Or.inr (Or.inl ⟨rfl, q1541⟩)
theorem kv23_9000 : 0 = 0 ∨ OKo 23 9 63 ∨ OKv 23 9 0 63 := Or.inl rfl
theorem kv23_9004 : 4 = 0 ∨ OKo 23 9 63 ∨ OKv 23 9 4 63 := Or.inr (Or.inr ⟨0, mk_63, rfl, q317, Or.inr (Or.inr (Or.inl ⟨rfl, rfl, rfl, Or.inr ⟨_, q1543⟩⟩))⟩)
theorem kv30_1000 : 0 = 0 ∨ OKo 30 1 301 ∨ OKv 30 1 0 301 := Or.inl rfl
theorem kv30_1002 : 2 = 0 ∨ OKo 30 1 301 ∨ OKv 30 1 2 301 := Or.inr (Or.inl ⟨rfl, q161⟩)
theorem kv31_1000 : 0 = 0 ∨ OKo 31 1 274 ∨ OKv 31 1 0 274 := Or.inl rfl
theorem kv31_1002 : 2 = 0 ∨ OKo 31 1 274 ∨ OKv 31 1 2 274 := Or.inr (Or.inr ⟨0, mk_274, rfl, q159, Or.inr (Or.inr (Or.inl ⟨rfl, rfl, rfl, Or.inl q1594⟩))⟩)
theorem kv31_16000 : 0 = 0 ∨ OKo 31 16 275 ∨ OKv 31 16 0 275 := Or.inl rfl
theorem kv31_16002 : 2 = 0 ∨ OKo 31 16 275 ∨ OKv 31 16 2 275 := Or.inr (Or.inr ⟨4, mk_275, rfl, q183, Or.inr (Or.inr (Or.inl ⟨rfl, rfl, rfl, Or.inl q182⟩))⟩)
theorem kv33_1000 : 0 = 0 ∨ OKo 33 1 301 ∨ OKv 33 1 0 301 := Or.inl rfl
theorem kv33_1022 : 22 = 0 ∨ OKo 33 1 301 ∨ OKv 33 1 22 301 := Or.inr (Or.inl ⟨rfl, q1121⟩)
theorem kv33_335000 : 0 = 0 ∨ OKo 33 335 280 ∨ OKv 33 335 0 280 := Or.inl rfl
theorem kv33_335022 : 22 = 0 ∨ OKo 33 335 280 ∨ OKv 33 335 22 280 := Or.inr (Or.inr ⟨0, mk_280, rfl, q703, Or.inl ⟨rfl, rfl, q702, q704⟩⟩)
theorem kv33_335050 : 50 = 0 ∨ OKo 33 335 280 ∨ OKv 33 335 50 280 := Or.inr (Or.inr ⟨0, mk_280, rfl, q703, Or.inl ⟨rfl, rfl, q702, q704⟩⟩)
theorem kv33_492000 : 0 = 0 ∨ OKo 33 492 282 ∨ OKv 33 492 0 282 := Or.inl rfl
theorem kv33_492022 : 22 = 0 ∨ OKo 33 492 282 ∨ OKv 33 492 22 282 := Or.inr (Or.inr ⟨0, mk_282, rfl, q713, Or.inl ⟨rfl, rfl, q712, q714⟩⟩)
theorem kv33_492050 : 50 = 0 ∨ OKo 33 492 282 ∨ OKv 33 492 50 282 := Or.inr (Or.inr ⟨0, mk_282, rfl, q713, Or.inl ⟨rfl, rfl, q712, q714⟩⟩)
theorem kv37_1000 : 0 = 0 ∨ OKo 37 1 277 ∨ OKv 37 1 0 277 := Or.inl rfl
theorem kv37_1002 : 2 = 0 ∨ OKo 37 1 277 ∨ OKv 37 1 2 277 := Or.inr (Or.inr ⟨0, mk_277, rfl, q1592, Or.inr (Or.inr (Or.inl ⟨rfl, rfl, rfl, Or.inl q1591⟩))⟩)
theorem kv40_65000 : 0 = 0 ∨ OKo 40 65 284 ∨ OKv 40 65 0 284 := Or.inl rfl
theorem kv40_65022 : 22 = 0 ∨ OKo 40 65 284 ∨ OKv 40 65 22 284 := Or.inr (Or.inr ⟨2, mk_284, rfl, q1119, Or.inr (Or.inr (Or.inl ⟨rfl, rfl, rfl, Or.inl q1118⟩))⟩)
theorem kV0 : ∀ e ∈ tV0, e.1 % 1000 = 0 ∨ OKo 0 (e.1 / 1000) e.2 ∨ OKv 0 (e.1 / 1000) (e.1 % 1000) e.2 := List.forall_mem_cons.mpr ⟨kv0_7000, List.forall_mem_cons.mpr ⟨kv0_7001, List.forall_mem_cons.mpr ⟨kv0_15000, List.forall_mem_cons.mpr ⟨kv0_15001, List.forall_mem_cons.mpr ⟨kv0_18000, List.forall_mem_cons.mpr ⟨kv0_18008, List.forall_mem_cons.mpr ⟨kv0_19000, List.forall_mem_cons.mpr ⟨kv0_19001, List.forall_mem_cons.mpr ⟨kv0_23000, List.forall_mem_cons.mpr ⟨kv0_23008, List.forall_mem_cons.mpr ⟨kv0_24000, List.forall_mem_cons.mpr ⟨kv0_24001, List.forall_mem_cons.mpr ⟨kv0_28000, List.forall_mem_cons.mpr ⟨kv0_28008, List.forall_mem_cons.mpr ⟨kv0_33000, List.forall_mem_cons.mpr ⟨kv0_33008, List.forall_mem_cons.mpr ⟨kv0_34000, List.forall_mem_cons.mpr ⟨kv0_34001, List.forall_mem_cons.mpr ⟨kv0_37000, List.forall_mem_cons.mpr ⟨kv0_37008, List.forall_mem_cons.mpr ⟨kv0_43000, List.forall_mem_cons.mpr ⟨kv0_43008, List.forall_mem_cons.mpr ⟨kv0_44000, List.forall_mem_cons.mpr ⟨kv0_44008, List.forall_mem_cons.mpr ⟨kv0_47000, List.forall_mem_cons.mpr ⟨kv0_47001, List.forall_mem_cons.mpr ⟨kv0_50000, List.forall_mem_cons.mpr ⟨kv0_50008, List.forall_mem_cons.mpr ⟨kv0_51000, List.forall_mem_cons.mpr ⟨kv0_51001, List.forall_mem_cons.mpr ⟨kv0_54000, List.forall_mem_cons.mpr ⟨kv0_54008, List.forall_mem_cons.mpr ⟨kv0_55000, List.forall_mem_cons.mpr ⟨kv0_55001, List.forall_mem_cons.mpr ⟨kv0_59000, List.forall_mem_cons.mpr ⟨kv0_59008, List.forall_mem_cons.mpr ⟨kv0_60000, List.forall_mem_cons.mpr ⟨kv0_60001, List.forall_mem_cons.mpr ⟨kv0_64000, List.forall_mem_cons.mpr ⟨kv0_64008, List.forall_mem_cons.mpr ⟨kv0_65000, List.forall_mem_cons.mpr ⟨kv0_65001, List.forall_mem_cons.mpr ⟨kv0_68000, List.forall_mem_cons.mpr ⟨kv0_68008, List.forall_mem_cons.mpr ⟨kv0_69000, List.forall_mem_cons.mpr ⟨kv0_69001, List.forall_mem_cons.mpr ⟨kv0_72000, List.forall_mem_cons.mpr ⟨kv0_72008, List.forall_mem_cons.mpr ⟨kv0_73000, List.forall_mem_cons.mpr ⟨kv0_73001, List.forall_mem_cons.mpr ⟨kv0_76000, List.forall_mem_cons.mpr ⟨kv0_76008, List.forall_mem_cons.mpr ⟨kv0_77000, List.forall_mem_cons.mpr ⟨kv0_77001, List.forall_mem_cons.mpr ⟨kv0_80000, List.forall_mem_cons.mpr ⟨kv0_80008, List.forall_mem_cons.mpr ⟨kv0_81000, List.forall_mem_cons.mpr ⟨kv0_81001, List.forall_mem_cons.mpr ⟨kv0_84000, List.forall_mem_cons.mpr ⟨kv0_84008, List.forall_mem_cons.mpr ⟨kv0_85000, List.forall_mem_cons.mpr ⟨kv0_85001, List.forall_mem_cons.mpr ⟨kv0_88000, List.forall_mem_cons.mpr ⟨kv0_88008, List.forall_mem_cons.mpr ⟨kv0_89000, List.forall_mem_cons.mpr ⟨kv0_89001, List.forall_mem_cons.mpr ⟨kv0_92000, List.forall_mem_cons.mpr ⟨kv0_92008, List.forall_mem_cons.mpr ⟨kv0_93000, List.forall_mem_cons.mpr ⟨kv0_93001, List.forall_mem_cons.mpr ⟨kv0_96000, List.forall_mem_cons.mpr ⟨kv0_96008, List.forall_mem_cons.mpr ⟨kv0_97000, List.forall_mem_cons.mpr ⟨kv0_97001, List.forall_mem_cons.mpr ⟨kv0_100000, List.forall_mem_cons.mpr ⟨kv0_100008, List.forall_mem_cons.mpr ⟨kv0_101000, List.forall_mem_cons.mpr ⟨kv0_101001, List.forall_mem_cons.mpr ⟨kv0_104000, List.forall_mem_cons.mpr ⟨kv0_104008, List.forall_mem_cons.mpr ⟨kv0_105000, List.forall_mem_cons.mpr ⟨kv0_105001, List.forall_mem_cons.mpr ⟨kv0_108000, List.forall_mem_cons.mpr ⟨kv0_108008, List.forall_mem_cons.mpr ⟨kv0_109000, List.forall_mem_cons.mpr ⟨kv0_109001, List.forall_mem_cons.mpr ⟨kv0_112000, List.forall_mem_cons.mpr ⟨kv0_112008, List.forall_mem_cons.mpr ⟨kv0_113000, List.forall_mem_cons.mpr ⟨kv0_113001, List.forall_mem_cons.mpr ⟨kv0_116000, List.forall_mem_cons.mpr ⟨kv0_116008, List.forall_mem_cons.mpr ⟨kv0_117000, List.forall_mem_cons.mpr ⟨kv0_117001, List.forall_mem_cons.mpr ⟨kv0_120000, List.forall_mem_cons.mpr ⟨kv0_120008, List.forall_mem_cons.mpr ⟨kv0_121000, List.forall_mem_cons.mpr ⟨kv0_121001, List.forall_mem_cons.mpr ⟨kv0_124000, List.forall_mem_cons.mpr ⟨kv0_124008, List.forall_mem_cons.mpr ⟨kv0_125000, List.forall_mem_cons.mpr ⟨kv0_125001, List.forall_mem_cons.mpr ⟨kv0_128000, List.forall_mem_cons.mpr ⟨kv0_128008, List.forall_mem_cons.mpr ⟨kv0_129000, List.forall_mem_cons.mpr ⟨kv0_129001, List.forall_mem_cons.mpr ⟨kv0_132000, List.forall_mem_cons.mpr ⟨kv0_132008, List.forall_mem_cons.mpr ⟨kv0_133000, List.forall_mem_cons.mpr ⟨kv0_133001, List.forall_mem_cons.mpr ⟨kv0_136000, List.forall_mem_cons.mpr ⟨kv0_136008, List.forall_mem_cons.mpr ⟨kv0_137000, List.forall_mem_cons.mpr ⟨kv0_137001, List.forall_mem_cons.mpr ⟨kv0_140000, List.forall_mem_cons.mpr ⟨kv0_140008, List.forall_mem_cons.mpr ⟨kv0_141000, List.forall_mem_cons.mpr ⟨kv0_141001, List.forall_mem_cons.mpr ⟨kv0_144000, List.forall_mem_cons.mpr ⟨kv0_144008, List.forall_mem_cons.mpr ⟨kv0_145000, List.forall_mem_cons.mpr ⟨kv0_145001, List.forall_mem_cons.mpr ⟨kv0_148000, List.forall_mem_cons.mpr ⟨kv0_148008, List.forall_mem_cons.mpr ⟨kv0_149000, List.forall_mem_cons.mpr ⟨kv0_149001, List.forall_mem_cons.mpr ⟨kv0_152000, List.forall_mem_cons.mpr ⟨kv0_152008, List.forall_mem_cons.mpr ⟨kv0_153000, List.forall_mem_cons.mpr ⟨kv0_153001, List.forall_mem_cons.mpr ⟨kv0_156000, List.forall_mem_cons.mpr ⟨kv0_156008, List.forall_mem_cons.mpr ⟨kv0_157000, List.forall_mem_cons.mpr ⟨kv0_157001, List.forall_mem_cons.mpr ⟨kv0_160000, List.forall_mem_cons.mpr ⟨kv0_160008, List.forall_mem_cons.mpr ⟨kv0_161000, List.forall_mem_cons.mpr ⟨kv0_161001, List.forall_mem_cons.mpr ⟨kv0_164000, List.forall_mem_cons.mpr ⟨kv0_164008, List.forall_mem_cons.mpr ⟨kv0_168000, List.forall_mem_cons.mpr ⟨kv0_168008, List.forall_mem_cons.mpr ⟨kv0_169000, List.forall_mem_cons.mpr ⟨kv0_169001, List.forall_mem_cons.mpr ⟨kv0_172000, List.forall_mem_cons.mpr ⟨kv0_172008, List.forall_mem_cons.mpr ⟨kv0_176000, List.forall_mem_cons.mpr ⟨kv0_176008, List.forall_mem_cons.mpr ⟨kv0_177000, List.forall_mem_cons.mpr ⟨kv0_177001, List.forall_mem_cons.mpr ⟨kv0_180000, List.forall_mem_cons.mpr ⟨kv0_180008, List.forall_mem_cons.mpr ⟨kv0_181000, List.forall_mem_cons.mpr ⟨kv0_181001, List.forall_mem_cons.mpr ⟨kv0_184000, List.forall_mem_cons.mpr ⟨kv0_184008, List.forall_mem_cons.mpr ⟨kv0_185000, List.forall_mem_cons.mpr ⟨kv0_185001, List.forall_mem_cons.mpr ⟨kv0_188000, List.forall_mem_cons.mpr ⟨kv0_188008, List.forall_mem_cons.mpr ⟨kv0_189000, List.forall_mem_cons.mpr ⟨kv0_189001, List.forall_mem_cons.mpr ⟨kv0_192000, List.forall_mem_cons.mpr ⟨kv0_192008, fun _ h => absurd h List.not_mem_nil⟩⟩⟩⟩⟩⟩⟩⟩⟩⟩⟩⟩⟩⟩⟩⟩⟩⟩⟩⟩⟩⟩⟩⟩⟩⟩⟩⟩⟩⟩⟩⟩⟩⟩⟩⟩⟩⟩⟩⟩⟩⟩⟩⟩⟩⟩⟩⟩⟩⟩⟩⟩⟩⟩⟩⟩⟩⟩⟩⟩⟩⟩⟩⟩⟩⟩⟩⟩⟩⟩⟩⟩⟩⟩⟩⟩⟩⟩⟩⟩⟩⟩⟩⟩⟩⟩⟩⟩⟩⟩⟩⟩⟩⟩⟩⟩⟩⟩⟩⟩⟩⟩⟩⟩⟩⟩⟩⟩⟩⟩⟩⟩⟩⟩⟩⟩⟩⟩⟩⟩⟩⟩⟩⟩⟩⟩⟩⟩⟩⟩⟩⟩⟩⟩⟩⟩⟩⟩⟩⟩⟩⟩⟩⟩⟩⟩⟩⟩⟩⟩⟩⟩⟩⟩⟩⟩⟩⟩⟩⟩⟩⟩⟩⟩
theorem kV1 : ∀ e ∈ tV1, e.1 % 1000 = 0 ∨ OKo 1 (e.1 / 1000) e.2 ∨ OKv 1 (e.1 / 1000) (e.1 % 1000) e.2 := List.forall_mem_cons.mpr ⟨kv1_1000, List.forall_mem_cons.mpr ⟨kv1_1001, List.forall_mem_cons.mpr ⟨kv1_15000, List.forall_mem_cons.mpr ⟨kv1_15002, List.forall_mem_cons.mpr ⟨kv1_90000, List.forall_mem_cons.mpr ⟨kv1_90003, List.forall_mem_cons.mpr ⟨kv1_97000, List.forall_mem_cons.mpr ⟨kv1_97004, List.forall_mem_cons.mpr ⟨kv1_107000, List.forall_mem_cons.mpr ⟨kv1_107005, List.forall_mem_cons.mpr ⟨kv1_116000, List.forall_mem_cons.mpr ⟨kv1_116006, List.forall_mem_cons.mpr ⟨kv1_121000, List.forall_mem_cons.mpr ⟨kv1_121004, List.forall_mem_cons.mpr ⟨kv1_166000, List.forall_mem_cons.mpr ⟨kv1_166007, List.forall_mem_cons.mpr ⟨kv1_180000, List.forall_mem_cons.mpr ⟨kv1_180001, List.forall_mem_cons.mpr ⟨kv1_190000, List.forall_mem_cons.mpr ⟨kv1_190001, List.forall_mem_cons.mpr ⟨kv1_196000, List.forall_mem_cons.mpr ⟨kv1_196005, List.forall_mem_cons.mpr ⟨kv1_223000, List.forall_mem_cons.mpr ⟨kv1_223001, List.forall_mem_cons.mpr ⟨kv1_236000, List.forall_mem_cons.mpr ⟨kv1_236004, List.forall_mem_cons.mpr ⟨kv1_250000, List.forall_mem_cons.mpr ⟨kv1_250004, List.forall_mem_cons.mpr ⟨kv1_254000, List.forall_mem_cons.mpr ⟨kv1_254003, List.forall_mem_cons.mpr ⟨kv1_257000, List.forall_mem_cons.mpr ⟨kv1_257001, List.forall_mem_cons.mpr ⟨kv1_286000, List.forall_mem_cons.mpr ⟨kv1_286004, List.forall_mem_cons.mpr ⟨kv1_290000, List.forall_mem_cons.mpr ⟨kv1_290004, List.forall_mem_cons.mpr ⟨kv1_294000, List.forall_mem_cons.mpr ⟨kv1_294001, List.forall_mem_cons.mpr ⟨kv1_297000, List.forall_mem_cons.mpr ⟨kv1_297004, List.forall_mem_cons.mpr ⟨kv1_301000, List.forall_mem_cons.mpr ⟨kv1_301004, List.forall_mem_cons.mpr ⟨kv1_305000, List.forall_mem_cons.mpr ⟨kv1_305004, List.forall_mem_cons.mpr ⟨kv1_308000, List.forall_mem_cons.mpr ⟨kv1_308004, List.forall_mem_cons.mpr ⟨kv1_311000, List.forall_mem_cons.mpr ⟨kv1_311004, List.forall_mem_cons.mpr ⟨kv1_315000, List.forall_mem_cons.mpr ⟨kv1_315004, List.forall_mem_cons.mpr ⟨kv1_318000, List.forall_mem_cons.mpr ⟨kv1_318004, List.forall_mem_cons.mpr ⟨kv1_321000, List.forall_mem_cons.mpr ⟨kv1_321004, List.forall_mem_cons.mpr ⟨kv1_324000, List.forall_mem_cons.mpr ⟨kv1_324004, List.forall_mem_cons.mpr ⟨kv1_327000, List.forall_mem_cons.mpr ⟨kv1_327004, List.forall_mem_cons.mpr ⟨kv1_330000, List.forall_mem_cons.mpr ⟨kv1_330004, List.forall_mem_cons.mpr ⟨kv1_333000, List.forall_mem_cons.mpr ⟨kv1_333004, List.forall_mem_cons.mpr ⟨kv1_336000, List.forall_mem_cons.mpr ⟨kv1_336004, List.forall_mem_cons.mpr ⟨kv1_347000, List.forall_mem_cons.mpr ⟨kv1_347004, List.forall_mem_cons.mpr ⟨kv1_349000, List.forall_mem_cons.mpr ⟨kv1_349001, List.forall_mem_cons.mpr ⟨kv1_353000, List.forall_mem_cons.mpr ⟨kv1_353001, List.forall_mem_cons.mpr ⟨kv1_357000, List.forall_mem_cons.mpr ⟨kv1_357001, List.forall_mem_cons.mpr ⟨kv1_360000, List.forall_mem_cons.mpr ⟨kv1_360001, List.forall_mem_cons.mpr ⟨kv1_382000, List.forall_mem_cons.mpr ⟨kv1_382001, List.forall_mem_cons.mpr ⟨kv1_385000, List.forall_mem_cons.mpr ⟨kv1_385003, List.forall_mem_cons.mpr ⟨kv1_391000, List.forall_mem_cons.mpr ⟨kv1_391022, List.forall_mem_cons.mpr ⟨kv1_391050, List.forall_mem_cons.mpr ⟨kv1_393000, List.forall_mem_cons.mpr ⟨kv1_393022, List.forall_mem_cons.mpr ⟨kv1_393050, List.forall_mem_cons.mpr ⟨kv1_397000, List.forall_mem_cons.mpr ⟨kv1_397001, List.forall_mem_cons.mpr ⟨kv1_406000, List.forall_mem_cons.mpr ⟨kv1_406001, List.forall_mem_cons.mpr ⟨kv1_411000, List.forall_mem_cons.mpr ⟨kv1_411001, List.forall_mem_cons.mpr ⟨kv1_424000, List.forall_mem_cons.mpr ⟨kv1_424004, List.forall_mem_cons.mpr ⟨kv1_427000, List.forall_mem_cons.mpr ⟨kv1_427006, List.forall_mem_cons.mpr ⟨kv1_436000, List.forall_mem_cons.mpr ⟨kv1_436009, List.forall_mem_cons.mpr ⟨kv1_436010, List.forall_mem_cons.mpr ⟨kv1_436011, List.forall_mem_cons.mpr ⟨kv1_436012, List.forall_mem_cons.mpr ⟨kv1_436013, List.forall_mem_cons.mpr ⟨kv1_436014, List.forall_mem_cons.mpr ⟨kv1_436015, List.forall_mem_cons.mpr ⟨kv1_442000, List.forall_mem_cons.mpr ⟨kv1_442009, List.forall_mem_cons.mpr ⟨kv1_442010, List.forall_mem_cons.mpr ⟨kv1_442011, List.forall_mem_cons.mpr ⟨kv1_442012, List.forall_mem_cons.mpr ⟨kv1_442013, List.forall_mem_cons.mpr ⟨kv1_442014, List.forall_mem_cons.mpr ⟨kv1_442015, List.forall_mem_cons.mpr ⟨kv1_449000, List.forall_mem_cons.mpr ⟨kv1_449007, List.forall_mem_cons.mpr ⟨kv1_455000, List.forall_mem_cons.mpr ⟨kv1_455016, List.forall_mem_cons.mpr ⟨kv1_455017, List.forall_mem_cons.mpr ⟨kv1_455018, List.forall_mem_cons.mpr ⟨kv1_455019, List.forall_mem_cons.mpr ⟨kv1_455020, List.forall_mem_cons.mpr ⟨kv1_461000, List.forall_mem_cons.mpr ⟨kv1_461021, fun _ h => absurd h List.not_mem_nil⟩⟩⟩⟩⟩⟩⟩⟩⟩⟩⟩⟩⟩⟩⟩⟩⟩⟩⟩⟩⟩⟩⟩⟩⟩⟩⟩⟩⟩⟩⟩⟩⟩⟩⟩⟩⟩⟩⟩⟩⟩⟩⟩⟩⟩⟩⟩⟩⟩⟩⟩⟩⟩⟩⟩⟩⟩⟩⟩⟩⟩⟩⟩⟩⟩⟩⟩⟩⟩⟩⟩⟩⟩⟩⟩⟩⟩⟩⟩⟩⟩⟩⟩⟩⟩⟩⟩⟩⟩⟩⟩⟩⟩⟩⟩⟩⟩⟩⟩⟩⟩⟩⟩⟩⟩⟩⟩⟩⟩⟩⟩⟩⟩⟩⟩⟩⟩⟩⟩⟩
theorem kV2 : ∀ e ∈ tV2, e.1 % 1000 = 0 ∨ OKo 2 (e.1 / 1000) e.2 ∨ OKv 2 (e.1 / 1000) (e.1 % 1000) e.2 := List.forall_mem_cons.mpr ⟨kv2_1000, List.forall_mem_cons.mpr ⟨kv2_1002, fun _ h => absurd h List.not_mem_nil⟩⟩
theorem kV3 : ∀ e ∈ tV3, e.1 % 1000 = 0 ∨ OKo 3 (e.1 / 1000) e.2 ∨ OKv 3 (e.1 / 1000) (e.1 % 1000) e.2 := List.forall_mem_cons.mpr ⟨kv3_3000, List.forall_mem_cons.mpr ⟨kv3_3003, fun _ h => absurd h List.not_mem_nil⟩⟩
theorem kV4 : ∀ e ∈ tV4, e.1 % 1000 = 0 ∨ OKo 4 (e.1 / 1000) e.2 ∨ OKv 4 (e.1 / 1000) (e.1 % 1000) e.2 := List.forall_mem_cons.mpr ⟨kv4_3000, List.forall_mem_cons.mpr ⟨kv4_3004, List.forall_mem_cons.mpr ⟨kv4_75000, List.forall_mem_cons.mpr ⟨kv4_75004, List.forall_mem_cons.mpr ⟨kv4_79000, List.forall_mem_cons.mpr ⟨kv4_79004, List.forall_mem_cons.mpr ⟨kv4_82000, List.forall_mem_cons.mpr ⟨kv4_82004, List.forall_mem_cons.mpr ⟨kv4_86000, List.forall_mem_cons.mpr ⟨kv4_86004, List.forall_mem_cons.mpr ⟨kv4_99000, List.forall_mem_cons.mpr ⟨kv4_99004, List.forall_mem_cons.mpr ⟨kv4_106000, List.forall_mem_cons.mpr ⟨kv4_106004, List.forall_mem_cons.mpr ⟨kv4_110000, List.forall_mem_cons.mpr ⟨kv4_110004, List.forall_mem_cons.mpr ⟨kv4_117000, List.forall_mem_cons.mpr ⟨kv4_117004, List.forall_mem_cons.mpr ⟨kv4_125000, List.forall_mem_cons.mpr ⟨kv4_125004, List.forall_mem_cons.mpr ⟨kv4_128000, List.forall_mem_cons.mpr ⟨kv4_128004, List.forall_mem_cons.mpr ⟨kv4_131000, List.forall_mem_cons.mpr ⟨kv4_131004, List.forall_mem_cons.mpr ⟨kv4_134000, List.forall_mem_cons.mpr ⟨kv4_134004, fun _ h => absurd h List.not_mem_nil⟩⟩⟩⟩⟩⟩⟩⟩⟩⟩⟩⟩⟩⟩⟩⟩⟩⟩⟩⟩⟩⟩⟩⟩⟩⟩
theorem kV5 : ∀ e ∈ tV5, e.1 % 1000 = 0 ∨ OKo 5 (e.1 / 1000) e.2 ∨ OKv 5 (e.1 / 1000) (e.1 % 1000) e.2 := List.forall_mem_cons.mpr ⟨kv5_9000, List.forall_mem_cons.mpr ⟨kv5_9005, List.forall_mem_cons.mpr ⟨kv5_9006, List.forall_mem_cons.mpr ⟨kv5_9007, List.forall_mem_cons.mpr ⟨kv5_22000, List.forall_mem_cons.mpr ⟨kv5_22005, List.forall_mem_cons.mpr ⟨kv5_22006, List.forall_mem_cons.mpr ⟨kv5_22007, List.forall_mem_cons.mpr ⟨kv5_36000, List.forall_mem_cons.mpr ⟨kv5_36005, List.forall_mem_cons.mpr ⟨kv5_36006, List.forall_mem_cons.mpr ⟨kv5_36007, List.forall_mem_cons.mpr ⟨kv5_46000, List.forall_mem_cons.mpr ⟨kv5_46005, List.forall_mem_cons.mpr ⟨kv5_46006, List.forall_mem_cons.mpr ⟨kv5_46007, List.forall_mem_cons.mpr ⟨kv5_50000, List.forall_mem_cons.mpr ⟨kv5_50005, List.forall_mem_cons.mpr ⟨kv5_50006, List.forall_mem_cons.mpr ⟨kv5_50007, List.forall_mem_cons.mpr ⟨kv5_53000, List.forall_mem_cons.mpr ⟨kv5_53005, List.forall_mem_cons.mpr ⟨kv5_53006, List.forall_mem_cons.mpr ⟨kv5_53007, List.forall_mem_cons.mpr ⟨kv5_67000, List.forall_mem_cons.mpr ⟨kv5_67022, List.forall_mem_cons.mpr ⟨kv5_67050, List.forall_mem_cons.mpr ⟨kv5_72000, List.forall_mem_cons.mpr ⟨kv5_72022, List.forall_mem_cons.mpr ⟨kv5_72050, List.forall_mem_cons.mpr ⟨kv5_76000, List.forall_mem_cons.mpr ⟨kv5_76005, List.forall_mem_cons.mpr ⟨kv5_76006, List.forall_mem_cons.mpr ⟨kv5_76007, List.forall_mem_cons.mpr ⟨kv5_84000, List.forall_mem_cons.mpr ⟨kv5_84005, List.forall_mem_cons.mpr ⟨kv5_84006, List.forall_mem_cons.mpr ⟨kv5_84007, List.forall_mem_cons.mpr ⟨kv5_103000, List.forall_mem_cons.mpr ⟨kv5_103005, List.forall_mem_cons.mpr ⟨kv5_103006, List.forall_mem_cons.mpr ⟨kv5_103007, List.forall_mem_cons.mpr ⟨kv5_107000, List.forall_mem_cons.mpr ⟨kv5_107005, List.forall_mem_cons.mpr ⟨kv5_107006, List.forall_mem_cons.mpr ⟨kv5_107007, List.forall_mem_cons.mpr ⟨kv5_109000, List.forall_mem_cons.mpr ⟨kv5_109005, List.forall_mem_cons.mpr ⟨kv5_109006, List.forall_mem_cons.mpr ⟨kv5_109007, List.forall_mem_cons.mpr ⟨kv5_113000, List.forall_mem_cons.mpr ⟨kv5_113005, List.forall_mem_cons.mpr ⟨kv5_113006, List.forall_mem_cons.mpr ⟨kv5_113007, List.forall_mem_cons.mpr ⟨kv5_117000, List.forall_mem_cons.mpr ⟨kv5_117005, List.forall_mem_cons.mpr ⟨kv5_117006, List.forall_mem_cons.mpr ⟨kv5_117007, List.forall_mem_cons.mpr ⟨kv5_121000, List.forall_mem_cons.mpr ⟨kv5_121005, List.forall_mem_cons.mpr ⟨kv5_121006, List.forall_mem_cons.mpr ⟨kv5_121007, fun _ h => absurd h List.not_mem_nil⟩⟩⟩⟩⟩⟩⟩⟩⟩⟩⟩⟩⟩⟩⟩⟩⟩⟩⟩⟩⟩⟩⟩⟩⟩⟩⟩⟩⟩⟩⟩⟩⟩⟩⟩⟩⟩⟩⟩⟩⟩⟩⟩⟩⟩⟩⟩⟩⟩⟩⟩⟩⟩⟩⟩⟩⟩⟩⟩⟩⟩⟩
theorem kV6 : ∀ e ∈ tV6, e.1 % 1000 = 0 ∨ OKo 6 (e.1 / 1000) e.2 ∨ OKv 6 (e.1 / 1000) (e.1 % 1000) e.2 := List.forall_mem_cons.mpr ⟨kv6_9000, List.forall_mem_cons.mpr ⟨kv6_9005, List.forall_mem_cons.mpr ⟨kv6_9006, List.forall_mem_cons.mpr ⟨kv6_9007, List.forall_mem_cons.mpr ⟨kv6_23000, List.forall_mem_cons.mpr ⟨kv6_23005, List.forall_mem_cons.mpr ⟨kv6_34000, List.forall_mem_cons.mpr ⟨kv6_34005, List.forall_mem_cons.mpr ⟨kv6_38000, List.forall_mem_cons.mpr ⟨kv6_38005, List.forall_mem_cons.mpr ⟨kv6_54000, List.forall_mem_cons.mpr ⟨kv6_54005, List.forall_mem_cons.mpr ⟨kv6_57000, List.forall_mem_cons.mpr ⟨kv6_57005, List.forall_mem_cons.mpr ⟨kv6_61000, List.forall_mem_cons.mpr ⟨kv6_61005, List.forall_mem_cons.mpr ⟨kv6_64000, List.forall_mem_cons.mpr ⟨kv6_64005, List.forall_mem_cons.mpr ⟨kv6_72000, List.forall_mem_cons.mpr ⟨kv6_72005, List.forall_mem_cons.mpr ⟨kv6_83000, List.forall_mem_cons.mpr ⟨kv6_83005, List.forall_mem_cons.mpr ⟨kv6_86000, List.forall_mem_cons.mpr ⟨kv6_86005, List.forall_mem_cons.mpr ⟨kv6_89000, List.forall_mem_cons.mpr ⟨kv6_89005, List.forall_mem_cons.mpr ⟨kv6_92000, List.forall_mem_cons.mpr ⟨kv6_92005, List.forall_mem_cons.mpr ⟨kv6_99000, List.forall_mem_cons.mpr ⟨kv6_99005, List.forall_mem_cons.mpr ⟨kv6_112000, List.forall_mem_cons.mpr ⟨kv6_112005, List.forall_mem_cons.mpr ⟨kv6_123000, List.forall_mem_cons.mpr ⟨kv6_123005, fun _ h => absurd h List.not_mem_nil⟩⟩⟩⟩⟩⟩⟩⟩⟩⟩⟩⟩⟩⟩⟩⟩⟩⟩⟩⟩⟩⟩⟩⟩⟩⟩⟩⟩⟩⟩⟩⟩⟩⟩
theorem kV7 : ∀ e ∈ tV7, e.1 % 1000 = 0 ∨ OKo 7 (e.1 / 1000) e.2 ∨ OKv 7 (e.1 / 1000) (e.1 % 1000) e.2 := List.forall_mem_cons.mpr ⟨kv7_9000, List.forall_mem_cons.mpr ⟨kv7_9005, List.forall_mem_cons.mpr ⟨kv7_9006, List.forall_mem_cons.mpr ⟨kv7_9007, List.forall_mem_cons.mpr ⟨kv7_25000, List.forall_mem_cons.mpr ⟨kv7_25006, List.forall_mem_cons.mpr ⟨kv7_32000, List.forall_mem_cons.mpr ⟨kv7_32006, List.forall_mem_cons.mpr ⟨kv7_36000, List.forall_mem_cons.mpr ⟨kv7_36006, List.forall_mem_cons.mpr ⟨kv7_42000, List.forall_mem_cons.mpr ⟨kv7_42006, List.forall_mem_cons.mpr ⟨kv7_59000, List.forall_mem_cons.mpr ⟨kv7_59006, List.forall_mem_cons.mpr ⟨kv7_63000, List.forall_mem_cons.mpr ⟨kv7_63006, List.forall_mem_cons.mpr ⟨kv7_67000, List.forall_mem_cons.mpr ⟨kv7_67006, List.forall_mem_cons.mpr ⟨kv7_72000, List.forall_mem_cons.mpr ⟨kv7_72006, List.forall_mem_cons.mpr ⟨kv7_76000, List.forall_mem_cons.mpr ⟨kv7_76009, List.forall_mem_cons.mpr ⟨kv7_88000, List.forall_mem_cons.mpr ⟨kv7_88006, List.forall_mem_cons.mpr ⟨kv7_93000, List.forall_mem_cons.mpr ⟨kv7_93010, List.forall_mem_cons.mpr ⟨kv7_98000, List.forall_mem_cons.mpr ⟨kv7_98011, List.forall_mem_cons.mpr ⟨kv7_103000, List.forall_mem_cons.mpr ⟨kv7_103012, List.forall_mem_cons.mpr ⟨kv7_108000, List.forall_mem_cons.mpr ⟨kv7_108013, List.forall_mem_cons.mpr ⟨kv7_113000, List.forall_mem_cons.mpr ⟨kv7_113014, List.forall_mem_cons.mpr ⟨kv7_118000, List.forall_mem_cons.mpr ⟨kv7_118015, fun _ h => absurd h List.not_mem_nil⟩⟩⟩⟩⟩⟩⟩⟩⟩⟩⟩⟩⟩⟩⟩⟩⟩⟩⟩⟩⟩⟩⟩⟩⟩⟩⟩⟩⟩⟩⟩⟩⟩⟩⟩⟩
theorem kV8 : ∀ e ∈ tV8, e.1 % 1000 = 0 ∨ OKo 8 (e.1 / 1000) e.2 ∨ OKv 8 (e.1 / 1000) (e.1 % 1000) e.2 := List.forall_mem_cons.mpr ⟨kv8_9000, List.forall_mem_cons.mpr ⟨kv8_9005, List.forall_mem_cons.mpr ⟨kv8_9006, List.forall_mem_cons.mpr ⟨kv8_9007, List.forall_mem_cons.mpr ⟨kv8_46000, List.forall_mem_cons.mpr ⟨kv8_46007, List.forall_mem_cons.mpr ⟨kv8_50000, List.forall_mem_cons.mpr ⟨kv8_50007, List.forall_mem_cons.mpr ⟨kv8_57000, List.forall_mem_cons.mpr ⟨kv8_57007, List.forall_mem_cons.mpr ⟨kv8_61000, List.forall_mem_cons.mpr ⟨kv8_61007, List.forall_mem_cons.mpr ⟨kv8_66000, List.forall_mem_cons.mpr ⟨kv8_66007, List.forall_mem_cons.mpr ⟨kv8_70000, List.forall_mem_cons.mpr ⟨kv8_70007, List.forall_mem_cons.mpr ⟨kv8_75000, List.forall_mem_cons.mpr ⟨kv8_75020, List.forall_mem_cons.mpr ⟨kv8_78000, List.forall_mem_cons.mpr ⟨kv8_78007, List.forall_mem_cons.mpr ⟨kv8_85000, List.forall_mem_cons.mpr ⟨kv8_85019, List.forall_mem_cons.mpr ⟨kv8_88000, List.forall_mem_cons.mpr ⟨kv8_88007, List.forall_mem_cons.mpr ⟨kv8_91000, List.forall_mem_cons.mpr ⟨kv8_91007, List.forall_mem_cons.mpr ⟨kv8_97000, List.forall_mem_cons.mpr ⟨kv8_97016, List.forall_mem_cons.mpr ⟨kv8_100000, List.forall_mem_cons.mpr ⟨kv8_100007, List.forall_mem_cons.mpr ⟨kv8_119000, List.forall_mem_cons.mpr ⟨kv8_119007, List.forall_mem_cons.mpr ⟨kv8_129000, List.forall_mem_cons.mpr ⟨kv8_129017, List.forall_mem_cons.mpr ⟨kv8_137000, List.forall_mem_cons.mpr ⟨kv8_137018, fun _ h => absurd h List.not_mem_nil⟩⟩⟩⟩⟩⟩⟩⟩⟩⟩⟩⟩⟩⟩⟩⟩⟩⟩⟩⟩⟩⟩⟩⟩⟩⟩⟩⟩⟩⟩⟩⟩⟩⟩⟩⟩
theorem kV9 : ∀ e ∈ tV9, e.1 % 1000 = 0 ∨ OKo 9 (e.1 / 1000) e.2 ∨ OKv 9 (e.1 / 1000) (e.1 % 1000) e.2 := List.forall_mem_cons.mpr ⟨kv9_1000, List.forall_mem_cons.mpr ⟨kv9_1008, List.forall_mem_cons.mpr ⟨kv9_88000, List.forall_mem_cons.mpr ⟨kv9_88008, List.forall_mem_cons.mpr ⟨kv9_124000, List.forall_mem_cons.mpr ⟨kv9_124008, List.forall_mem_cons.mpr ⟨kv9_146000, List.forall_mem_cons.mpr ⟨kv9_146008, List.forall_mem_cons.mpr ⟨kv9_156000, List.forall_mem_cons.mpr ⟨kv9_156008, List.forall_mem_cons.mpr ⟨kv9_159000, List.forall_mem_cons.mpr ⟨kv9_159008, List.forall_mem_cons.mpr ⟨kv9_162000, List.forall_mem_cons.mpr ⟨kv9_162008, List.forall_mem_cons.mpr ⟨kv9_166000, List.forall_mem_cons.mpr ⟨kv9_166008, List.forall_mem_cons.mpr ⟨kv9_174000, List.forall_mem_cons.mpr ⟨kv9_174008, List.forall_mem_cons.mpr ⟨kv9_178000, List.forall_mem_cons.mpr ⟨kv9_178008, List.forall_mem_cons.mpr ⟨kv9_181000, List.forall_mem_cons.mpr ⟨kv9_181008, List.forall_mem_cons.mpr ⟨kv9_184000, List.forall_mem_cons.mpr ⟨kv9_184008, List.forall_mem_cons.mpr ⟨kv9_187000, List.forall_mem_cons.mpr ⟨kv9_187008, List.forall_mem_cons.mpr ⟨kv9_191000, List.forall_mem_cons.mpr ⟨kv9_191008, List.forall_mem_cons.mpr ⟨kv9_194000, List.forall_mem_cons.mpr ⟨kv9_194008, List.forall_mem_cons.mpr ⟨kv9_201000, List.forall_mem_cons.mpr ⟨kv9_201008, List.forall_mem_cons.mpr ⟨kv9_204000, List.forall_mem_cons.mpr ⟨kv9_204008, List.forall_mem_cons.mpr ⟨kv9_207000, List.forall_mem_cons.mpr ⟨kv9_207008, List.forall_mem_cons.mpr ⟨kv9_210000, List.forall_mem_cons.mpr ⟨kv9_210008, List.forall_mem_cons.mpr ⟨kv9_216000, List.forall_mem_cons.mpr ⟨kv9_216008, List.forall_mem_cons.mpr ⟨kv9_219000, List.forall_mem_cons.mpr ⟨kv9_219008, List.forall_mem_cons.mpr ⟨kv9_222000, List.forall_mem_cons.mpr ⟨kv9_222008, List.forall_mem_cons.mpr ⟨kv9_225000, List.forall_mem_cons.mpr ⟨kv9_225008, List.forall_mem_cons.mpr ⟨kv9_234000, List.forall_mem_cons.mpr ⟨kv9_234008, List.forall_mem_cons.mpr ⟨kv9_238000, List.forall_mem_cons.mpr ⟨kv9_238008, List.forall_mem_cons.mpr ⟨kv9_241000, List.forall_mem_cons.mpr ⟨kv9_241008, List.forall_mem_cons.mpr ⟨kv9_244000, List.forall_mem_cons.mpr ⟨kv9_244008, List.forall_mem_cons.mpr ⟨kv9_247000, List.forall_mem_cons.mpr ⟨kv9_247008, List.forall_mem_cons.mpr ⟨kv9_250000, List.forall_mem_cons.mpr ⟨kv9_250008, List.forall_mem_cons.mpr ⟨kv9_253000, List.forall_mem_cons.mpr ⟨kv9_253008, List.forall_mem_cons.mpr ⟨kv9_256000, List.forall_mem_cons.mpr ⟨kv9_256008, List.forall_mem_cons.mpr ⟨kv9_259000, List.forall_mem_cons.mpr ⟨kv9_259008, List.forall_mem_cons.mpr ⟨kv9_262000, List.forall_mem_cons.mpr ⟨kv9_262008, List.forall_mem_cons.mpr ⟨kv9_268000, List.forall_mem_cons.mpr ⟨kv9_268008, List.forall_mem_cons.mpr ⟨kv9_271000, List.forall_mem_cons.mpr ⟨kv9_271008, List.forall_mem_cons.mpr ⟨kv9_275000, List.forall_mem_cons.mpr ⟨kv9_275008, List.forall_mem_cons.mpr ⟨kv9_278000, List.forall_mem_cons.mpr ⟨kv9_278008, List.forall_mem_cons.mpr ⟨kv9_282000, List.forall_mem_cons.mpr ⟨kv9_282008, List.forall_mem_cons.mpr ⟨kv9_285000, List.forall_mem_cons.mpr ⟨kv9_285008, List.forall_mem_cons.mpr ⟨kv9_289000, List.forall_mem_cons.mpr ⟨kv9_289008, List.forall_mem_cons.mpr ⟨kv9_292000, List.forall_mem_cons.mpr ⟨kv9_292008, List.forall_mem_cons.mpr ⟨kv9_295000, List.forall_mem_cons.mpr ⟨kv9_295008, List.forall_mem_cons.mpr ⟨kv9_301000, List.forall_mem_cons.mpr ⟨kv9_301008, List.forall_mem_cons.mpr ⟨kv9_304000, List.forall_mem_cons.mpr ⟨kv9_304008, List.forall_mem_cons.mpr ⟨kv9_309000, List.forall_mem_cons.mpr ⟨kv9_309008, List.forall_mem_cons.mpr ⟨kv9_323000, List.forall_mem_cons.mpr ⟨kv9_323008, List.forall_mem_cons.mpr ⟨kv9_329000, List.forall_mem_cons.mpr ⟨kv9_329008, List.forall_mem_cons.mpr ⟨kv9_332000, List.forall_mem_cons.mpr ⟨kv9_332008, List.forall_mem_cons.mpr ⟨kv9_338000, List.forall_mem_cons.mpr ⟨kv9_338008, List.forall_mem_cons.mpr ⟨kv9_342000, List.forall_mem_cons.mpr ⟨kv9_342008, List.forall_mem_cons.mpr ⟨kv9_345000, List.forall_mem_cons.mpr ⟨kv9_345008, List.forall_mem_cons.mpr ⟨kv9_348000, List.forall_mem_cons.mpr ⟨kv9_348008, List.forall_mem_cons.mpr ⟨kv9_355000, List.forall_mem_cons.mpr ⟨kv9_355008, List.forall_mem_cons.mpr ⟨kv9_358000, List.forall_mem_cons.mpr ⟨kv9_358008, List.forall_mem_cons.mpr ⟨kv9_364000, List.forall_mem_cons.mpr ⟨kv9_364008, List.forall_mem_cons.mpr ⟨kv9_367000, List.forall_mem_cons.mpr ⟨kv9_367008, List.forall_mem_cons.mpr ⟨kv9_370000, List.forall_mem_cons.mpr ⟨kv9_370008, List.forall_mem_cons.mpr ⟨kv9_376000, List.forall_mem_cons.mpr ⟨kv9_376008, List.forall_mem_cons.mpr ⟨kv9_383000, List.forall_mem_cons.mpr ⟨kv9_383008, List.forall_mem_cons.mpr ⟨kv9_389000, List.forall_mem_cons.mpr ⟨kv9_389008, List.forall_mem_cons.mpr ⟨kv9_392000, List.forall_mem_cons.mpr ⟨kv9_392008, List.forall_mem_cons.mpr ⟨kv9_401000, List.forall_mem_cons.mpr ⟨kv9_401008, List.forall_mem_cons.mpr ⟨kv9_404000, List.forall_mem_cons.mpr ⟨kv9_404008, List.forall_mem_cons.mpr ⟨kv9_407000, List.forall_mem_cons.mpr ⟨kv9_407008, List.forall_mem_cons.mpr ⟨kv9_410000, List.forall_mem_cons.mpr ⟨kv9_410008, List.forall_mem_cons.mpr ⟨kv9_413000, List.forall_mem_cons.mpr ⟨kv9_413008, List.forall_mem_cons.mpr ⟨kv9_416000, List.forall_mem_cons.mpr ⟨kv9_416008, List.forall_mem_cons.mpr ⟨kv9_419000, List.forall_mem_cons.mpr ⟨kv9_419008, fun _ h => absurd h List.not_mem_nil⟩⟩⟩⟩⟩⟩⟩⟩⟩⟩⟩⟩⟩⟩⟩⟩⟩⟩⟩⟩⟩⟩⟩⟩⟩⟩⟩⟩⟩⟩⟩⟩⟩⟩⟩⟩⟩⟩⟩⟩⟩⟩⟩⟩⟩⟩⟩⟩⟩⟩⟩⟩⟩⟩⟩⟩⟩⟩⟩⟩⟩⟩⟩⟩⟩⟩⟩⟩⟩⟩⟩⟩⟩⟩⟩⟩⟩⟩⟩⟩⟩⟩⟩⟩⟩⟩⟩⟩⟩⟩⟩⟩⟩⟩⟩⟩⟩⟩⟩⟩⟩⟩⟩⟩⟩⟩⟩⟩⟩⟩⟩⟩⟩⟩⟩⟩⟩⟩⟩⟩⟩⟩⟩⟩⟩⟩⟩⟩⟩⟩⟩⟩⟩⟩⟩⟩
theorem kV10 : ∀ e ∈ tV10, e.1 % 1000 = 0 ∨ OKo 10 (e.1 / 1000) e.2 ∨ OKv 10 (e.1 / 1000) (e.1 % 1000) e.2 := List.forall_mem_cons.mpr ⟨kv10_1000, List.forall_mem_cons.mpr ⟨kv10_1009, List.forall_mem_cons.mpr ⟨kv10_1010, List.forall_mem_cons.mpr ⟨kv10_1011, List.forall_mem_cons.mpr ⟨kv10_1012, List.forall_mem_cons.mpr ⟨kv10_1013, List.forall_mem_cons.mpr ⟨kv10_1014, List.forall_mem_cons.mpr ⟨kv10_1015, fun _ h => absurd h List.not_mem_nil⟩⟩⟩⟩⟩⟩⟩⟩
theorem kV11 : ∀ e ∈ tV11, e.1 % 1000 = 0 ∨ OKo 11 (e.1 / 1000) e.2 ∨ OKv 11 (e.1 / 1000) (e.1 % 1000) e.2 := List.forall_mem_cons.mpr ⟨kv11_3000, List.forall_mem_cons.mpr ⟨kv11_3009, List.forall_mem_cons.mpr ⟨kv11_3010, List.forall_mem_cons.mpr ⟨kv11_3011, List.forall_mem_cons.mpr ⟨kv11_3012, List.forall_mem_cons.mpr ⟨kv11_3013, List.forall_mem_cons.mpr ⟨kv11_3014, List.forall_mem_cons.mpr ⟨kv11_3015, List.forall_mem_cons.mpr ⟨kv11_20000, List.forall_mem_cons.mpr ⟨kv11_20004, fun _ h => absurd h List.not_mem_nil⟩⟩⟩⟩⟩⟩⟩⟩⟩⟩
theorem kV12 : ∀ e ∈ tV12, e.1 % 1000 = 0 ∨ OKo 12 (e.1 / 1000) e.2 ∨ OKv 12 (e.1 / 1000) (e.1 % 1000) e.2 := List.forall_mem_cons.mpr ⟨kv12_1000, List.forall_mem_cons.mpr ⟨kv12_1009, List.forall_mem_cons.mpr ⟨kv12_1010, List.forall_mem_cons.mpr ⟨kv12_1011, List.forall_mem_cons.mpr ⟨kv12_1012, List.forall_mem_cons.mpr ⟨kv12_1013, List.forall_mem_cons.mpr ⟨kv12_1014, List.forall_mem_cons.mpr ⟨kv12_1015, List.forall_mem_cons.mpr ⟨kv12_19000, List.forall_mem_cons.mpr ⟨kv12_19004, List.forall_mem_cons.mpr ⟨kv12_25000, List.forall_mem_cons.mpr ⟨kv12_25004, fun _ h => absurd h List.not_mem_nil⟩⟩⟩⟩⟩⟩⟩⟩⟩⟩⟩⟩
theorem kV13 : ∀ e ∈ tV13, e.1 % 1000 = 0 ∨ OKo 13 (e.1 / 1000) e.2 ∨ OKv 13 (e.1 / 1000) (e.1 % 1000) e.2 := List.forall_mem_cons.mpr ⟨kv13_1000, List.forall_mem_cons.mpr ⟨kv13_1009, List.forall_mem_cons.mpr ⟨kv13_1010, List.forall_mem_cons.mpr ⟨kv13_1011, List.forall_mem_cons.mpr ⟨kv13_1012, List.forall_mem_cons.mpr ⟨kv13_1013, List.forall_mem_cons.mpr ⟨kv13_1014, List.forall_mem_cons.mpr ⟨kv13_1015, List.forall_mem_cons.mpr ⟨kv13_19000, List.forall_mem_cons.mpr ⟨kv13_19004, List.forall_mem_cons.mpr ⟨kv13_29000, List.forall_mem_cons.mpr ⟨kv13_29004, fun _ h => absurd h List.not_mem_nil⟩⟩⟩⟩⟩⟩⟩⟩⟩⟩⟩⟩
theorem kV14 : ∀ e ∈ tV14, e.1 % 1000 = 0 ∨ OKo 14 (e.1 / 1000) e.2 ∨ OKv 14 (e.1 / 1000) (e.1 % 1000) e.2 := List.forall_mem_cons.mpr ⟨kv14_1000, List.forall_mem_cons.mpr ⟨kv14_1009, List.forall_mem_cons.mpr ⟨kv14_1010, List.forall_mem_cons.mpr ⟨kv14_1011, List.forall_mem_cons.mpr ⟨kv14_1012, List.forall_mem_cons.mpr ⟨kv14_1013, List.forall_mem_cons.mpr ⟨kv14_1014, List.forall_mem_cons.mpr ⟨kv14_1015, List.forall_mem_cons.mpr ⟨kv14_13000, List.forall_mem_cons.mpr ⟨kv14_13004, List.forall_mem_cons.mpr ⟨kv14_23000, List.forall_mem_cons.mpr ⟨kv14_23004, fun _ h => absurd h List.not_mem_nil⟩⟩⟩⟩⟩⟩⟩⟩⟩⟩⟩⟩
theorem kV15 : ∀ e ∈ tV15, e.1 % 1000 = 0 ∨ OKo 15 (e.1 / 1000) e.2 ∨ OKv 15 (e.1 / 1000) (e.1 % 1000) e.2 := List.forall_mem_cons.mpr ⟨kv15_1000, List.forall_mem_cons.mpr ⟨kv15_1009, List.forall_mem_cons.mpr ⟨kv15_1010, List.forall_mem_cons.mpr ⟨kv15_1011, List.forall_mem_cons.mpr ⟨kv15_1012, List.forall_mem_cons.mpr ⟨kv15_1013, List.forall_mem_cons.mpr ⟨kv15_1014, List.forall_mem_cons.mpr ⟨kv15_1015, List.forall_mem_cons.mpr ⟨kv15_13000, List.forall_mem_cons.mpr ⟨kv15_13004, fun _ h => absurd h List.not_mem_nil⟩⟩⟩⟩⟩⟩⟩⟩⟩⟩
theorem kV16 : ∀ e ∈ tV16, e.1 % 1000 = 0 ∨ OKo 16 (e.1 / 1000) e.2 ∨ OKv 16 (e.1 / 1000) (e.1 % 1000) e.2 := List.forall_mem_cons.mpr ⟨kv16_1000, List.forall_mem_cons.mpr ⟨kv16_1009, List.forall_mem_cons.mpr ⟨kv16_1010, List.forall_mem_cons.mpr ⟨kv16_1011, List.forall_mem_cons.mpr ⟨kv16_1012, List.forall_mem_cons.mpr ⟨kv16_1013, List.forall_mem_cons.mpr ⟨kv16_1014, List.forall_mem_cons.mpr ⟨kv16_1015, List.forall_mem_cons.mpr ⟨kv16_13000, List.forall_mem_cons.mpr ⟨kv16_13004, fun _ h => absurd h List.not_mem_nil⟩⟩⟩⟩⟩⟩⟩⟩⟩⟩
theorem kV17 : ∀ e ∈ tV17, e.1 % 1000 = 0 ∨ OKo 17 (e.1 / 1000) e.2 ∨ OKv 17 (e.1 / 1000) (e.1 % 1000) e.2 := List.forall_mem_cons.mpr ⟨kv17_1000, List.forall_mem_cons.mpr ⟨kv17_1009, List.forall_mem_cons.mpr ⟨kv17_1010, List.forall_mem_cons.mpr ⟨kv17_1011, List.forall_mem_cons.mpr ⟨kv17_1012, List.forall_mem_cons.mpr ⟨kv17_1013, List.forall_mem_cons.mpr ⟨kv17_1014, List.forall_mem_cons.mpr ⟨kv17_1015, List.forall_mem_cons.mpr ⟨kv17_13000, List.forall_mem_cons.mpr ⟨kv17_13004, List.forall_mem_cons.mpr ⟨kv17_23000, List.forall_mem_cons.mpr ⟨kv17_23004, fun _ h => absurd h List.not_mem_nil⟩⟩⟩⟩⟩⟩⟩⟩⟩⟩⟩⟩
theorem kV18 : ∀ e ∈ tV18, e.1 % 1000 = 0 ∨ OKo 18 (e.1 / 1000) e.2 ∨ OKv 18 (e.1 / 1000) (e.1 % 1000) e.2 := List.forall_mem_cons.mpr ⟨kv18_1000, List.forall_mem_cons.mpr ⟨kv18_1016, List.forall_mem_cons.mpr ⟨kv18_13000, List.forall_mem_cons.mpr ⟨kv18_13016, List.forall_mem_cons.mpr ⟨kv18_13017, List.forall_mem_cons.mpr ⟨kv18_13018, List.forall_mem_cons.mpr ⟨kv18_13019, List.forall_mem_cons.mpr ⟨kv18_13020, fun _ h => absurd h List.not_mem_nil⟩⟩⟩⟩⟩⟩⟩⟩
theorem kV19 : ∀ e ∈ tV19, e.1 % 1000 = 0 ∨ OKo 19 (e.1 / 1000) e.2 ∨ OKv 19 (e.1 / 1000) (e.1 % 1000) e.2 := List.forall_mem_cons.mpr ⟨kv19_3000, List.forall_mem_cons.mpr ⟨kv19_3017, List.forall_mem_cons.mpr ⟨kv19_22000, List.forall_mem_cons.mpr ⟨kv19_22004, List.forall_mem_cons.mpr ⟨kv19_35000, List.forall_mem_cons.mpr ⟨kv19_35004, fun _ h => absurd h List.not_mem_nil⟩⟩⟩⟩⟩⟩
theorem kV20 : ∀ e ∈ tV20, e.1 % 1000 = 0 ∨ OKo 20 (e.1 / 1000) e.2 ∨ OKv 20 (e.1 / 1000) (e.1 % 1000) e.2 := List.forall_mem_cons.mpr ⟨kv20_1000, List.forall_mem_cons.mpr ⟨kv20_1018, fun _ h => absurd h List.not_mem_nil⟩⟩
theorem kV21 : ∀ e ∈ tV21, e.1 % 1000 = 0 ∨ OKo 21 (e.1 / 1000) e.2 ∨ OKv 21 (e.1 / 1000) (e.1 % 1000) e.2 := List.forall_mem_cons.mpr ⟨kv21_1000, List.forall_mem_cons.mpr ⟨kv21_1019, List.forall_mem_cons.mpr ⟨kv21_16000, List.forall_mem_cons.mpr ⟨kv21_16016, List.forall_mem_cons.mpr ⟨kv21_16017, List.forall_mem_cons.mpr ⟨kv21_16018, List.forall_mem_cons.mpr ⟨kv21_16019, List.forall_mem_cons.mpr ⟨kv21_16020, fun _ h => absurd h List.not_mem_nil⟩⟩⟩⟩⟩⟩⟩⟩
theorem kV22 : ∀ e ∈ tV22, e.1 % 1000 = 0 ∨ OKo 22 (e.1 / 1000) e.2 ∨ OKv 22 (e.1 / 1000) (e.1 % 1000) e.2 := List.forall_mem_cons.mpr ⟨kv22_1000, List.forall_mem_cons.mpr ⟨kv22_1020, List.forall_mem_cons.mpr ⟨kv22_16000, List.forall_mem_cons.mpr ⟨kv22_16016, List.forall_mem_cons.mpr ⟨kv22_16017, List.forall_mem_cons.mpr ⟨kv22_16018, List.forall_mem_cons.mpr ⟨kv22_16019, List.forall_mem_cons.mpr ⟨kv22_16020, fun _ h => absurd h List.not_mem_nil⟩⟩⟩⟩⟩⟩⟩⟩
theorem kV23 : ∀ e ∈ tV23, e.1 % 1000 = 0 ∨ OKo 23 (e.1 / 1000) e.2 ∨ OKv 23 (e.1 / 1000) (e.1 % 1000) e.2 := List.forall_mem_cons.mpr ⟨kv23_1000, List.forall_mem_cons.mpr ⟨kv23_1021, List.forall_mem_cons.mpr ⟨kv23_9000, List.forall_mem_cons.mpr ⟨kv23_9004, fun _ h => absurd h List.not_mem_nil⟩⟩⟩⟩
theorem kV30 : ∀ e ∈ tV30, e.1 % 1000 = 0 ∨ OKo 30 (e.1 / 1000) e.2 ∨ OKv 30 (e.1 / 1000) (e.1 % 1000) e.2 := List.forall_mem_cons.mpr ⟨kv30_1000, List.forall_mem_cons.mpr ⟨kv30_1002, fun _ h => absurd h List.not_mem_nil⟩⟩
theorem kV31 : ∀ e ∈ tV31, e.1 % 1000 = 0 ∨ OKo 31 (e.1 / 1000) e.2 ∨ OKv 31 (e.1 / 1000) (e.1 % 1000) e.2 := List.forall_mem_cons.mpr ⟨kv31_1000, List.forall_mem_cons.mpr ⟨kv31_1002, List.forall_mem_cons.mpr ⟨kv31_16000, List.forall_mem_cons.mpr ⟨kv31_16002, fun _ h => absurd h List.not_mem_nil⟩⟩⟩⟩
theorem kV33 : ∀ e ∈ tV33, e.1 % 1000 = 0 ∨ OKo 33 (e.1 / 1000) e.2 ∨ OKv 33 (e.1 / 1000) (e.1 % 1000) e.2 := List.forall_mem_cons.mpr ⟨kv33_1000, List.forall_mem_cons.mpr ⟨kv33_1022, List.forall_mem_cons.mpr ⟨kv33_335000, List.forall_mem_cons.mpr ⟨kv33_335022, List.forall_mem_cons.mpr ⟨kv33_335050, List.forall_mem_cons.mpr ⟨kv33_492000, List.forall_mem_cons.mpr ⟨kv33_492022, List.forall_mem_cons.mpr ⟨kv33_492050, fun _ h => absurd h List.not_mem_nil⟩⟩⟩⟩⟩⟩⟩⟩
theorem kV37 : ∀ e ∈ tV37, e.1 % 1000 = 0 ∨ OKo 37 (e.1 / 1000) e.2 ∨ OKv 37 (e.1 / 1000) (e.1 % 1000) e.2 := List.forall_mem_cons.mpr ⟨kv37_1000, List.forall_mem_cons.mpr ⟨kv37_1002, fun _ h => absurd h List.not_mem_nil⟩⟩
theorem kV40 : ∀ e ∈ tV40, e.1 % 1000 = 0 ∨ OKo 40 (e.1 / 1000) e.2 ∨ OKv 40 (e.1 / 1000) (e.1 % 1000) e.2 := List.forall_mem_cons.mpr ⟨kv40_65000, List.forall_mem_cons.mpr ⟨kv40_65022, fun _ h => absurd h List.not_mem_nil⟩⟩
theorem kV (o : Nat) : ∀ e ∈ tV o, e.1 % 1000 = 0 ∨ OKo o (e.1 / 1000) e.2 ∨ OKv o (e.1 / 1000) (e.1 % 1000) e.2 := by
  intro e he
  unfold tV at he
  by_cases q0 : o = 0
  · rw [if_pos q0] at he; rw [q0]; exact kV0 e he
  rw [if_neg q0] at he
  by_cases q1 : o = 1
  · rw [if_pos q1] at he; rw [q1]; exact kV1 e he
  rw [if_neg q1] at he
  by_cases q2 : o = 2
  · rw [if_pos q2] at he; rw [q2]; exact kV2 e he
  rw [if_neg q2] at he
  by_cases q3 : o = 3
  · rw [if_pos q3] at he; rw [q3]; exact kV3 e he
  rw [if_neg q3] at he
  by_cases q4 : o = 4
  · rw [if_pos q4] at he; rw [q4]; exact kV4 e he
  rw [if_neg q4] at he
  by_cases q5 : o = 5
  · rw [if_pos q5] at he; rw [q5]; exact kV5 e he
  rw [if_neg q5] at he
  by_cases q6 : o = 6
  · rw [if_pos q6] at he; rw [q6]; exact kV6 e he
  rw [if_neg q6] at he
  by_cases q7 : o = 7
  · rw [if_pos q7] at he; rw [q7]; exact kV7 e he
  rw [if_neg q7] at he
  by_cases q8 : o = 8
  · rw [if_pos q8] at he; rw [q8]; exact kV8 e he
  rw [if_neg q8] at he
  by_cases q9 : o = 9
  · rw [if_pos q9] at he; rw [q9]; exact kV9 e he
  rw [if_neg q9] at he
  by_cases q10 : o = 10
  · rw [if_pos q10] at he; rw [q10]; exact kV10 e he
  rw [if_neg q10] at he
  by_cases q11 : o = 11
  · rw [if_pos q11] at he; rw [q11]; exact kV11 e he
  rw [if_neg q11] at he
  by_cases q12 : o = 12
  · rw [if_pos q12] at he; rw [q12]; exact kV12 e he
  rw [if_neg q12] at he
  by_cases q13 : o = 13
  · rw [if_pos q13] at he; rw [q13]; exact kV13 e he
  rw [if_neg q13] at he
  by_cases q14 : o = 14
  · rw [if_pos q14] at he; rw [q14]; exact kV14 e he
  rw [if_neg q14] at he
  by_cases q15 : o = 15
  · rw [if_pos q15] at he; rw [q15]; exact kV15 e he
  rw [if_neg q15] at he
  by_cases q16 : o = 16
  · rw [if_pos q16] at he; rw [q16]; exact kV16 e he
  rw [if_neg q16] at he
  by_cases q17 : o = 17
  · rw [if_pos q17] at he; rw [q17]; exact kV17 e he
  rw [if_neg q17] at he
  by_cases q18 : o = 18
  · rw [if_pos q18] at he; rw [q18]; exact kV18 e he
  rw [if_neg q18] at he
  by_cases q19 : o = 19
  · rw [if_pos q19] at he; rw [q19]; exact kV19 e he
  rw [if_neg q19] at he
  by_cases q20 : o = 20
  · rw [if_pos q20] at he; rw [q20]; exact kV20 e he
  rw [if_neg q20] at he
  by_cases q21 : o = 21
  · rw [if_pos q21] at he; rw [q21]; exact kV21 e he
  rw [if_neg q21] at he
  by_cases q22 : o = 22
  · rw [if_pos q22] at he; rw [q22]; exact kV22 e he
  rw [if_neg q22] at he
  by_cases q23 : o = 23
  · rw [if_pos q23] at he; rw [q23]; exact kV23 e he
  rw [if_neg q23] at he
  by_cases q30 : o = 30
  · rw [if_pos q30] at he; rw [q30]; exact kV30 e he
  rw [if_neg q30] at he
  by_cases q31 : o = 31
  · rw [if_pos q31] at he; rw [q31]; exact kV31 e he
  rw [if_neg q31] at he
  by_cases q33 : o = 33
  · rw [if_pos q33] at he; rw [q33]; exact kV33 e he
  rw [if_neg q33] at he
  by_cases q37 : o = 37
  · rw [if_pos q37] at he; rw [q37]; exact kV37 e he
  rw [if_neg q37] at he
  by_cases q40 : o = 40
  · rw [if_pos q40] at he; rw [q40]; exact kV40 e he
  rw [if_neg q40] at he
  exact absurd he List.not_mem_nil
theorem okV {o idx K mid : Nat} (h0 : K ≠ 0) (hK : K < 1000) (h : pT.2.2.1 o idx K = some mid) : OKo (o % 100) idx mid ∨ OKv (o % 100) idx K mid := by
  have h1 := kV (o % 100) _ (lkp_mem h)
  simp only at h1
  rw [show (idx * 1000 + K) / 1000 = idx by omega, show (idx * 1000 + K) % 1000 = K by omega] at h1
  exact h1.resolve_left h0
