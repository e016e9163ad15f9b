/-! THE TABLES' ENTRIES ARE BACKED BY THE CLAIM'S WORDS -/
set_option maxRecDepth 100000
theorem lkp_mem {α : Type} {t : List (Nat × α)} {k : Nat} {v : α} (h : lkp t k = some v) : (k, v) ∈ t := by
  induction t with
  | nil => cases h
  | cons e t ih =>
    obtain ⟨a, b⟩ := e
    unfold lkp at h
    by_cases q : a = k
    · rw [if_pos q] at h
      cases h
      rw [q]
      exact List.mem_cons_self
    · rw [if_neg q] at h
      exact List.mem_cons_of_mem _ (ih h)
def OKf (o idx K j : Nat) : Prop := match clL[kcl K]? with
  | some q => j < q.2.2 ∧ ∃ ref, (Cond.fieldLink (onm o) idx ref (q.2.1 j).2.1 (q.2.1 j).2.2.1 ∈ lw_all ∨ ∃ host, Cond.fieldLinkNest (onm o) idx ref (q.2.1 j).2.1 (q.2.1 j).2.2.1 host ∈ lw_tbl ∧ (q.2.1 j).1 ≠ onm o) ∧ ((q.2.1 j).1 = ref ∨ Cond.sameField ref (q.2.1 j).1 (q.2.1 j).2.1 (q.2.1 j).2.2.1 ∈ lw_all)
  | none => False
def OKf' (o : Nat) (e : Nat × Nat) : Prop := OKf o (e.1 / 1000) (e.1 % 1000) e.2
theorem kf1_9001 : OKf' 1 (9001, 0) := ⟨by decide, "SecondHelpings", Or.inl q507, Or.inl rfl⟩
theorem kf1_16001 : OKf' 1 (16001, 3) := ⟨by decide, "SecondHelpings", Or.inl q512, Or.inl rfl⟩
theorem kf1_32001 : OKf' 1 (32001, 4) := ⟨by decide, "SecondHelpings", Or.inl q514, Or.inl rfl⟩
theorem kf1_82001 : OKf' 1 (82001, 5) := ⟨by decide, "SecondHelpings", Or.inl q517, Or.inl rfl⟩
theorem kf1_85001 : OKf' 1 (85001, 6) := ⟨by decide, "SecondHelpings", Or.inl q519, Or.inl rfl⟩
theorem kf1_91001 : OKf' 1 (91001, 7) := ⟨by decide, "SecondHelpings", Or.inl q521, Or.inl rfl⟩
theorem kf1_98001 : OKf' 1 (98001, 8) := ⟨by decide, "SecondHelpings", Or.inl q526, Or.inl rfl⟩
theorem kf1_102001 : OKf' 1 (102001, 9) := ⟨by decide, "SecondHelpings", Or.inl q529, Or.inl rfl⟩
theorem kf1_110001 : OKf' 1 (110001, 10) := ⟨by decide, "SecondHelpings", Or.inl q530, Or.inl rfl⟩
theorem kf1_117001 : OKf' 1 (117001, 11) := ⟨by decide, "SecondHelpings", Or.inl q531, Or.inl rfl⟩
theorem kf1_125001 : OKf' 1 (125001, 13) := ⟨by decide, "SecondHelpings", Or.inl q533, Or.inl rfl⟩
theorem kf1_129001 : OKf' 1 (129001, 15) := ⟨by decide, "SecondHelpings", Or.inl q535, Or.inl rfl⟩
theorem kf1_132001 : OKf' 1 (132001, 16) := ⟨by decide, "SecondHelpings", Or.inl q536, Or.inl rfl⟩
theorem kf1_136001 : OKf' 1 (136001, 17) := ⟨by decide, "SecondHelpings", Or.inl q537, Or.inl rfl⟩
theorem kf1_139001 : OKf' 1 (139001, 19) := ⟨by decide, "SecondHelpings", Or.inl q539, Or.inl rfl⟩
theorem kf1_143001 : OKf' 1 (143001, 23) := ⟨by decide, "SecondHelpings", Or.inl q543, Or.inl rfl⟩
theorem kf1_146001 : OKf' 1 (146001, 24) := ⟨by decide, "SecondHelpings", Or.inl q544, Or.inl rfl⟩
theorem kf1_149001 : OKf' 1 (149001, 25) := ⟨by decide, "SecondHelpings", Or.inl q545, Or.inl rfl⟩
theorem kf1_152001 : OKf' 1 (152001, 26) := ⟨by decide, "SecondHelpings", Or.inl q546, Or.inl rfl⟩
theorem kf1_155001 : OKf' 1 (155001, 28) := ⟨by decide, "SecondHelpings", Or.inl q548, Or.inl rfl⟩
theorem kf1_158001 : OKf' 1 (158001, 29) := ⟨by decide, "SecondHelpings", Or.inl q549, Or.inl rfl⟩
theorem kf1_161001 : OKf' 1 (161001, 31) := ⟨by decide, "SecondHelpings", Or.inl q551, Or.inl rfl⟩
theorem kf1_167001 : OKf' 1 (167001, 33) := ⟨by decide, "SecondHelpings", Or.inl q553, Or.inl rfl⟩
theorem kf1_173001 : OKf' 1 (173001, 35) := ⟨by decide, "SecondHelpings", Or.inl q555, Or.inl rfl⟩
theorem kf1_177001 : OKf' 1 (177001, 1) := ⟨by decide, "SecondHelpings", Or.inl q509, Or.inl rfl⟩
theorem kf1_184001 : OKf' 1 (184001, 2) := ⟨by decide, "SecondHelpings", Or.inl q511, Or.inl rfl⟩
theorem kf1_193001 : OKf' 1 (193001, 12) := ⟨by decide, "SecondHelpings", Or.inl q532, Or.inl rfl⟩
theorem kf1_200001 : OKf' 1 (200001, 14) := ⟨by decide, "SecondHelpings", Or.inl q534, Or.inl rfl⟩
theorem kf1_203001 : OKf' 1 (203001, 34) := ⟨by decide, "SecondHelpings", Or.inl q554, Or.inl rfl⟩
theorem kf1_207002 : OKf' 1 (207002, 6) := ⟨by decide, "SecondHelpings$Fault", Or.inl q185, Or.inl rfl⟩
theorem kf1_210002 : OKf' 1 (210002, 7) := ⟨by decide, "SecondHelpings$Fault", Or.inl q187, Or.inl rfl⟩
theorem kf1_213003 : OKf' 1 (213003, 7) := ⟨by decide, "SecondHelpings$Board", Or.inr ⟨_, q277, by decide⟩, Or.inl rfl⟩
theorem kf1_220003 : OKf' 1 (220003, 8) := ⟨by decide, "SecondHelpings$Board", Or.inr ⟨_, q282, by decide⟩, Or.inl rfl⟩
theorem kf1_231003 : OKf' 1 (231003, 2) := ⟨by decide, "SecondHelpings$Board", Or.inr ⟨_, q256, by decide⟩, Or.inl rfl⟩
theorem kf1_233003 : OKf' 1 (233003, 3) := ⟨by decide, "SecondHelpings$Board", Or.inr ⟨_, q261, by decide⟩, Or.inl rfl⟩
theorem kf1_239004 : OKf' 1 (239004, 7) := ⟨by decide, "SecondHelpings$State", Or.inr ⟨_, q342, by decide⟩, Or.inl rfl⟩
theorem kf1_244004 : OKf' 1 (244004, 2) := ⟨by decide, "SecondHelpings$State", Or.inr ⟨_, q327, by decide⟩, Or.inl rfl⟩
theorem kf1_246004 : OKf' 1 (246004, 3) := ⟨by decide, "SecondHelpings$State", Or.inr ⟨_, q329, by decide⟩, Or.inl rfl⟩
theorem kf1_248004 : OKf' 1 (248004, 4) := ⟨by decide, "SecondHelpings$State", Or.inr ⟨_, q332, by decide⟩, Or.inl rfl⟩
theorem kf1_260004 : OKf' 1 (260004, 0) := ⟨by decide, "SecondHelpings$State", Or.inr ⟨_, q322, by decide⟩, Or.inl rfl⟩
theorem kf1_262004 : OKf' 1 (262004, 1) := ⟨by decide, "SecondHelpings$State", Or.inr ⟨_, q324, by decide⟩, Or.inl rfl⟩
theorem kf1_265003 : OKf' 1 (265003, 5) := ⟨by decide, "SecondHelpings$Board", Or.inr ⟨_, q267, by decide⟩, Or.inl rfl⟩
theorem kf1_267004 : OKf' 1 (267004, 5) := ⟨by decide, "SecondHelpings$State", Or.inr ⟨_, q335, by decide⟩, Or.inl rfl⟩
theorem kf1_270004 : OKf' 1 (270004, 6) := ⟨by decide, "SecondHelpings$State", Or.inr ⟨_, q337, by decide⟩, Or.inl rfl⟩
theorem kf1_272004 : OKf' 1 (272004, 8) := ⟨by decide, "SecondHelpings$State", Or.inr ⟨_, q344, by decide⟩, Or.inl rfl⟩
theorem kf1_274004 : OKf' 1 (274004, 9) := ⟨by decide, "SecondHelpings$State", Or.inr ⟨_, q346, by decide⟩, Or.inl rfl⟩
theorem kf1_277004 : OKf' 1 (277004, 10) := ⟨by decide, "SecondHelpings$State", Or.inr ⟨_, q348, by decide⟩, Or.inl rfl⟩
theorem kf1_339001 : OKf' 1 (339001, 18) := ⟨by decide, "SecondHelpings", Or.inl q538, Or.inl rfl⟩
theorem kf1_364001 : OKf' 1 (364001, 22) := ⟨by decide, "SecondHelpings", Or.inl q542, Or.inl rfl⟩
theorem kf1_368001 : OKf' 1 (368001, 20) := ⟨by decide, "SecondHelpings", Or.inl q540, Or.inl rfl⟩
theorem kf1_371001 : OKf' 1 (371001, 21) := ⟨by decide, "SecondHelpings", Or.inl q541, Or.inl rfl⟩
theorem kf1_379001 : OKf' 1 (379001, 27) := ⟨by decide, "SecondHelpings", Or.inl q547, Or.inl rfl⟩
theorem kf1_388001 : OKf' 1 (388001, 30) := ⟨by decide, "SecondHelpings", Or.inl q550, Or.inl rfl⟩
theorem kf1_402003 : OKf' 1 (402003, 0) := ⟨by decide, "SecondHelpings$Board", Or.inr ⟨_, q247, by decide⟩, Or.inl rfl⟩
theorem kf1_429006 : OKf' 1 (429006, 9) := ⟨by decide, "SecondHelpings$BookReader", Or.inr ⟨_, q439, by decide⟩, Or.inl rfl⟩
theorem kf1_432006 : OKf' 1 (432006, 8) := ⟨by decide, "SecondHelpings$BookReader", Or.inr ⟨_, q437, by decide⟩, Or.inl rfl⟩
theorem kf1_446001 : OKf' 1 (446001, 32) := ⟨by decide, "SecondHelpings", Or.inl q552, Or.inl rfl⟩
theorem kf1_452007 : OKf' 1 (452007, 10) := ⟨by decide, "SecondHelpings$SentenceReader", Or.inr ⟨_, q486, by decide⟩, Or.inl rfl⟩
theorem kf1_462021 : OKf' 1 (462021, 0) := ⟨by decide, "SecondHelpings$Kept", Or.inr ⟨_, q1544, by decide⟩, Or.inl rfl⟩
theorem kf1_463021 : OKf' 1 (463021, 1) := ⟨by decide, "SecondHelpings$Kept", Or.inr ⟨_, q1546, by decide⟩, Or.inl rfl⟩
theorem kf1_466021 : OKf' 1 (466021, 2) := ⟨by decide, "SecondHelpings$Kept", Or.inr ⟨_, q1547, by decide⟩, Or.inl rfl⟩
theorem kf1_467003 : OKf' 1 (467003, 9) := ⟨by decide, "SecondHelpings$Board", Or.inr ⟨_, q285, by decide⟩, Or.inl rfl⟩
theorem kf1_469003 : OKf' 1 (469003, 10) := ⟨by decide, "SecondHelpings$Board", Or.inr ⟨_, q288, by decide⟩, Or.inl rfl⟩
theorem kF1 : ∀ e ∈ tF1, OKf' 1 e := List.forall_mem_cons.mpr ⟨kf1_9001, List.forall_mem_cons.mpr ⟨kf1_16001, List.forall_mem_cons.mpr ⟨kf1_32001, List.forall_mem_cons.mpr ⟨kf1_82001, List.forall_mem_cons.mpr ⟨kf1_85001, List.forall_mem_cons.mpr ⟨kf1_91001, List.forall_mem_cons.mpr ⟨kf1_98001, List.forall_mem_cons.mpr ⟨kf1_102001, List.forall_mem_cons.mpr ⟨kf1_110001, List.forall_mem_cons.mpr ⟨kf1_117001, List.forall_mem_cons.mpr ⟨kf1_125001, List.forall_mem_cons.mpr ⟨kf1_129001, List.forall_mem_cons.mpr ⟨kf1_132001, List.forall_mem_cons.mpr ⟨kf1_136001, List.forall_mem_cons.mpr ⟨kf1_139001, List.forall_mem_cons.mpr ⟨kf1_143001, List.forall_mem_cons.mpr ⟨kf1_146001, List.forall_mem_cons.mpr ⟨kf1_149001, List.forall_mem_cons.mpr ⟨kf1_152001, List.forall_mem_cons.mpr ⟨kf1_155001, List.forall_mem_cons.mpr ⟨kf1_158001, List.forall_mem_cons.mpr ⟨kf1_161001, List.forall_mem_cons.mpr ⟨kf1_167001, List.forall_mem_cons.mpr ⟨kf1_173001, List.forall_mem_cons.mpr ⟨kf1_177001, List.forall_mem_cons.mpr ⟨kf1_184001, List.forall_mem_cons.mpr ⟨kf1_193001, List.forall_mem_cons.mpr ⟨kf1_200001, List.forall_mem_cons.mpr ⟨kf1_203001, List.forall_mem_cons.mpr ⟨kf1_207002, List.forall_mem_cons.mpr ⟨kf1_210002, List.forall_mem_cons.mpr ⟨kf1_213003, List.forall_mem_cons.mpr ⟨kf1_220003, List.forall_mem_cons.mpr ⟨kf1_231003, List.forall_mem_cons.mpr ⟨kf1_233003, List.forall_mem_cons.mpr ⟨kf1_239004, List.forall_mem_cons.mpr ⟨kf1_244004, List.forall_mem_cons.mpr ⟨kf1_246004, List.forall_mem_cons.mpr ⟨kf1_248004, List.forall_mem_cons.mpr ⟨kf1_260004, List.forall_mem_cons.mpr ⟨kf1_262004, List.forall_mem_cons.mpr ⟨kf1_265003, List.forall_mem_cons.mpr ⟨kf1_267004, List.forall_mem_cons.mpr ⟨kf1_270004, List.forall_mem_cons.mpr ⟨kf1_272004, List.forall_mem_cons.mpr ⟨kf1_274004, List.forall_mem_cons.mpr ⟨kf1_277004, List.forall_mem_cons.mpr ⟨kf1_339001, List.forall_mem_cons.mpr ⟨kf1_364001, List.forall_mem_cons.mpr ⟨kf1_368001, List.forall_mem_cons.mpr ⟨kf1_371001, List.forall_mem_cons.mpr ⟨kf1_379001, List.forall_mem_cons.mpr ⟨kf1_388001, List.forall_mem_cons.mpr ⟨kf1_402003, List.forall_mem_cons.mpr ⟨kf1_429006, List.forall_mem_cons.mpr ⟨kf1_432006, List.forall_mem_cons.mpr ⟨kf1_446001, List.forall_mem_cons.mpr ⟨kf1_452007, List.forall_mem_cons.mpr ⟨kf1_462021, List.forall_mem_cons.mpr ⟨kf1_463021, List.forall_mem_cons.mpr ⟨kf1_466021, List.forall_mem_cons.mpr ⟨kf1_467003, List.forall_mem_cons.mpr ⟨kf1_469003, fun _ h => absurd h List.not_mem_nil⟩⟩⟩⟩⟩⟩⟩⟩⟩⟩⟩⟩⟩⟩⟩⟩⟩⟩⟩⟩⟩⟩⟩⟩⟩⟩⟩⟩⟩⟩⟩⟩⟩⟩⟩⟩⟩⟩⟩⟩⟩⟩⟩⟩⟩⟩⟩⟩⟩⟩⟩⟩⟩⟩⟩⟩⟩⟩⟩⟩⟩⟩⟩
theorem kf3_9003 : OKf' 3 (9003, 0) := ⟨by decide, "SecondHelpings$Board", Or.inl q243, Or.inl rfl⟩
theorem kf3_15003 : OKf' 3 (15003, 1) := ⟨by decide, "SecondHelpings$Board", Or.inl q248, Or.inl rfl⟩
theorem kf3_18003 : OKf' 3 (18003, 2) := ⟨by decide, "SecondHelpings$Board", Or.inl q252, Or.inl rfl⟩
theorem kf3_22003 : OKf' 3 (22003, 3) := ⟨by decide, "SecondHelpings$Board", Or.inl q257, Or.inl rfl⟩
theorem kf3_25003 : OKf' 3 (25003, 4) := ⟨by decide, "SecondHelpings$Board", Or.inl q262, Or.inl rfl⟩
theorem kf3_28003 : OKf' 3 (28003, 5) := ⟨by decide, "SecondHelpings$Board", Or.inl q265, Or.inl rfl⟩
theorem kf3_31003 : OKf' 3 (31003, 6) := ⟨by decide, "SecondHelpings$Board", Or.inl q269, Or.inl rfl⟩
theorem kf3_34003 : OKf' 3 (34003, 7) := ⟨by decide, "SecondHelpings$Board", Or.inl q273, Or.inl rfl⟩
theorem kF3 : ∀ e ∈ tF3, OKf' 3 e := List.forall_mem_cons.mpr ⟨kf3_9003, List.forall_mem_cons.mpr ⟨kf3_15003, List.forall_mem_cons.mpr ⟨kf3_18003, List.forall_mem_cons.mpr ⟨kf3_22003, List.forall_mem_cons.mpr ⟨kf3_25003, List.forall_mem_cons.mpr ⟨kf3_28003, List.forall_mem_cons.mpr ⟨kf3_31003, List.forall_mem_cons.mpr ⟨kf3_34003, fun _ h => absurd h List.not_mem_nil⟩⟩⟩⟩⟩⟩⟩⟩
theorem kf4_9004 : OKf' 4 (9004, 0) := ⟨by decide, "SecondHelpings$State", Or.inl q320, Or.inl rfl⟩
theorem kf4_15004 : OKf' 4 (15004, 1) := ⟨by decide, "SecondHelpings$State", Or.inl q323, Or.inl rfl⟩
theorem kf4_18004 : OKf' 4 (18004, 2) := ⟨by decide, "SecondHelpings$State", Or.inl q325, Or.inl rfl⟩
theorem kf4_21004 : OKf' 4 (21004, 3) := ⟨by decide, "SecondHelpings$State", Or.inl q328, Or.inl rfl⟩
theorem kf4_24004 : OKf' 4 (24004, 4) := ⟨by decide, "SecondHelpings$State", Or.inl q330, Or.inl rfl⟩
theorem kf4_33004 : OKf' 4 (33004, 5) := ⟨by decide, "SecondHelpings$State", Or.inl q334, Or.inl rfl⟩
theorem kf4_37004 : OKf' 4 (37004, 6) := ⟨by decide, "SecondHelpings$State", Or.inl q336, Or.inl rfl⟩
theorem kf4_40004 : OKf' 4 (40004, 7) := ⟨by decide, "SecondHelpings$State", Or.inl q339, Or.inl rfl⟩
theorem kf4_43004 : OKf' 4 (43004, 8) := ⟨by decide, "SecondHelpings$State", Or.inl q343, Or.inl rfl⟩
theorem kf4_46004 : OKf' 4 (46004, 9) := ⟨by decide, "SecondHelpings$State", Or.inl q345, Or.inl rfl⟩
theorem kf4_49004 : OKf' 4 (49004, 10) := ⟨by decide, "SecondHelpings$State", Or.inl q347, Or.inl rfl⟩
theorem kf4_52003 : OKf' 4 (52003, 6) := ⟨by decide, "SecondHelpings$Board", Or.inr ⟨_, q270, by decide⟩, Or.inl rfl⟩
theorem kf4_55003 : OKf' 4 (55003, 4) := ⟨by decide, "SecondHelpings$Board", Or.inr ⟨_, q263, by decide⟩, Or.inl rfl⟩
theorem kf4_66003 : OKf' 4 (66003, 7) := ⟨by decide, "SecondHelpings$Board", Or.inr ⟨_, q276, by decide⟩, Or.inl rfl⟩
theorem kf4_69003 : OKf' 4 (69003, 9) := ⟨by decide, "SecondHelpings$Board", Or.inr ⟨_, q284, by decide⟩, Or.inl rfl⟩
theorem kf4_72003 : OKf' 4 (72003, 3) := ⟨by decide, "SecondHelpings$Board", Or.inr ⟨_, q260, by decide⟩, Or.inl rfl⟩
theorem kf4_89003 : OKf' 4 (89003, 10) := ⟨by decide, "SecondHelpings$Board", Or.inr ⟨_, q287, by decide⟩, Or.inl rfl⟩
theorem kf4_90003 : OKf' 4 (90003, 8) := ⟨by decide, "SecondHelpings$Board", Or.inr ⟨_, q281, by decide⟩, Or.inl rfl⟩
theorem kf4_103003 : OKf' 4 (103003, 2) := ⟨by decide, "SecondHelpings$Board", Or.inr ⟨_, q255, by decide⟩, Or.inl rfl⟩
theorem kf4_114003 : OKf' 4 (114003, 5) := ⟨by decide, "SecondHelpings$Board", Or.inr ⟨_, q268, by decide⟩, Or.inl rfl⟩
theorem kf4_121004 : OKf' 4 (121004, 11) := ⟨by decide, "SecondHelpings$State", Or.inl q349, Or.inl rfl⟩
theorem kF4 : ∀ e ∈ tF4, OKf' 4 e := List.forall_mem_cons.mpr ⟨kf4_9004, List.forall_mem_cons.mpr ⟨kf4_15004, List.forall_mem_cons.mpr ⟨kf4_18004, List.forall_mem_cons.mpr ⟨kf4_21004, List.forall_mem_cons.mpr ⟨kf4_24004, List.forall_mem_cons.mpr ⟨kf4_33004, List.forall_mem_cons.mpr ⟨kf4_37004, List.forall_mem_cons.mpr ⟨kf4_40004, List.forall_mem_cons.mpr ⟨kf4_43004, List.forall_mem_cons.mpr ⟨kf4_46004, List.forall_mem_cons.mpr ⟨kf4_49004, List.forall_mem_cons.mpr ⟨kf4_52003, List.forall_mem_cons.mpr ⟨kf4_55003, List.forall_mem_cons.mpr ⟨kf4_66003, List.forall_mem_cons.mpr ⟨kf4_69003, List.forall_mem_cons.mpr ⟨kf4_72003, List.forall_mem_cons.mpr ⟨kf4_89003, List.forall_mem_cons.mpr ⟨kf4_90003, List.forall_mem_cons.mpr ⟨kf4_103003, List.forall_mem_cons.mpr ⟨kf4_114003, List.forall_mem_cons.mpr ⟨kf4_121004, fun _ h => absurd h List.not_mem_nil⟩⟩⟩⟩⟩⟩⟩⟩⟩⟩⟩⟩⟩⟩⟩⟩⟩⟩⟩⟩⟩
theorem kf5_3005 : OKf' 5 (3005, 7) := ⟨by decide, "SecondHelpings$Reader", Or.inl q404, Or.inl rfl⟩
theorem kf5_3006 : OKf' 5 (3006, 7) := ⟨by decide, "SecondHelpings$Reader", Or.inl q404, Or.inl rfl⟩
theorem kf5_3007 : OKf' 5 (3007, 7) := ⟨by decide, "SecondHelpings$Reader", Or.inl q404, Or.inl rfl⟩
theorem kf5_15005 : OKf' 5 (15005, 0) := ⟨by decide, "SecondHelpings$Reader", Or.inl q387, Or.inl rfl⟩
theorem kf5_15006 : OKf' 5 (15006, 0) := ⟨by decide, "SecondHelpings$Reader", Or.inl q387, Or.inl rfl⟩
theorem kf5_15007 : OKf' 5 (15007, 0) := ⟨by decide, "SecondHelpings$Reader", Or.inl q387, Or.inl rfl⟩
theorem kf5_19005 : OKf' 5 (19005, 1) := ⟨by decide, "SecondHelpings$Reader", Or.inl q388, Or.inl rfl⟩
theorem kf5_19006 : OKf' 5 (19006, 1) := ⟨by decide, "SecondHelpings$Reader", Or.inl q388, Or.inl rfl⟩
theorem kf5_19007 : OKf' 5 (19007, 1) := ⟨by decide, "SecondHelpings$Reader", Or.inl q388, Or.inl rfl⟩
theorem kf5_25001 : OKf' 5 (25001, 2) := ⟨by decide, "SecondHelpings", Or.inr ⟨_, q510, by decide⟩, Or.inl rfl⟩
theorem kf5_28001 : OKf' 5 (28001, 0) := ⟨by decide, "SecondHelpings", Or.inr ⟨_, q508, by decide⟩, Or.inl rfl⟩
theorem kf5_40005 : OKf' 5 (40005, 2) := ⟨by decide, "SecondHelpings$Reader", Or.inl q389, Or.inl rfl⟩
theorem kf5_40006 : OKf' 5 (40006, 2) := ⟨by decide, "SecondHelpings$Reader", Or.inl q389, Or.inl rfl⟩
theorem kf5_40007 : OKf' 5 (40007, 2) := ⟨by decide, "SecondHelpings$Reader", Or.inl q389, Or.inl rfl⟩
theorem kf5_43005 : OKf' 5 (43005, 3) := ⟨by decide, "SecondHelpings$Reader", Or.inl q396, Or.inl rfl⟩
theorem kf5_43006 : OKf' 5 (43006, 3) := ⟨by decide, "SecondHelpings$Reader", Or.inl q396, Or.inl rfl⟩
theorem kf5_43007 : OKf' 5 (43007, 3) := ⟨by decide, "SecondHelpings$Reader", Or.inl q396, Or.inl rfl⟩
theorem kf5_57005 : OKf' 5 (57005, 4) := ⟨by decide, "SecondHelpings$Reader", Or.inl q399, Or.inl rfl⟩
theorem kf5_57006 : OKf' 5 (57006, 4) := ⟨by decide, "SecondHelpings$Reader", Or.inl q399, Or.inl rfl⟩
theorem kf5_57007 : OKf' 5 (57007, 4) := ⟨by decide, "SecondHelpings$Reader", Or.inl q399, Or.inl rfl⟩
theorem kf5_60005 : OKf' 5 (60005, 6) := ⟨by decide, "SecondHelpings$Reader", Or.inl q403, Or.inl rfl⟩
theorem kf5_60006 : OKf' 5 (60006, 6) := ⟨by decide, "SecondHelpings$Reader", Or.inl q403, Or.inl rfl⟩
theorem kf5_60007 : OKf' 5 (60007, 6) := ⟨by decide, "SecondHelpings$Reader", Or.inl q403, Or.inl rfl⟩
theorem kf5_64005 : OKf' 5 (64005, 5) := ⟨by decide, "SecondHelpings$Reader", Or.inl q400, Or.inl rfl⟩
theorem kf5_64006 : OKf' 5 (64006, 5) := ⟨by decide, "SecondHelpings$Reader", Or.inl q400, Or.inl rfl⟩
theorem kf5_64007 : OKf' 5 (64007, 5) := ⟨by decide, "SecondHelpings$Reader", Or.inl q400, Or.inl rfl⟩
theorem kf5_80001 : OKf' 5 (80001, 4) := ⟨by decide, "SecondHelpings", Or.inr ⟨_, q516, by decide⟩, Or.inl rfl⟩
theorem kf5_88001 : OKf' 5 (88001, 5) := ⟨by decide, "SecondHelpings", Or.inr ⟨_, q518, by decide⟩, Or.inl rfl⟩
theorem kf5_91001 : OKf' 5 (91001, 3) := ⟨by decide, "SecondHelpings", Or.inr ⟨_, q513, by decide⟩, Or.inl rfl⟩
theorem kf5_95002 : OKf' 5 (95002, 6) := ⟨by decide, "SecondHelpings$Fault", Or.inl q186, Or.inl rfl⟩
theorem kf5_100002 : OKf' 5 (100002, 7) := ⟨by decide, "SecondHelpings$Fault", Or.inl q188, Or.inl rfl⟩
theorem kF5 : ∀ e ∈ tF5, OKf' 5 e := List.forall_mem_cons.mpr ⟨kf5_3005, List.forall_mem_cons.mpr ⟨kf5_3006, List.forall_mem_cons.mpr ⟨kf5_3007, List.forall_mem_cons.mpr ⟨kf5_15005, List.forall_mem_cons.mpr ⟨kf5_15006, List.forall_mem_cons.mpr ⟨kf5_15007, List.forall_mem_cons.mpr ⟨kf5_19005, List.forall_mem_cons.mpr ⟨kf5_19006, List.forall_mem_cons.mpr ⟨kf5_19007, List.forall_mem_cons.mpr ⟨kf5_25001, List.forall_mem_cons.mpr ⟨kf5_28001, List.forall_mem_cons.mpr ⟨kf5_40005, List.forall_mem_cons.mpr ⟨kf5_40006, List.forall_mem_cons.mpr ⟨kf5_40007, List.forall_mem_cons.mpr ⟨kf5_43005, List.forall_mem_cons.mpr ⟨kf5_43006, List.forall_mem_cons.mpr ⟨kf5_43007, List.forall_mem_cons.mpr ⟨kf5_57005, List.forall_mem_cons.mpr ⟨kf5_57006, List.forall_mem_cons.mpr ⟨kf5_57007, List.forall_mem_cons.mpr ⟨kf5_60005, List.forall_mem_cons.mpr ⟨kf5_60006, List.forall_mem_cons.mpr ⟨kf5_60007, List.forall_mem_cons.mpr ⟨kf5_64005, List.forall_mem_cons.mpr ⟨kf5_64006, List.forall_mem_cons.mpr ⟨kf5_64007, List.forall_mem_cons.mpr ⟨kf5_80001, List.forall_mem_cons.mpr ⟨kf5_88001, List.forall_mem_cons.mpr ⟨kf5_91001, List.forall_mem_cons.mpr ⟨kf5_95002, List.forall_mem_cons.mpr ⟨kf5_100002, fun _ h => absurd h List.not_mem_nil⟩⟩⟩⟩⟩⟩⟩⟩⟩⟩⟩⟩⟩⟩⟩⟩⟩⟩⟩⟩⟩⟩⟩⟩⟩⟩⟩⟩⟩⟩⟩
theorem kf6_3005 : OKf' 6 (3005, 10) := ⟨by decide, "SecondHelpings$BoardReader", Or.inl q386, Or.inl rfl⟩
theorem kf6_15005 : OKf' 6 (15005, 8) := ⟨by decide, "SecondHelpings$BoardReader", Or.inl q384, Or.inl rfl⟩
theorem kf6_19005 : OKf' 6 (19005, 9) := ⟨by decide, "SecondHelpings$BoardReader", Or.inl q385, Or.inl rfl⟩
theorem kf6_27005 : OKf' 6 (27005, 3) := ⟨by decide, "SecondHelpings$BoardReader", Or.inl q392, Or.inr q393⟩
theorem kf6_30001 : OKf' 6 (30001, 4) := ⟨by decide, "SecondHelpings", Or.inr ⟨_, q515, by decide⟩, Or.inl rfl⟩
theorem kf6_46003 : OKf' 6 (46003, 7) := ⟨by decide, "SecondHelpings$Board", Or.inr ⟨_, q272, by decide⟩, Or.inl rfl⟩
theorem kf6_51003 : OKf' 6 (51003, 8) := ⟨by decide, "SecondHelpings$Board", Or.inr ⟨_, q278, by decide⟩, Or.inl rfl⟩
theorem kf6_68003 : OKf' 6 (68003, 0) := ⟨by decide, "SecondHelpings$Board", Or.inr ⟨_, q244, by decide⟩, Or.inl rfl⟩
theorem kf6_76003 : OKf' 6 (76003, 1) := ⟨by decide, "SecondHelpings$Board", Or.inr ⟨_, q249, by decide⟩, Or.inl rfl⟩
theorem kf6_79005 : OKf' 6 (79005, 6) := ⟨by decide, "SecondHelpings$BoardReader", Or.inl q401, Or.inr q402⟩
theorem kf6_95003 : OKf' 6 (95003, 6) := ⟨by decide, "SecondHelpings$Board", Or.inr ⟨_, q271, by decide⟩, Or.inl rfl⟩
theorem kf6_103001 : OKf' 6 (103001, 6) := ⟨by decide, "SecondHelpings", Or.inr ⟨_, q520, by decide⟩, Or.inl rfl⟩
theorem kf6_106003 : OKf' 6 (106003, 9) := ⟨by decide, "SecondHelpings$Board", Or.inr ⟨_, q283, by decide⟩, Or.inl rfl⟩
theorem kf6_109003 : OKf' 6 (109003, 10) := ⟨by decide, "SecondHelpings$Board", Or.inr ⟨_, q286, by decide⟩, Or.inl rfl⟩
theorem kf6_116003 : OKf' 6 (116003, 2) := ⟨by decide, "SecondHelpings$Board", Or.inr ⟨_, q254, by decide⟩, Or.inl rfl⟩
theorem kf6_119003 : OKf' 6 (119003, 3) := ⟨by decide, "SecondHelpings$Board", Or.inr ⟨_, q259, by decide⟩, Or.inl rfl⟩
theorem kf6_127003 : OKf' 6 (127003, 4) := ⟨by decide, "SecondHelpings$Board", Or.inr ⟨_, q264, by decide⟩, Or.inl rfl⟩
theorem kf6_132003 : OKf' 6 (132003, 5) := ⟨by decide, "SecondHelpings$Board", Or.inr ⟨_, q266, by decide⟩, Or.inl rfl⟩
theorem kF6 : ∀ e ∈ tF6, OKf' 6 e := List.forall_mem_cons.mpr ⟨kf6_3005, List.forall_mem_cons.mpr ⟨kf6_15005, List.forall_mem_cons.mpr ⟨kf6_19005, List.forall_mem_cons.mpr ⟨kf6_27005, List.forall_mem_cons.mpr ⟨kf6_30001, List.forall_mem_cons.mpr ⟨kf6_46003, List.forall_mem_cons.mpr ⟨kf6_51003, List.forall_mem_cons.mpr ⟨kf6_68003, List.forall_mem_cons.mpr ⟨kf6_76003, List.forall_mem_cons.mpr ⟨kf6_79005, List.forall_mem_cons.mpr ⟨kf6_95003, List.forall_mem_cons.mpr ⟨kf6_103001, List.forall_mem_cons.mpr ⟨kf6_106003, List.forall_mem_cons.mpr ⟨kf6_109003, List.forall_mem_cons.mpr ⟨kf6_116003, List.forall_mem_cons.mpr ⟨kf6_119003, List.forall_mem_cons.mpr ⟨kf6_127003, List.forall_mem_cons.mpr ⟨kf6_132003, fun _ h => absurd h List.not_mem_nil⟩⟩⟩⟩⟩⟩⟩⟩⟩⟩⟩⟩⟩⟩⟩⟩⟩⟩
theorem kf7_3006 : OKf' 7 (3006, 10) := ⟨by decide, "SecondHelpings$BookReader", Or.inl q440, Or.inl rfl⟩
theorem kf7_17006 : OKf' 7 (17006, 8) := ⟨by decide, "SecondHelpings$BookReader", Or.inl q436, Or.inl rfl⟩
theorem kf7_21006 : OKf' 7 (21006, 9) := ⟨by decide, "SecondHelpings$BookReader", Or.inl q438, Or.inl rfl⟩
theorem kf7_29006 : OKf' 7 (29006, 3) := ⟨by decide, "SecondHelpings$BookReader", Or.inl q390, Or.inr q391⟩
theorem kf7_46001 : OKf' 7 (46001, 7) := ⟨by decide, "SecondHelpings", Or.inr ⟨_, q524, by decide⟩, Or.inl rfl⟩
theorem kf7_50003 : OKf' 7 (50003, 0) := ⟨by decide, "SecondHelpings$Board", Or.inr ⟨_, q245, by decide⟩, Or.inl rfl⟩
theorem kf7_56003 : OKf' 7 (56003, 7) := ⟨by decide, "SecondHelpings$Board", Or.inr ⟨_, q274, by decide⟩, Or.inl rfl⟩
theorem kf7_82003 : OKf' 7 (82003, 1) := ⟨by decide, "SecondHelpings$Board", Or.inr ⟨_, q250, by decide⟩, Or.inl rfl⟩
theorem kf7_85003 : OKf' 7 (85003, 8) := ⟨by decide, "SecondHelpings$Board", Or.inr ⟨_, q279, by decide⟩, Or.inl rfl⟩
theorem kF7 : ∀ e ∈ tF7, OKf' 7 e := List.forall_mem_cons.mpr ⟨kf7_3006, List.forall_mem_cons.mpr ⟨kf7_17006, List.forall_mem_cons.mpr ⟨kf7_21006, List.forall_mem_cons.mpr ⟨kf7_29006, List.forall_mem_cons.mpr ⟨kf7_46001, List.forall_mem_cons.mpr ⟨kf7_50003, List.forall_mem_cons.mpr ⟨kf7_56003, List.forall_mem_cons.mpr ⟨kf7_82003, List.forall_mem_cons.mpr ⟨kf7_85003, fun _ h => absurd h List.not_mem_nil⟩⟩⟩⟩⟩⟩⟩⟩⟩
theorem kf8_3007 : OKf' 8 (3007, 11) := ⟨by decide, "SecondHelpings$SentenceReader", Or.inl q487, Or.inl rfl⟩
theorem kf8_27007 : OKf' 8 (27007, 8) := ⟨by decide, "SecondHelpings$SentenceReader", Or.inl q483, Or.inl rfl⟩
theorem kf8_39007 : OKf' 8 (39007, 9) := ⟨by decide, "SecondHelpings$SentenceReader", Or.inl q484, Or.inl rfl⟩
theorem kf8_42007 : OKf' 8 (42007, 10) := ⟨by decide, "SecondHelpings$SentenceReader", Or.inl q485, Or.inl rfl⟩
theorem kf8_54007 : OKf' 8 (54007, 3) := ⟨by decide, "SecondHelpings$SentenceReader", Or.inl q394, Or.inr q395⟩
theorem kf8_106001 : OKf' 8 (106001, 7) := ⟨by decide, "SecondHelpings", Or.inr ⟨_, q525, by decide⟩, Or.inl rfl⟩
theorem kf8_110003 : OKf' 8 (110003, 0) := ⟨by decide, "SecondHelpings$Board", Or.inr ⟨_, q246, by decide⟩, Or.inl rfl⟩
theorem kf8_116003 : OKf' 8 (116003, 7) := ⟨by decide, "SecondHelpings$Board", Or.inr ⟨_, q275, by decide⟩, Or.inl rfl⟩
theorem kf8_123003 : OKf' 8 (123003, 1) := ⟨by decide, "SecondHelpings$Board", Or.inr ⟨_, q251, by decide⟩, Or.inl rfl⟩
theorem kf8_126003 : OKf' 8 (126003, 8) := ⟨by decide, "SecondHelpings$Board", Or.inr ⟨_, q280, by decide⟩, Or.inl rfl⟩
theorem kf8_132007 : OKf' 8 (132007, 4) := ⟨by decide, "SecondHelpings$SentenceReader", Or.inl q397, Or.inr q398⟩
theorem kF8 : ∀ e ∈ tF8, OKf' 8 e := List.forall_mem_cons.mpr ⟨kf8_3007, List.forall_mem_cons.mpr ⟨kf8_27007, List.forall_mem_cons.mpr ⟨kf8_39007, List.forall_mem_cons.mpr ⟨kf8_42007, List.forall_mem_cons.mpr ⟨kf8_54007, List.forall_mem_cons.mpr ⟨kf8_106001, List.forall_mem_cons.mpr ⟨kf8_110003, List.forall_mem_cons.mpr ⟨kf8_116003, List.forall_mem_cons.mpr ⟨kf8_123003, List.forall_mem_cons.mpr ⟨kf8_126003, List.forall_mem_cons.mpr ⟨kf8_132007, fun _ h => absurd h List.not_mem_nil⟩⟩⟩⟩⟩⟩⟩⟩⟩⟩⟩
theorem kf9_7008 : OKf' 9 (7008, 1) := ⟨by decide, "SecondHelpingsModel", Or.inl q1608, Or.inl rfl⟩
theorem kf9_13008 : OKf' 9 (13008, 14) := ⟨by decide, "SecondHelpingsModel", Or.inl q1621, Or.inl rfl⟩
theorem kf9_16008 : OKf' 9 (16008, 15) := ⟨by decide, "SecondHelpingsModel", Or.inl q1622, Or.inl rfl⟩
theorem kf9_19008 : OKf' 9 (19008, 16) := ⟨by decide, "SecondHelpingsModel", Or.inl q1623, Or.inl rfl⟩
theorem kf9_22008 : OKf' 9 (22008, 17) := ⟨by decide, "SecondHelpingsModel", Or.inl q1624, Or.inl rfl⟩
theorem kf9_25008 : OKf' 9 (25008, 18) := ⟨by decide, "SecondHelpingsModel", Or.inl q1625, Or.inl rfl⟩
theorem kf9_28008 : OKf' 9 (28008, 19) := ⟨by decide, "SecondHelpingsModel", Or.inl q1626, Or.inl rfl⟩
theorem kf9_32008 : OKf' 9 (32008, 20) := ⟨by decide, "SecondHelpingsModel", Or.inl q1627, Or.inl rfl⟩
theorem kf9_35008 : OKf' 9 (35008, 21) := ⟨by decide, "SecondHelpingsModel", Or.inl q1628, Or.inl rfl⟩
theorem kf9_38008 : OKf' 9 (38008, 22) := ⟨by decide, "SecondHelpingsModel", Or.inl q1629, Or.inl rfl⟩
theorem kf9_42008 : OKf' 9 (42008, 26) := ⟨by decide, "SecondHelpingsModel", Or.inl q1633, Or.inl rfl⟩
theorem kf9_45008 : OKf' 9 (45008, 27) := ⟨by decide, "SecondHelpingsModel", Or.inl q1634, Or.inl rfl⟩
theorem kf9_48008 : OKf' 9 (48008, 28) := ⟨by decide, "SecondHelpingsModel", Or.inl q1635, Or.inl rfl⟩
theorem kf9_51008 : OKf' 9 (51008, 31) := ⟨by decide, "SecondHelpingsModel", Or.inl q1638, Or.inl rfl⟩
theorem kf9_54008 : OKf' 9 (54008, 32) := ⟨by decide, "SecondHelpingsModel", Or.inl q1639, Or.inl rfl⟩
theorem kf9_58008 : OKf' 9 (58008, 33) := ⟨by decide, "SecondHelpingsModel", Or.inl q1640, Or.inl rfl⟩
theorem kf9_61008 : OKf' 9 (61008, 34) := ⟨by decide, "SecondHelpingsModel", Or.inl q1641, Or.inl rfl⟩
theorem kf9_64008 : OKf' 9 (64008, 35) := ⟨by decide, "SecondHelpingsModel", Or.inl q1642, Or.inl rfl⟩
theorem kf9_67008 : OKf' 9 (67008, 36) := ⟨by decide, "SecondHelpingsModel", Or.inl q1643, Or.inl rfl⟩
theorem kf9_70008 : OKf' 9 (70008, 39) := ⟨by decide, "SecondHelpingsModel", Or.inl q1646, Or.inl rfl⟩
theorem kf9_73008 : OKf' 9 (73008, 42) := ⟨by decide, "SecondHelpingsModel", Or.inl q1649, Or.inl rfl⟩
theorem kf9_76008 : OKf' 9 (76008, 43) := ⟨by decide, "SecondHelpingsModel", Or.inl q1650, Or.inl rfl⟩
theorem kf9_79008 : OKf' 9 (79008, 46) := ⟨by decide, "SecondHelpingsModel", Or.inl q1653, Or.inl rfl⟩
theorem kf9_82008 : OKf' 9 (82008, 0) := ⟨by decide, "SecondHelpingsModel", Or.inl q1607, Or.inl rfl⟩
theorem kf9_85008 : OKf' 9 (85008, 2) := ⟨by decide, "SecondHelpingsModel", Or.inl q1609, Or.inl rfl⟩
theorem kf9_92008 : OKf' 9 (92008, 3) := ⟨by decide, "SecondHelpingsModel", Or.inl q1610, Or.inl rfl⟩
theorem kf9_95008 : OKf' 9 (95008, 5) := ⟨by decide, "SecondHelpingsModel", Or.inl q1612, Or.inl rfl⟩
theorem kf9_98008 : OKf' 9 (98008, 6) := ⟨by decide, "SecondHelpingsModel", Or.inl q1613, Or.inl rfl⟩
theorem kf9_101008 : OKf' 9 (101008, 4) := ⟨by decide, "SecondHelpingsModel", Or.inl q1611, Or.inl rfl⟩
theorem kf9_104008 : OKf' 9 (104008, 7) := ⟨by decide, "SecondHelpingsModel", Or.inl q1614, Or.inl rfl⟩
theorem kf9_114008 : OKf' 9 (114008, 9) := ⟨by decide, "SecondHelpingsModel", Or.inl q1616, Or.inl rfl⟩
theorem kf9_117008 : OKf' 9 (117008, 12) := ⟨by decide, "SecondHelpingsModel", Or.inl q1619, Or.inl rfl⟩
theorem kf9_121008 : OKf' 9 (121008, 8) := ⟨by decide, "SecondHelpingsModel", Or.inl q1615, Or.inl rfl⟩
theorem kf9_140008 : OKf' 9 (140008, 10) := ⟨by decide, "SecondHelpingsModel", Or.inl q1617, Or.inl rfl⟩
theorem kf9_143008 : OKf' 9 (143008, 11) := ⟨by decide, "SecondHelpingsModel", Or.inl q1618, Or.inl rfl⟩
theorem kf9_153008 : OKf' 9 (153008, 13) := ⟨by decide, "SecondHelpingsModel", Or.inl q1620, Or.inl rfl⟩
theorem kf9_197008 : OKf' 9 (197008, 24) := ⟨by decide, "SecondHelpingsModel", Or.inl q1631, Or.inl rfl⟩
theorem kf9_213008 : OKf' 9 (213008, 25) := ⟨by decide, "SecondHelpingsModel", Or.inl q1632, Or.inl rfl⟩
theorem kf9_228008 : OKf' 9 (228008, 23) := ⟨by decide, "SecondHelpingsModel", Or.inl q1630, Or.inl rfl⟩
theorem kf9_298008 : OKf' 9 (298008, 30) := ⟨by decide, "SecondHelpingsModel", Or.inl q1637, Or.inl rfl⟩
theorem kf9_315008 : OKf' 9 (315008, 29) := ⟨by decide, "SecondHelpingsModel", Or.inl q1636, Or.inl rfl⟩
theorem kf9_320008 : OKf' 9 (320008, 38) := ⟨by decide, "SecondHelpingsModel", Or.inl q1645, Or.inl rfl⟩
theorem kf9_326008 : OKf' 9 (326008, 37) := ⟨by decide, "SecondHelpingsModel", Or.inl q1644, Or.inl rfl⟩
theorem kf9_335008 : OKf' 9 (335008, 40) := ⟨by decide, "SecondHelpingsModel", Or.inl q1647, Or.inl rfl⟩
theorem kf9_351008 : OKf' 9 (351008, 41) := ⟨by decide, "SecondHelpingsModel", Or.inl q1648, Or.inl rfl⟩
theorem kf9_361008 : OKf' 9 (361008, 44) := ⟨by decide, "SecondHelpingsModel", Or.inl q1651, Or.inl rfl⟩
theorem kf9_373008 : OKf' 9 (373008, 45) := ⟨by decide, "SecondHelpingsModel", Or.inl q1652, Or.inl rfl⟩
theorem kf9_380008 : OKf' 9 (380008, 47) := ⟨by decide, "SecondHelpingsModel", Or.inl q1654, Or.inl rfl⟩
theorem kf9_386008 : OKf' 9 (386008, 50) := ⟨by decide, "SecondHelpingsModel", Or.inl q1657, Or.inl rfl⟩
theorem kf9_395008 : OKf' 9 (395008, 48) := ⟨by decide, "SecondHelpingsModel", Or.inl q1655, Or.inl rfl⟩
theorem kf9_398008 : OKf' 9 (398008, 49) := ⟨by decide, "SecondHelpingsModel", Or.inl q1656, Or.inl rfl⟩
theorem kF9 : ∀ e ∈ tF9, OKf' 9 e := List.forall_mem_cons.mpr ⟨kf9_7008, List.forall_mem_cons.mpr ⟨kf9_13008, List.forall_mem_cons.mpr ⟨kf9_16008, List.forall_mem_cons.mpr ⟨kf9_19008, List.forall_mem_cons.mpr ⟨kf9_22008, List.forall_mem_cons.mpr ⟨kf9_25008, List.forall_mem_cons.mpr ⟨kf9_28008, List.forall_mem_cons.mpr ⟨kf9_32008, List.forall_mem_cons.mpr ⟨kf9_35008, List.forall_mem_cons.mpr ⟨kf9_38008, List.forall_mem_cons.mpr ⟨kf9_42008, List.forall_mem_cons.mpr ⟨kf9_45008, List.forall_mem_cons.mpr ⟨kf9_48008, List.forall_mem_cons.mpr ⟨kf9_51008, List.forall_mem_cons.mpr ⟨kf9_54008, List.forall_mem_cons.mpr ⟨kf9_58008, List.forall_mem_cons.mpr ⟨kf9_61008, List.forall_mem_cons.mpr ⟨kf9_64008, List.forall_mem_cons.mpr ⟨kf9_67008, List.forall_mem_cons.mpr ⟨kf9_70008, List.forall_mem_cons.mpr ⟨kf9_73008, List.forall_mem_cons.mpr ⟨kf9_76008, List.forall_mem_cons.mpr ⟨kf9_79008, List.forall_mem_cons.mpr ⟨kf9_82008, List.forall_mem_cons.mpr ⟨kf9_85008, List.forall_mem_cons.mpr ⟨kf9_92008, List.forall_mem_cons.mpr ⟨kf9_95008, List.forall_mem_cons.mpr ⟨kf9_98008, List.forall_mem_cons.mpr ⟨kf9_101008, List.forall_mem_cons.mpr ⟨kf9_104008, List.forall_mem_cons.mpr ⟨kf9_114008, List.forall_mem_cons.mpr ⟨kf9_117008, List.forall_mem_cons.mpr ⟨kf9_121008, List.forall_mem_cons.mpr ⟨kf9_140008, List.forall_mem_cons.mpr ⟨kf9_143008, List.forall_mem_cons.mpr ⟨kf9_153008, List.forall_mem_cons.mpr ⟨kf9_197008, List.forall_mem_cons.mpr ⟨kf9_213008, List.forall_mem_cons.mpr ⟨kf9_228008, List.forall_mem_cons.mpr ⟨kf9_298008, List.forall_mem_cons.mpr ⟨kf9_315008, List.forall_mem_cons.mpr ⟨kf9_320008, List.forall_mem_cons.mpr ⟨kf9_326008, List.forall_mem_cons.mpr ⟨kf9_335008, List.forall_mem_cons.mpr ⟨kf9_351008, List.forall_mem_cons.mpr ⟨kf9_361008, List.forall_mem_cons.mpr ⟨kf9_373008, List.forall_mem_cons.mpr ⟨kf9_380008, List.forall_mem_cons.mpr ⟨kf9_386008, List.forall_mem_cons.mpr ⟨kf9_395008, List.forall_mem_cons.mpr ⟨kf9_398008, fun _ h => absurd h List.not_mem_nil⟩⟩⟩⟩⟩⟩⟩⟩⟩⟩⟩⟩⟩⟩⟩⟩⟩⟩⟩⟩⟩⟩⟩⟩⟩⟩⟩⟩⟩⟩⟩⟩⟩⟩⟩⟩⟩⟩⟩⟩⟩⟩⟩⟩⟩⟩⟩⟩⟩⟩⟩
theorem kf11_9009 : OKf' 11 (9009, 0) := ⟨by decide, "SecondHelpings$Meals", Or.inl q1210, Or.inl rfl⟩
theorem kf11_15004 : OKf' 11 (15004, 5) := ⟨by decide, "SecondHelpings$State", Or.inr ⟨_, q333, by decide⟩, Or.inl rfl⟩
theorem kF11 : ∀ e ∈ tF11, OKf' 11 e := List.forall_mem_cons.mpr ⟨kf11_9009, List.forall_mem_cons.mpr ⟨kf11_15004, fun _ h => absurd h List.not_mem_nil⟩⟩
theorem kf12_7010 : OKf' 12 (7010, 0) := ⟨by decide, "SecondHelpings$Eats", Or.inl q1225, Or.inl rfl⟩
theorem kf12_13010 : OKf' 12 (13010, 1) := ⟨by decide, "SecondHelpings$Eats", Or.inl q1226, Or.inl rfl⟩
theorem kf12_16010 : OKf' 12 (16010, 2) := ⟨by decide, "SecondHelpings$Eats", Or.inl q1227, Or.inl rfl⟩
theorem kF12 : ∀ e ∈ tF12, OKf' 12 e := List.forall_mem_cons.mpr ⟨kf12_7010, List.forall_mem_cons.mpr ⟨kf12_13010, List.forall_mem_cons.mpr ⟨kf12_16010, fun _ h => absurd h List.not_mem_nil⟩⟩⟩
theorem kf13_7011 : OKf' 13 (7011, 0) := ⟨by decide, "SecondHelpings$Serves", Or.inl q1241, Or.inl rfl⟩
theorem kf13_13011 : OKf' 13 (13011, 1) := ⟨by decide, "SecondHelpings$Serves", Or.inl q1242, Or.inl rfl⟩
theorem kf13_16011 : OKf' 13 (16011, 2) := ⟨by decide, "SecondHelpings$Serves", Or.inl q1243, Or.inl rfl⟩
theorem kF13 : ∀ e ∈ tF13, OKf' 13 e := List.forall_mem_cons.mpr ⟨kf13_7011, List.forall_mem_cons.mpr ⟨kf13_13011, List.forall_mem_cons.mpr ⟨kf13_16011, fun _ h => absurd h List.not_mem_nil⟩⟩⟩
theorem kf14_7012 : OKf' 14 (7012, 0) := ⟨by decide, "SecondHelpings$Rises", Or.inl q1258, Or.inl rfl⟩
theorem kF14 : ∀ e ∈ tF14, OKf' 14 e := List.forall_mem_cons.mpr ⟨kf14_7012, fun _ h => absurd h List.not_mem_nil⟩
theorem kf15_7013 : OKf' 15 (7013, 0) := ⟨by decide, "SecondHelpings$Refuses", Or.inl q1269, Or.inl rfl⟩
theorem kf15_23004 : OKf' 15 (23004, 7) := ⟨by decide, "SecondHelpings$State", Or.inr ⟨_, q341, by decide⟩, Or.inl rfl⟩
theorem kF15 : ∀ e ∈ tF15, OKf' 15 e := List.forall_mem_cons.mpr ⟨kf15_7013, List.forall_mem_cons.mpr ⟨kf15_23004, fun _ h => absurd h List.not_mem_nil⟩⟩
theorem kf16_7014 : OKf' 16 (7014, 0) := ⟨by decide, "SecondHelpings$Accepts", Or.inl q1280, Or.inl rfl⟩
theorem kf16_23004 : OKf' 16 (23004, 7) := ⟨by decide, "SecondHelpings$State", Or.inr ⟨_, q340, by decide⟩, Or.inl rfl⟩
theorem kF16 : ∀ e ∈ tF16, OKf' 16 e := List.forall_mem_cons.mpr ⟨kf16_7014, List.forall_mem_cons.mpr ⟨kf16_23004, fun _ h => absurd h List.not_mem_nil⟩⟩
theorem kf17_7015 : OKf' 17 (7015, 0) := ⟨by decide, "SecondHelpings$Dies", Or.inl q1291, Or.inl rfl⟩
theorem kF17 : ∀ e ∈ tF17, OKf' 17 e := List.forall_mem_cons.mpr ⟨kf17_7015, fun _ h => absurd h List.not_mem_nil⟩
theorem kf18_7016 : OKf' 18 (7016, 0) := ⟨by decide, "SecondHelpings$Not", Or.inl q1419, Or.inl rfl⟩
theorem kF18 : ∀ e ∈ tF18, OKf' 18 e := List.forall_mem_cons.mpr ⟨kf18_7016, fun _ h => absurd h List.not_mem_nil⟩
theorem kf19_9017 : OKf' 19 (9017, 0) := ⟨by decide, "SecondHelpings$Marks", Or.inl q1435, Or.inl rfl⟩
theorem kf19_15017 : OKf' 19 (15017, 1) := ⟨by decide, "SecondHelpings$Marks", Or.inl q1436, Or.inl rfl⟩
theorem kf19_18001 : OKf' 19 (18001, 8) := ⟨by decide, "SecondHelpings", Or.inr ⟨_, q528, by decide⟩, Or.inl rfl⟩
theorem kf19_28004 : OKf' 19 (28004, 7) := ⟨by decide, "SecondHelpings$State", Or.inr ⟨_, q338, by decide⟩, Or.inl rfl⟩
theorem kf19_39001 : OKf' 19 (39001, 7) := ⟨by decide, "SecondHelpings", Or.inr ⟨_, q523, by decide⟩, Or.inl rfl⟩
theorem kf19_43003 : OKf' 19 (43003, 3) := ⟨by decide, "SecondHelpings$Board", Or.inr ⟨_, q258, by decide⟩, Or.inl rfl⟩
theorem kf19_49004 : OKf' 19 (49004, 0) := ⟨by decide, "SecondHelpings$State", Or.inr ⟨_, q321, by decide⟩, Or.inl rfl⟩
theorem kF19 : ∀ e ∈ tF19, OKf' 19 e := List.forall_mem_cons.mpr ⟨kf19_9017, List.forall_mem_cons.mpr ⟨kf19_15017, List.forall_mem_cons.mpr ⟨kf19_18001, List.forall_mem_cons.mpr ⟨kf19_28004, List.forall_mem_cons.mpr ⟨kf19_39001, List.forall_mem_cons.mpr ⟨kf19_43003, List.forall_mem_cons.mpr ⟨kf19_49004, fun _ h => absurd h List.not_mem_nil⟩⟩⟩⟩⟩⟩⟩
theorem kf20_7018 : OKf' 20 (7018, 0) := ⟨by decide, "SecondHelpings$Counts", Or.inl q1448, Or.inl rfl⟩
theorem kf20_13018 : OKf' 20 (13018, 1) := ⟨by decide, "SecondHelpings$Counts", Or.inl q1449, Or.inl rfl⟩
theorem kf20_16018 : OKf' 20 (16018, 2) := ⟨by decide, "SecondHelpings$Counts", Or.inl q1450, Or.inl rfl⟩
theorem kf20_19001 : OKf' 20 (19001, 7) := ⟨by decide, "SecondHelpings", Or.inr ⟨_, q522, by decide⟩, Or.inl rfl⟩
theorem kf20_25003 : OKf' 20 (25003, 2) := ⟨by decide, "SecondHelpings$Board", Or.inr ⟨_, q253, by decide⟩, Or.inl rfl⟩
theorem kf20_31001 : OKf' 20 (31001, 8) := ⟨by decide, "SecondHelpings", Or.inr ⟨_, q527, by decide⟩, Or.inl rfl⟩
theorem kf20_35004 : OKf' 20 (35004, 2) := ⟨by decide, "SecondHelpings$State", Or.inr ⟨_, q326, by decide⟩, Or.inl rfl⟩
theorem kf20_40004 : OKf' 20 (40004, 4) := ⟨by decide, "SecondHelpings$State", Or.inr ⟨_, q331, by decide⟩, Or.inl rfl⟩
theorem kF20 : ∀ e ∈ tF20, OKf' 20 e := List.forall_mem_cons.mpr ⟨kf20_7018, List.forall_mem_cons.mpr ⟨kf20_13018, List.forall_mem_cons.mpr ⟨kf20_16018, List.forall_mem_cons.mpr ⟨kf20_19001, List.forall_mem_cons.mpr ⟨kf20_25003, List.forall_mem_cons.mpr ⟨kf20_31001, List.forall_mem_cons.mpr ⟨kf20_35004, List.forall_mem_cons.mpr ⟨kf20_40004, fun _ h => absurd h List.not_mem_nil⟩⟩⟩⟩⟩⟩⟩⟩
theorem kf21_7019 : OKf' 21 (7019, 0) := ⟨by decide, "SecondHelpings$Both", Or.inl q1465, Or.inl rfl⟩
theorem kf21_13019 : OKf' 21 (13019, 1) := ⟨by decide, "SecondHelpings$Both", Or.inl q1466, Or.inl rfl⟩
theorem kF21 : ∀ e ∈ tF21, OKf' 21 e := List.forall_mem_cons.mpr ⟨kf21_7019, List.forall_mem_cons.mpr ⟨kf21_13019, fun _ h => absurd h List.not_mem_nil⟩⟩
theorem kf22_7020 : OKf' 22 (7020, 0) := ⟨by decide, "SecondHelpings$Any", Or.inl q1479, Or.inl rfl⟩
theorem kf22_13020 : OKf' 22 (13020, 1) := ⟨by decide, "SecondHelpings$Any", Or.inl q1480, Or.inl rfl⟩
theorem kF22 : ∀ e ∈ tF22, OKf' 22 e := List.forall_mem_cons.mpr ⟨kf22_7020, List.forall_mem_cons.mpr ⟨kf22_13020, fun _ h => absurd h List.not_mem_nil⟩⟩
theorem kf23_10021 : OKf' 23 (10021, 1) := ⟨by decide, "SecondHelpings$Kept", Or.inl q1545, Or.inl rfl⟩
theorem kF23 : ∀ e ∈ tF23, OKf' 23 e := List.forall_mem_cons.mpr ⟨kf23_10021, fun _ h => absurd h List.not_mem_nil⟩
theorem kf33_9022 : OKf' 33 (9022, 0) := ⟨by decide, "java/lang/String", Or.inl q1122, Or.inl rfl⟩
theorem kf33_9050 : OKf' 33 (9050, 0) := ⟨by decide, "java/lang/String", Or.inl q1122, Or.inl rfl⟩
theorem kf33_15022 : OKf' 33 (15022, 1) := ⟨by decide, "java/lang/String", Or.inl q1123, Or.inl rfl⟩
theorem kf33_15050 : OKf' 33 (15050, 1) := ⟨by decide, "java/lang/String", Or.inl q1123, Or.inl rfl⟩
theorem kF33 : ∀ e ∈ tF33, OKf' 33 e := List.forall_mem_cons.mpr ⟨kf33_9022, List.forall_mem_cons.mpr ⟨kf33_9050, List.forall_mem_cons.mpr ⟨kf33_15022, List.forall_mem_cons.mpr ⟨kf33_15050, fun _ h => absurd h List.not_mem_nil⟩⟩⟩⟩
theorem kF (o : Nat) : ∀ e ∈ tF o, OKf' o e := by
  intro e he
  unfold tF at he
  by_cases q1 : o = 1
  · rw [if_pos q1] at he; rw [q1]; exact kF1 e he
  rw [if_neg q1] at he
  by_cases q3 : o = 3
  · rw [if_pos q3] at he; rw [q3]; exact kF3 e he
  rw [if_neg q3] at he
  by_cases q4 : o = 4
  · rw [if_pos q4] at he; rw [q4]; exact kF4 e he
  rw [if_neg q4] at he
  by_cases q5 : o = 5
  · rw [if_pos q5] at he; rw [q5]; exact kF5 e he
  rw [if_neg q5] at he
  by_cases q6 : o = 6
  · rw [if_pos q6] at he; rw [q6]; exact kF6 e he
  rw [if_neg q6] at he
  by_cases q7 : o = 7
  · rw [if_pos q7] at he; rw [q7]; exact kF7 e he
  rw [if_neg q7] at he
  by_cases q8 : o = 8
  · rw [if_pos q8] at he; rw [q8]; exact kF8 e he
  rw [if_neg q8] at he
  by_cases q9 : o = 9
  · rw [if_pos q9] at he; rw [q9]; exact kF9 e he
  rw [if_neg q9] at he
  by_cases q11 : o = 11
  · rw [if_pos q11] at he; rw [q11]; exact kF11 e he
  rw [if_neg q11] at he
  by_cases q12 : o = 12
  · rw [if_pos q12] at he; rw [q12]; exact kF12 e he
  rw [if_neg q12] at he
  by_cases q13 : o = 13
  · rw [if_pos q13] at he; rw [q13]; exact kF13 e he
  rw [if_neg q13] at he
  by_cases q14 : o = 14
  · rw [if_pos q14] at he; rw [q14]; exact kF14 e he
  rw [if_neg q14] at he
  by_cases q15 : o = 15
  · rw [if_pos q15] at he; rw [q15]; exact kF15 e he
  rw [if_neg q15] at he
  by_cases q16 : o = 16
  · rw [if_pos q16] at he; rw [q16]; exact kF16 e he
  rw [if_neg q16] at he
  by_cases q17 : o = 17
  · rw [if_pos q17] at he; rw [q17]; exact kF17 e he
  rw [if_neg q17] at he
  by_cases q18 : o = 18
  · rw [if_pos q18] at he; rw [q18]; exact kF18 e he
  rw [if_neg q18] at he
  by_cases q19 : o = 19
  · rw [if_pos q19] at he; rw [q19]; exact kF19 e he
  rw [if_neg q19] at he
  by_cases q20 : o = 20
  · rw [if_pos q20] at he; rw [q20]; exact kF20 e he
  rw [if_neg q20] at he
  by_cases q21 : o = 21
  · rw [if_pos q21] at he; rw [q21]; exact kF21 e he
  rw [if_neg q21] at he
  by_cases q22 : o = 22
  · rw [if_pos q22] at he; rw [q22]; exact kF22 e he
  rw [if_neg q22] at he
  by_cases q23 : o = 23
  · rw [if_pos q23] at he; rw [q23]; exact kF23 e he
  rw [if_neg q23] at he
  by_cases q33 : o = 33
  · rw [if_pos q33] at he; rw [q33]; exact kF33 e he
  rw [if_neg q33] at he
  exact absurd he List.not_mem_nil
theorem okF {o idx K j : Nat} (hK : K < 1000) (h : pT.1 o idx K = some j) : OKf (o % 100) idx K j := by
  have h1 := kF (o % 100) _ (lkp_mem h)
  unfold OKf' at h1
  simp only at h1
  rw [show (idx * 1000 + K) / 1000 = idx by omega, show (idx * 1000 + K) % 1000 = K by omega] at h1
  exact h1
def OKn (e : Nat × Nat × Nat) : Prop := match clL[kcl e.2.1]? with
  | some q => q.2.2 = e.2.2 ∧ 1 ≤ e.2.1 ∧ e.2.1 ≤ 22 ∧ Cond.classLink (onm (e.1 / 100000)) (e.1 % 100000) q.1 ∈ lw_all ∧ Cond.instantiable q.1 q.2.2 ∈ lw_all ∧ Cond.initialized q.1 ∈ lw_all
  | none => False
theorem kn0_8 : OKn (8, 1, 36) := ⟨rfl, by decide, by decide, q130, q131, q94⟩
theorem kn0_16 : OKn (16, 8, 51) := ⟨rfl, by decide, by decide, q1601, q1602, q106⟩
theorem kn1_13 : OKn (100013, 2, 8) := ⟨rfl, by decide, by decide, q138, q139, q97⟩
theorem kn1_20 : OKn (100020, 22, 4) := ⟨rfl, by decide, by decide, q207, q1117, q107⟩
theorem kn1_88 : OKn (100088, 3, 11) := ⟨rfl, by decide, by decide, q237, q238, q98⟩
theorem kn1_95 : OKn (100095, 4, 12) := ⟨rfl, by decide, by decide, q314, q315, q99⟩
theorem kn1_105 : OKn (100105, 5, 11) := ⟨rfl, by decide, by decide, q375, q376, q101⟩
theorem kn1_114 : OKn (100114, 6, 11) := ⟨rfl, by decide, by decide, q428, q429, q102⟩
theorem kn1_164 : OKn (100164, 7, 12) := ⟨rfl, by decide, by decide, q467, q468, q105⟩
theorem kn1_171 : OKn (100171, 21, 3) := ⟨rfl, by decide, by decide, q505, q1537, q129⟩
theorem kn7_70 : OKn (700070, 9, 1) := ⟨rfl, by decide, by decide, q1198, q1199, q117⟩
theorem kn7_91 : OKn (700091, 10, 3) := ⟨rfl, by decide, by decide, q1219, q1220, q118⟩
theorem kn7_96 : OKn (700096, 11, 3) := ⟨rfl, by decide, by decide, q1235, q1236, q119⟩
theorem kn7_101 : OKn (700101, 12, 1) := ⟨rfl, by decide, by decide, q1252, q1253, q120⟩
theorem kn7_106 : OKn (700106, 13, 1) := ⟨rfl, by decide, by decide, q1263, q1264, q121⟩
theorem kn7_111 : OKn (700111, 14, 1) := ⟨rfl, by decide, by decide, q1274, q1275, q122⟩
theorem kn7_116 : OKn (700116, 15, 1) := ⟨rfl, by decide, by decide, q1285, q1286, q123⟩
theorem kn8_15 : OKn (800015, 22, 4) := ⟨rfl, by decide, by decide, q473, q1117, q107⟩
theorem kn8_73 : OKn (800073, 20, 2) := ⟨rfl, by decide, by decide, q1473, q1474, q128⟩
theorem kn8_83 : OKn (800083, 19, 2) := ⟨rfl, by decide, by decide, q1459, q1460, q127⟩
theorem kn8_95 : OKn (800095, 16, 1) := ⟨rfl, by decide, by decide, q1413, q1414, q124⟩
theorem kn8_104 : OKn (800104, 17, 2) := ⟨rfl, by decide, by decide, q1426, q1427, q125⟩
theorem kn8_135 : OKn (800135, 18, 3) := ⟨rfl, by decide, by decide, q1442, q1443, q126⟩
theorem kn23_7 : OKn (2300007, 4, 12) := ⟨rfl, by decide, by decide, q1542, q315, q99⟩
theorem kn40_5 : OKn (4000005, 22, 4) := ⟨rfl, by decide, by decide, q1116, q1117, q107⟩
theorem kN : ∀ e ∈ tN, OKn e := List.forall_mem_cons.mpr ⟨kn0_8, List.forall_mem_cons.mpr ⟨kn0_16, List.forall_mem_cons.mpr ⟨kn1_13, List.forall_mem_cons.mpr ⟨kn1_20, List.forall_mem_cons.mpr ⟨kn1_88, List.forall_mem_cons.mpr ⟨kn1_95, List.forall_mem_cons.mpr ⟨kn1_105, List.forall_mem_cons.mpr ⟨kn1_114, List.forall_mem_cons.mpr ⟨kn1_164, List.forall_mem_cons.mpr ⟨kn1_171, List.forall_mem_cons.mpr ⟨kn7_70, List.forall_mem_cons.mpr ⟨kn7_91, List.forall_mem_cons.mpr ⟨kn7_96, List.forall_mem_cons.mpr ⟨kn7_101, List.forall_mem_cons.mpr ⟨kn7_106, List.forall_mem_cons.mpr ⟨kn7_111, List.forall_mem_cons.mpr ⟨kn7_116, List.forall_mem_cons.mpr ⟨kn8_15, List.forall_mem_cons.mpr ⟨kn8_73, List.forall_mem_cons.mpr ⟨kn8_83, List.forall_mem_cons.mpr ⟨kn8_95, List.forall_mem_cons.mpr ⟨kn8_104, List.forall_mem_cons.mpr ⟨kn8_135, List.forall_mem_cons.mpr ⟨kn23_7, List.forall_mem_cons.mpr ⟨kn40_5, fun _ h => absurd h List.not_mem_nil⟩⟩⟩⟩⟩⟩⟩⟩⟩⟩⟩⟩⟩⟩⟩⟩⟩⟩⟩⟩⟩⟩⟩⟩⟩
def caL : List String := ["SecondHelpings$State", "SecondHelpings$Line", "SecondHelpings$Kept", "java/lang/String"]
def OKa (e : Nat × Nat) : Prop := 104 ≤ e.2 ∧ e.2 ≤ 107 ∧ Cond.classLink (onm (e.1 / 100000)) (e.1 % 100000) (caL.getD (e.2 - 104) "") ∈ lw_all
theorem kna1_20 : OKa (100020, 107) := ⟨by decide, by decide, q207⟩
theorem kna1_95 : OKa (100095, 104) := ⟨by decide, by decide, q314⟩
theorem kna1_171 : OKa (100171, 106) := ⟨by decide, by decide, q505⟩
theorem kna7_15 : OKa (700015, 105) := ⟨by decide, by decide, q434⟩
theorem kna8_15 : OKa (800015, 107) := ⟨by decide, by decide, q473⟩
theorem kna23_7 : OKa (2300007, 104) := ⟨by decide, by decide, q1542⟩
theorem kna40_5 : OKa (4000005, 107) := ⟨by decide, by decide, q1116⟩
theorem kA : ∀ e ∈ tA, OKa e := List.forall_mem_cons.mpr ⟨kna1_20, List.forall_mem_cons.mpr ⟨kna1_95, List.forall_mem_cons.mpr ⟨kna1_171, List.forall_mem_cons.mpr ⟨kna7_15, List.forall_mem_cons.mpr ⟨kna8_15, List.forall_mem_cons.mpr ⟨kna23_7, List.forall_mem_cons.mpr ⟨kna40_5, fun _ h => absurd h List.not_mem_nil⟩⟩⟩⟩⟩⟩⟩
def txL : List String := ["person", "dish", "plate", "law", "dogs", "of", "spoils", "next", "child", "least", "eats", "served", "rises", "refuses", "accepts", "dies", "meal", "or", "and", "not", "dead", "refused", "clean", "has", "wants", "eaten", "hunger", "number", " leaves ", "nothing", " to ", "nobody"]
def OKc (e : Nat × Value) : Prop := match e.2 with
  | .int v => Cond.constant (onm (e.1 / 100000)) (e.1 % 100000) v ∈ lw_all
  | .long v => Cond.constantLong (onm (e.1 / 100000)) (e.1 % 100000) v ∈ lw_all
  | .ref a => ∃ i, i < 32 ∧ a = 1000000 + 2 * i ∧ Cond.stringRef (onm (e.1 / 100000)) (e.1 % 100000) (txL.getD i "") ∈ lw_tbl
  | _ => False
theorem kk1_22 : OKc (100022, .ref 1000000) := ⟨0, by decide, rfl, q209⟩
theorem kk1_24 : OKc (100024, .ref 1000002) := ⟨1, by decide, rfl, q210⟩
theorem kk1_26 : OKc (100026, .ref 1000004) := ⟨2, by decide, rfl, q211⟩
theorem kk1_28 : OKc (100028, .ref 1000006) := ⟨3, by decide, rfl, q212⟩
theorem kk1_30 : OKc (100030, .ref 1000008) := ⟨4, by decide, rfl, q213⟩
theorem kk1_36 : OKc (100036, .ref 1000010) := ⟨5, by decide, rfl, q214⟩
theorem kk1_38 : OKc (100038, .ref 1000012) := ⟨6, by decide, rfl, q215⟩
theorem kk1_40 : OKc (100040, .ref 1000014) := ⟨7, by decide, rfl, q216⟩
theorem kk1_42 : OKc (100042, .ref 1000016) := ⟨8, by decide, rfl, q217⟩
theorem kk1_44 : OKc (100044, .ref 1000018) := ⟨9, by decide, rfl, q218⟩
theorem kk1_46 : OKc (100046, .ref 1000020) := ⟨10, by decide, rfl, q219⟩
theorem kk1_48 : OKc (100048, .ref 1000022) := ⟨11, by decide, rfl, q220⟩
theorem kk1_50 : OKc (100050, .ref 1000024) := ⟨12, by decide, rfl, q221⟩
theorem kk1_52 : OKc (100052, .ref 1000026) := ⟨13, by decide, rfl, q222⟩
theorem kk1_54 : OKc (100054, .ref 1000028) := ⟨14, by decide, rfl, q223⟩
theorem kk1_56 : OKc (100056, .ref 1000030) := ⟨15, by decide, rfl, q224⟩
theorem kk1_58 : OKc (100058, .ref 1000032) := ⟨16, by decide, rfl, q225⟩
theorem kk1_60 : OKc (100060, .ref 1000034) := ⟨17, by decide, rfl, q226⟩
theorem kk1_62 : OKc (100062, .ref 1000036) := ⟨18, by decide, rfl, q227⟩
theorem kk1_64 : OKc (100064, .ref 1000038) := ⟨19, by decide, rfl, q228⟩
theorem kk1_66 : OKc (100066, .ref 1000040) := ⟨20, by decide, rfl, q229⟩
theorem kk1_68 : OKc (100068, .ref 1000042) := ⟨21, by decide, rfl, q230⟩
theorem kk1_70 : OKc (100070, .ref 1000044) := ⟨22, by decide, rfl, q231⟩
theorem kk1_72 : OKc (100072, .ref 1000046) := ⟨23, by decide, rfl, q232⟩
theorem kk1_74 : OKc (100074, .ref 1000048) := ⟨24, by decide, rfl, q233⟩
theorem kk1_76 : OKc (100076, .ref 1000050) := ⟨25, by decide, rfl, q234⟩
theorem kk1_78 : OKc (100078, .ref 1000052) := ⟨26, by decide, rfl, q235⟩
theorem kk1_80 : OKc (100080, .ref 1000054) := ⟨27, by decide, rfl, q236⟩
theorem kk1_352 : OKc (100352, .int 100000) := (q993 : _)
theorem kk1_400 : OKc (100400, .long 255) := (q1089 : _)
theorem kk1_409 : OKc (100409, .ref 1000056) := ⟨28, by decide, rfl, q1094⟩
theorem kk1_414 : OKc (100414, .ref 1000058) := ⟨29, by decide, rfl, q1101⟩
theorem kk1_420 : OKc (100420, .ref 1000060) := ⟨30, by decide, rfl, q1141⟩
theorem kk1_422 : OKc (100422, .ref 1000062) := ⟨31, by decide, rfl, q1142⟩
theorem kk4_124 : OKc (400124, .int 1103515245) := (q1163 : _)
theorem kk6_122 : OKc (600122, .ref 1000010) := ⟨5, by decide, rfl, q798⟩
theorem kk6_130 : OKc (600130, .ref 1000012) := ⟨6, by decide, rfl, q822⟩
theorem kk7_40 : OKc (700040, .ref 1000032) := ⟨16, by decide, rfl, q1185⟩
theorem kk7_78 : OKc (700078, .ref 1000020) := ⟨10, by decide, rfl, q1214⟩
theorem kk7_80 : OKc (700080, .ref 1000022) := ⟨11, by decide, rfl, q1215⟩
theorem kk7_99 : OKc (700099, .ref 1000024) := ⟨12, by decide, rfl, q1251⟩
theorem kk7_104 : OKc (700104, .ref 1000026) := ⟨13, by decide, rfl, q1262⟩
theorem kk7_109 : OKc (700109, .ref 1000028) := ⟨14, by decide, rfl, q1273⟩
theorem kk7_114 : OKc (700114, .ref 1000030) := ⟨15, by decide, rfl, q1284⟩
theorem kk8_17 : OKc (800017, .ref 1000040) := ⟨20, by decide, rfl, q474⟩
theorem kk8_19 : OKc (800019, .ref 1000042) := ⟨21, by decide, rfl, q475⟩
theorem kk8_21 : OKc (800021, .ref 1000044) := ⟨22, by decide, rfl, q476⟩
theorem kk8_23 : OKc (800023, .ref 1000010) := ⟨5, by decide, rfl, q477⟩
theorem kk8_25 : OKc (800025, .ref 1000046) := ⟨23, by decide, rfl, q478⟩
theorem kk8_31 : OKc (800031, .ref 1000048) := ⟨24, by decide, rfl, q479⟩
theorem kk8_33 : OKc (800033, .ref 1000050) := ⟨25, by decide, rfl, q480⟩
theorem kk8_35 : OKc (800035, .ref 1000052) := ⟨26, by decide, rfl, q481⟩
theorem kk8_37 : OKc (800037, .ref 1000054) := ⟨27, by decide, rfl, q482⟩
theorem kk8_64 : OKc (800064, .ref 1000034) := ⟨17, by decide, rfl, q1472⟩
theorem kk8_81 : OKc (800081, .ref 1000036) := ⟨18, by decide, rfl, q1458⟩
theorem kk8_86 : OKc (800086, .ref 1000038) := ⟨19, by decide, rfl, q1396⟩
theorem kk9_128 : OKc (900128, .long 27) := (q1804 : _)
theorem kk9_130 : OKc (900130, .long 96) := (q1805 : _)
theorem kk9_308 : OKc (900308, .int 1000000) := (q2032 : _)
theorem kk9_354 : OKc (900354, .int 1103515245) := (q2143 : _)
theorem kk40_264 : OKc (4000264, .int 65536) := (q1009 : _)
theorem kC : ∀ e ∈ tC, OKc e := List.forall_mem_cons.mpr ⟨kk1_22, List.forall_mem_cons.mpr ⟨kk1_24, List.forall_mem_cons.mpr ⟨kk1_26, List.forall_mem_cons.mpr ⟨kk1_28, List.forall_mem_cons.mpr ⟨kk1_30, List.forall_mem_cons.mpr ⟨kk1_36, List.forall_mem_cons.mpr ⟨kk1_38, List.forall_mem_cons.mpr ⟨kk1_40, List.forall_mem_cons.mpr ⟨kk1_42, List.forall_mem_cons.mpr ⟨kk1_44, List.forall_mem_cons.mpr ⟨kk1_46, List.forall_mem_cons.mpr ⟨kk1_48, List.forall_mem_cons.mpr ⟨kk1_50, List.forall_mem_cons.mpr ⟨kk1_52, List.forall_mem_cons.mpr ⟨kk1_54, List.forall_mem_cons.mpr ⟨kk1_56, List.forall_mem_cons.mpr ⟨kk1_58, List.forall_mem_cons.mpr ⟨kk1_60, List.forall_mem_cons.mpr ⟨kk1_62, List.forall_mem_cons.mpr ⟨kk1_64, List.forall_mem_cons.mpr ⟨kk1_66, List.forall_mem_cons.mpr ⟨kk1_68, List.forall_mem_cons.mpr ⟨kk1_70, List.forall_mem_cons.mpr ⟨kk1_72, List.forall_mem_cons.mpr ⟨kk1_74, List.forall_mem_cons.mpr ⟨kk1_76, List.forall_mem_cons.mpr ⟨kk1_78, List.forall_mem_cons.mpr ⟨kk1_80, List.forall_mem_cons.mpr ⟨kk1_352, List.forall_mem_cons.mpr ⟨kk1_400, List.forall_mem_cons.mpr ⟨kk1_409, List.forall_mem_cons.mpr ⟨kk1_414, List.forall_mem_cons.mpr ⟨kk1_420, List.forall_mem_cons.mpr ⟨kk1_422, List.forall_mem_cons.mpr ⟨kk4_124, List.forall_mem_cons.mpr ⟨kk6_122, List.forall_mem_cons.mpr ⟨kk6_130, List.forall_mem_cons.mpr ⟨kk7_40, List.forall_mem_cons.mpr ⟨kk7_78, List.forall_mem_cons.mpr ⟨kk7_80, List.forall_mem_cons.mpr ⟨kk7_99, List.forall_mem_cons.mpr ⟨kk7_104, List.forall_mem_cons.mpr ⟨kk7_109, List.forall_mem_cons.mpr ⟨kk7_114, List.forall_mem_cons.mpr ⟨kk8_17, List.forall_mem_cons.mpr ⟨kk8_19, List.forall_mem_cons.mpr ⟨kk8_21, List.forall_mem_cons.mpr ⟨kk8_23, List.forall_mem_cons.mpr ⟨kk8_25, List.forall_mem_cons.mpr ⟨kk8_31, List.forall_mem_cons.mpr ⟨kk8_33, List.forall_mem_cons.mpr ⟨kk8_35, List.forall_mem_cons.mpr ⟨kk8_37, List.forall_mem_cons.mpr ⟨kk8_64, List.forall_mem_cons.mpr ⟨kk8_81, List.forall_mem_cons.mpr ⟨kk8_86, List.forall_mem_cons.mpr ⟨kk9_128, List.forall_mem_cons.mpr ⟨kk9_130, List.forall_mem_cons.mpr ⟨kk9_308, List.forall_mem_cons.mpr ⟨kk9_354, List.forall_mem_cons.mpr ⟨kk40_264, fun _ h => absurd h List.not_mem_nil⟩⟩⟩⟩⟩⟩⟩⟩⟩⟩⟩⟩⟩⟩⟩⟩⟩⟩⟩⟩⟩⟩⟩⟩⟩⟩⟩⟩⟩⟩⟩⟩⟩⟩⟩⟩⟩⟩⟩⟩⟩⟩⟩⟩⟩⟩⟩⟩⟩⟩⟩⟩⟩⟩⟩⟩⟩⟩⟩⟩⟩
theorem ft_eq {K : Nat} (h : (1 ≤ K ∧ K ≤ 22) ∨ K = 50) (j : Nat) : pT.2.2.2.2.2.2.2.1 K j = ftK K j := by
  have q : K = 1 ∨ K = 2 ∨ K = 3 ∨ K = 4 ∨ K = 5 ∨ K = 6 ∨ K = 7 ∨ K = 8 ∨ K = 9 ∨ K = 10 ∨ K = 11 ∨ K = 12 ∨ K = 13 ∨ K = 14 ∨ K = 15 ∨ K = 16 ∨ K = 17 ∨ K = 18 ∨ K = 19 ∨ K = 20 ∨ K = 21 ∨ K = 22 ∨ K = 50 := by omega
  rcases q with e | e | e | e | e | e | e | e | e | e | e | e | e | e | e | e | e | e | e | e | e | e | e <;> subst e <;> rfl
def finB (K j : Nat) : Bool := K == 0 || !(decide (j < (clL.getD (kcl K) (RX1, TX1, 0)).2.2)) || (pT.2.2.2.2.2.2.2.2 K j == 0 && !((clL.getD (kcl K) (RX1, TX1, 0)).2.1 j).2.2.2) || (((clL.getD (kcl K) (RX1, TX1, 0)).2.1 j).2.2.2 && ((clL.getD (kcl K) (RX1, TX1, 0)).2.1 j).1 == onm (pT.2.2.2.2.2.2.2.2 K j - 1) && decide (1 ≤ pT.2.2.2.2.2.2.2.2 K j ∧ pT.2.2.2.2.2.2.2.2 K j ≤ 100))
theorem finB_ok : ∀ K, K < 23 → ∀ j, j < 51 → finB K j = true := by decide +kernel
theorem fin_ok {K j : Nat} {q : vw_C} (hK : 1 ≤ K ∧ K ≤ 22) (hq : clL[kcl K]? = some q) (hj : j < q.2.2) (h51 : j < 51) : (pT.2.2.2.2.2.2.2.2 K j = 0 ∧ (q.2.1 j).2.2.2 = false) ∨ ((q.2.1 j).2.2.2 = true ∧ (q.2.1 j).1 = onm (pT.2.2.2.2.2.2.2.2 K j - 1) ∧ 1 ≤ pT.2.2.2.2.2.2.2.2 K j ∧ pT.2.2.2.2.2.2.2.2 K j ≤ 100) := by
  have h := finB_ok K (by omega) j h51
  have e : clL.getD (kcl K) (RX1, TX1, 0) = q := by rw [List.getD_eq_getElem?_getD, hq]; rfl
  unfold finB at h
  rw [e] at h
  simp only [Bool.or_eq_true, Bool.and_eq_true, beq_iff_eq, Bool.not_eq_true', decide_eq_false_iff_not, decide_eq_true_eq] at h
  rcases h with ((h | h) | h) | h
  · omega
  · exact absurd hj h
  · exact Or.inl h
  · exact Or.inr ⟨h.1.1, h.1.2, h.2⟩
theorem noFl : ∀ K, K < 23 → ∀ j, j < 51 → ftK K j ≠ .float ∧ ftK K j ≠ .double := by decide +kernel
