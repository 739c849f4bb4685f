set_option maxRecDepth 100000
theorem xts0_4 {x : Int32} (c0 : ¬ x = (0 : Int32)) (c1 : ¬ x = (1 : Int32)) (c2 : ¬ x = (2 : Int32)) (c3 : ¬ x = (3 : Int32)) : x.toInt < 0 ∨ 3 < x.toInt := by
  have a0 : x.toInt ≠ 0 := fun e => c0 (Int32.toInt_inj.mp (e.trans (by decide : (0 : Int) = ((0 : Int32)).toInt)))
  have a1 : x.toInt ≠ 1 := fun e => c1 (Int32.toInt_inj.mp (e.trans (by decide : (1 : Int) = ((1 : Int32)).toInt)))
  have a2 : x.toInt ≠ 2 := fun e => c2 (Int32.toInt_inj.mp (e.trans (by decide : (2 : Int) = ((2 : Int32)).toInt)))
  have a3 : x.toInt ≠ 3 := fun e => c3 (Int32.toInt_inj.mp (e.trans (by decide : (3 : Int) = ((3 : Int32)).toInt)))
  omega
theorem xts0_6 {x : Int32} (c0 : ¬ x = (0 : Int32)) (c1 : ¬ x = (1 : Int32)) (c2 : ¬ x = (2 : Int32)) (c3 : ¬ x = (3 : Int32)) (c4 : ¬ x = (4 : Int32)) (c5 : ¬ x = (5 : Int32)) : x.toInt < 0 ∨ 5 < x.toInt := by
  have a0 : x.toInt ≠ 0 := fun e => c0 (Int32.toInt_inj.mp (e.trans (by decide : (0 : Int) = ((0 : Int32)).toInt)))
  have a1 : x.toInt ≠ 1 := fun e => c1 (Int32.toInt_inj.mp (e.trans (by decide : (1 : Int) = ((1 : Int32)).toInt)))
  have a2 : x.toInt ≠ 2 := fun e => c2 (Int32.toInt_inj.mp (e.trans (by decide : (2 : Int) = ((2 : Int32)).toInt)))
  have a3 : x.toInt ≠ 3 := fun e => c3 (Int32.toInt_inj.mp (e.trans (by decide : (3 : Int) = ((3 : Int32)).toInt)))
  have a4 : x.toInt ≠ 4 := fun e => c4 (Int32.toInt_inj.mp (e.trans (by decide : (4 : Int) = ((4 : Int32)).toInt)))
  have a5 : x.toInt ≠ 5 := fun e => c5 (Int32.toInt_inj.mp (e.trans (by decide : (5 : Int) = ((5 : Int32)).toInt)))
  omega
theorem xts0_7 {x : Int32} (c0 : ¬ x = (0 : Int32)) (c1 : ¬ x = (1 : Int32)) (c2 : ¬ x = (2 : Int32)) (c3 : ¬ x = (3 : Int32)) (c4 : ¬ x = (4 : Int32)) (c5 : ¬ x = (5 : Int32)) (c6 : ¬ x = (6 : Int32)) : x.toInt < 0 ∨ 6 < x.toInt := by
  have a0 : x.toInt ≠ 0 := fun e => c0 (Int32.toInt_inj.mp (e.trans (by decide : (0 : Int) = ((0 : Int32)).toInt)))
  have a1 : x.toInt ≠ 1 := fun e => c1 (Int32.toInt_inj.mp (e.trans (by decide : (1 : Int) = ((1 : Int32)).toInt)))
  have a2 : x.toInt ≠ 2 := fun e => c2 (Int32.toInt_inj.mp (e.trans (by decide : (2 : Int) = ((2 : Int32)).toInt)))
  have a3 : x.toInt ≠ 3 := fun e => c3 (Int32.toInt_inj.mp (e.trans (by decide : (3 : Int) = ((3 : Int32)).toInt)))
  have a4 : x.toInt ≠ 4 := fun e => c4 (Int32.toInt_inj.mp (e.trans (by decide : (4 : Int) = ((4 : Int32)).toInt)))
  have a5 : x.toInt ≠ 5 := fun e => c5 (Int32.toInt_inj.mp (e.trans (by decide : (5 : Int) = ((5 : Int32)).toInt)))
  have a6 : x.toInt ≠ 6 := fun e => c6 (Int32.toInt_inj.mp (e.trans (by decide : (6 : Int) = ((6 : Int32)).toInt)))
  omega
theorem xts0_8 {x : Int32} (c0 : ¬ x = (0 : Int32)) (c1 : ¬ x = (1 : Int32)) (c2 : ¬ x = (2 : Int32)) (c3 : ¬ x = (3 : Int32)) (c4 : ¬ x = (4 : Int32)) (c5 : ¬ x = (5 : Int32)) (c6 : ¬ x = (6 : Int32)) (c7 : ¬ x = (7 : Int32)) : x.toInt < 0 ∨ 7 < x.toInt := by
  have a0 : x.toInt ≠ 0 := fun e => c0 (Int32.toInt_inj.mp (e.trans (by decide : (0 : Int) = ((0 : Int32)).toInt)))
  have a1 : x.toInt ≠ 1 := fun e => c1 (Int32.toInt_inj.mp (e.trans (by decide : (1 : Int) = ((1 : Int32)).toInt)))
  have a2 : x.toInt ≠ 2 := fun e => c2 (Int32.toInt_inj.mp (e.trans (by decide : (2 : Int) = ((2 : Int32)).toInt)))
  have a3 : x.toInt ≠ 3 := fun e => c3 (Int32.toInt_inj.mp (e.trans (by decide : (3 : Int) = ((3 : Int32)).toInt)))
  have a4 : x.toInt ≠ 4 := fun e => c4 (Int32.toInt_inj.mp (e.trans (by decide : (4 : Int) = ((4 : Int32)).toInt)))
  have a5 : x.toInt ≠ 5 := fun e => c5 (Int32.toInt_inj.mp (e.trans (by decide : (5 : Int) = ((5 : Int32)).toInt)))
  have a6 : x.toInt ≠ 6 := fun e => c6 (Int32.toInt_inj.mp (e.trans (by decide : (6 : Int) = ((6 : Int32)).toInt)))
  have a7 : x.toInt ≠ 7 := fun e => c7 (Int32.toInt_inj.mp (e.trans (by decide : (7 : Int) = ((7 : Int32)).toInt)))
  omega
theorem bi_m2 : (Int8.ofInt (-2)).toInt32 = (-2 : Int32) := by decide
theorem bi_6 : (Int8.ofInt (6)).toInt32 = (6 : Int32) := by decide
theorem bi_7 : (Int8.ofInt (7)).toInt32 = (7 : Int32) := by decide
theorem bi_8 : (Int8.ofInt (8)).toInt32 = (8 : Int32) := by decide
theorem bi_9 : (Int8.ofInt (9)).toInt32 = (9 : Int32) := by decide
theorem bi_10 : (Int8.ofInt (10)).toInt32 = (10 : Int32) := by decide
theorem bi_11 : (Int8.ofInt (11)).toInt32 = (11 : Int32) := by decide
theorem bi_12 : (Int8.ofInt (12)).toInt32 = (12 : Int32) := by decide
theorem bi_13 : (Int8.ofInt (13)).toInt32 = (13 : Int32) := by decide
theorem bi_14 : (Int8.ofInt (14)).toInt32 = (14 : Int32) := by decide
theorem bi_15 : (Int8.ofInt (15)).toInt32 = (15 : Int32) := by decide
theorem bi_16 : (Int8.ofInt (16)).toInt32 = (16 : Int32) := by decide
theorem bi_17 : (Int8.ofInt (17)).toInt32 = (17 : Int32) := by decide
theorem bi_18 : (Int8.ofInt (18)).toInt32 = (18 : Int32) := by decide
theorem bi_19 : (Int8.ofInt (19)).toInt32 = (19 : Int32) := by decide
theorem bi_20 : (Int8.ofInt (20)).toInt32 = (20 : Int32) := by decide
theorem bi_21 : (Int8.ofInt (21)).toInt32 = (21 : Int32) := by decide
theorem bi_22 : (Int8.ofInt (22)).toInt32 = (22 : Int32) := by decide
theorem bi_23 : (Int8.ofInt (23)).toInt32 = (23 : Int32) := by decide
theorem bi_24 : (Int8.ofInt (24)).toInt32 = (24 : Int32) := by decide
theorem bi_30 : (Int8.ofInt (30)).toInt32 = (30 : Int32) := by decide
theorem bi_32 : (Int8.ofInt (32)).toInt32 = (32 : Int32) := by decide
theorem bi_35 : (Int8.ofInt (35)).toInt32 = (35 : Int32) := by decide
theorem bi_40 : (Int8.ofInt (40)).toInt32 = (40 : Int32) := by decide
theorem bi_41 : (Int8.ofInt (41)).toInt32 = (41 : Int32) := by decide
theorem bi_45 : (Int8.ofInt (45)).toInt32 = (45 : Int32) := by decide
theorem bi_47 : (Int8.ofInt (47)).toInt32 = (47 : Int32) := by decide
theorem bi_48 : (Int8.ofInt (48)).toInt32 = (48 : Int32) := by decide
theorem bi_56 : (Int8.ofInt (56)).toInt32 = (56 : Int32) := by decide
theorem bi_57 : (Int8.ofInt (57)).toInt32 = (57 : Int32) := by decide
theorem bi_59 : (Int8.ofInt (59)).toInt32 = (59 : Int32) := by decide
theorem bi_60 : (Int8.ofInt (60)).toInt32 = (60 : Int32) := by decide
theorem bi_61 : (Int8.ofInt (61)).toInt32 = (61 : Int32) := by decide
theorem bi_62 : (Int8.ofInt (62)).toInt32 = (62 : Int32) := by decide
theorem bi_80 : (Int8.ofInt (80)).toInt32 = (80 : Int32) := by decide
theorem bi_82 : (Int8.ofInt (82)).toInt32 = (82 : Int32) := by decide
theorem bi_97 : (Int8.ofInt (97)).toInt32 = (97 : Int32) := by decide
theorem bi_99 : (Int8.ofInt (99)).toInt32 = (99 : Int32) := by decide
theorem bi_117 : (Int8.ofInt (117)).toInt32 = (117 : Int32) := by decide
theorem bi_122 : (Int8.ofInt (122)).toInt32 = (122 : Int32) := by decide
theorem bi_124 : (Int8.ofInt (124)).toInt32 = (124 : Int32) := by decide
theorem ic_m1 : Int32.ofInt (-1) = (-1 : Int32) := by decide
theorem ic_0 : Int32.ofInt (0) = (0 : Int32) := by decide
theorem ic_1 : Int32.ofInt (1) = (1 : Int32) := by decide
theorem ic_2 : Int32.ofInt (2) = (2 : Int32) := by decide
theorem ic_3 : Int32.ofInt (3) = (3 : Int32) := by decide
theorem ic_4 : Int32.ofInt (4) = (4 : Int32) := by decide
theorem ic_5 : Int32.ofInt (5) = (5 : Int32) := by decide
theorem ii_m8 (x : Int32) : x + Int32.ofInt (-8) = x + (-8 : Int32) := by rw [show Int32.ofInt (-8) = (-8 : Int32) by decide]
theorem ii_m1 (x : Int32) : x + Int32.ofInt (-1) = x + (-1 : Int32) := by rw [show Int32.ofInt (-1) = (-1 : Int32) by decide]
theorem ii_1 (x : Int32) : x + Int32.ofInt (1) = x + (1 : Int32) := by rw [show Int32.ofInt (1) = (1 : Int32) by decide]
theorem ii_2 (x : Int32) : x + Int32.ofInt (2) = x + (2 : Int32) := by rw [show Int32.ofInt (2) = (2 : Int32) by decide]
theorem si_m1000 : (Int16.ofInt (-1000)).toInt32 = (-1000 : Int32) := by decide
theorem si_131 : (Int16.ofInt (131)).toInt32 = (131 : Int32) := by decide
theorem si_132 : (Int16.ofInt (132)).toInt32 = (132 : Int32) := by decide
theorem si_133 : (Int16.ofInt (133)).toInt32 = (133 : Int32) := by decide
theorem si_134 : (Int16.ofInt (134)).toInt32 = (134 : Int32) := by decide
theorem si_135 : (Int16.ofInt (135)).toInt32 = (135 : Int32) := by decide
theorem si_136 : (Int16.ofInt (136)).toInt32 = (136 : Int32) := by decide
theorem si_143 : (Int16.ofInt (143)).toInt32 = (143 : Int32) := by decide
theorem si_145 : (Int16.ofInt (145)).toInt32 = (145 : Int32) := by decide
theorem si_160 : (Int16.ofInt (160)).toInt32 = (160 : Int32) := by decide
theorem si_178 : (Int16.ofInt (178)).toInt32 = (178 : Int32) := by decide
theorem si_200 : (Int16.ofInt (200)).toInt32 = (200 : Int32) := by decide
theorem si_213 : (Int16.ofInt (213)).toInt32 = (213 : Int32) := by decide
theorem si_220 : (Int16.ofInt (220)).toInt32 = (220 : Int32) := by decide
theorem si_224 : (Int16.ofInt (224)).toInt32 = (224 : Int32) := by decide
theorem si_227 : (Int16.ofInt (227)).toInt32 = (227 : Int32) := by decide
theorem si_255 : (Int16.ofInt (255)).toInt32 = (255 : Int32) := by decide
theorem si_256 : (Int16.ofInt (256)).toInt32 = (256 : Int32) := by decide
theorem si_276 : (Int16.ofInt (276)).toInt32 = (276 : Int32) := by decide
theorem si_277 : (Int16.ofInt (277)).toInt32 = (277 : Int32) := by decide
theorem si_400 : (Int16.ofInt (400)).toInt32 = (400 : Int32) := by decide
theorem si_457 : (Int16.ofInt (457)).toInt32 = (457 : Int32) := by decide
theorem si_900 : (Int16.ofInt (900)).toInt32 = (900 : Int32) := by decide
theorem si_914 : (Int16.ofInt (914)).toInt32 = (914 : Int32) := by decide
theorem si_940 : (Int16.ofInt (940)).toInt32 = (940 : Int32) := by decide
theorem si_1015 : (Int16.ofInt (1015)).toInt32 = (1015 : Int32) := by decide
theorem si_1160 : (Int16.ofInt (1160)).toInt32 = (1160 : Int32) := by decide
theorem si_9999 : (Int16.ofInt (9999)).toInt32 = (9999 : Int32) := by decide
theorem si_12345 : (Int16.ofInt (12345)).toInt32 = (12345 : Int32) := by decide
theorem fg_X5_1 : xFd "StrangerMarketModel" 1 [4] 0 := xS1 4 (⟨_, _, _, _, "StrangerMarketModel", ci_4, by decide, Or.inl rfl, Or.inl q1933⟩)
theorem fp_X5_1 (nm : String) : xPd "StrangerMarketModel" 1 [4] 0 .int nm := xS1 4 (⟨_, _, _, _, "StrangerMarketModel", ci_4, by decide, Or.inl rfl, by decide +kernel, Or.inl ⟨Or.inl rfl, q1933⟩⟩)
theorem fg_X5_33 : xFd "StrangerMarketModel" 33 [4] 6 := xS1 4 (⟨_, _, _, _, "StrangerMarketModel", ci_4, by decide, Or.inl rfl, Or.inl q1939⟩)
theorem fp_X5_33 : xPd "StrangerMarketModel" 33 [4] 6 (.array .int) "<init>" := xS1 4 (⟨_, _, _, _, "StrangerMarketModel", ci_4, by decide, Or.inl rfl, by decide +kernel, Or.inl ⟨Or.inr ⟨rfl, rfl, rfl⟩, q1939⟩⟩)
theorem fg_X5_376 : xFd "StrangerMarketModel" 376 [4] 35 := xS1 4 (⟨_, _, _, _, "StrangerMarketModel", ci_4, by decide, Or.inl rfl, Or.inl q1968⟩)
theorem fp_X5_376 (nm : String) : xPd "StrangerMarketModel" 376 [4] 35 .boolean nm := xS1 4 (⟨_, _, _, _, "StrangerMarketModel", ci_4, by decide, Or.inl rfl, by decide +kernel, Or.inl ⟨Or.inl rfl, q1968⟩⟩)
theorem fg_X5_379 : xFd "StrangerMarketModel" 379 [4] 34 := xS1 4 (⟨_, _, _, _, "StrangerMarketModel", ci_4, by decide, Or.inl rfl, Or.inl q1967⟩)
theorem fp_X5_379 (nm : String) : xPd "StrangerMarketModel" 379 [4] 34 .int nm := xS1 4 (⟨_, _, _, _, "StrangerMarketModel", ci_4, by decide, Or.inl rfl, by decide +kernel, Or.inl ⟨Or.inl rfl, q1967⟩⟩)
theorem fg_X5_351 : xFd "StrangerMarketModel" 351 [4] 28 := xS1 4 (⟨_, _, _, _, "StrangerMarketModel", ci_4, by decide, Or.inl rfl, Or.inl q1961⟩)
theorem fp_X5_351 (nm : String) : xPd "StrangerMarketModel" 351 [4] 28 .boolean nm := xS1 4 (⟨_, _, _, _, "StrangerMarketModel", ci_4, by decide, Or.inl rfl, by decide +kernel, Or.inl ⟨Or.inl rfl, q1961⟩⟩)
theorem fg_X5_355 : xFd "StrangerMarketModel" 355 [4] 27 := xS1 4 (⟨_, _, _, _, "StrangerMarketModel", ci_4, by decide, Or.inl rfl, Or.inl q1960⟩)
theorem fp_X5_355 (nm : String) : xPd "StrangerMarketModel" 355 [4] 27 .int nm := xS1 4 (⟨_, _, _, _, "StrangerMarketModel", ci_4, by decide, Or.inl rfl, by decide +kernel, Or.inl ⟨Or.inl rfl, q1960⟩⟩)
theorem fg_X5_53 : xFd "StrangerMarketModel" 53 [4] 22 := xS1 4 (⟨_, _, _, _, "StrangerMarketModel", ci_4, by decide, Or.inl rfl, Or.inl q1955⟩)
theorem fp_X5_53 : xPd "StrangerMarketModel" 53 [4] 22 (.array .int) "<init>" := xS1 4 (⟨_, _, _, _, "StrangerMarketModel", ci_4, by decide, Or.inl rfl, by decide +kernel, Or.inl ⟨Or.inr ⟨rfl, rfl, rfl⟩, q1955⟩⟩)
theorem fg_X5_174 : xFd "StrangerMarketModel" 174 [4] 15 := xS1 4 (⟨_, _, _, _, "StrangerMarketModel", ci_4, by decide, Or.inl rfl, Or.inl q1948⟩)
theorem fp_X5_174 (nm : String) : xPd "StrangerMarketModel" 174 [4] 15 .int nm := xS1 4 (⟨_, _, _, _, "StrangerMarketModel", ci_4, by decide, Or.inl rfl, by decide +kernel, Or.inl ⟨Or.inl rfl, q1948⟩⟩)
theorem fg_X5_151 : xFd "StrangerMarketModel" 151 [4] 12 := xS1 4 (⟨_, _, _, _, "StrangerMarketModel", ci_4, by decide, Or.inl rfl, Or.inl q1945⟩)
theorem fp_X5_151 (nm : String) : xPd "StrangerMarketModel" 151 [4] 12 .int nm := xS1 4 (⟨_, _, _, _, "StrangerMarketModel", ci_4, by decide, Or.inl rfl, by decide +kernel, Or.inl ⟨Or.inl rfl, q1945⟩⟩)
theorem fg_X5_177 : xFd "StrangerMarketModel" 177 [4] 16 := xS1 4 (⟨_, _, _, _, "StrangerMarketModel", ci_4, by decide, Or.inl rfl, Or.inl q1949⟩)
theorem fp_X5_177 (nm : String) : xPd "StrangerMarketModel" 177 [4] 16 .int nm := xS1 4 (⟨_, _, _, _, "StrangerMarketModel", ci_4, by decide, Or.inl rfl, by decide +kernel, Or.inl ⟨Or.inl rfl, q1949⟩⟩)
theorem fg_X5_434 : xFd "StrangerMarketModel" 434 [4] 45 := xS1 4 (⟨_, _, _, _, "StrangerMarketModel", ci_4, by decide, Or.inl rfl, Or.inl q1978⟩)
theorem fp_X5_434 (nm : String) : xPd "StrangerMarketModel" 434 [4] 45 .int nm := xS1 4 (⟨_, _, _, _, "StrangerMarketModel", ci_4, by decide, Or.inl rfl, by decide +kernel, Or.inl ⟨Or.inl rfl, q1978⟩⟩)
theorem fg_X5_440 : xFd "StrangerMarketModel" 440 [4] 46 := xS1 4 (⟨_, _, _, _, "StrangerMarketModel", ci_4, by decide, Or.inl rfl, Or.inl q1979⟩)
theorem fp_X5_440 (nm : String) : xPd "StrangerMarketModel" 440 [4] 46 .int nm := xS1 4 (⟨_, _, _, _, "StrangerMarketModel", ci_4, by decide, Or.inl rfl, by decide +kernel, Or.inl ⟨Or.inl rfl, q1979⟩⟩)
theorem fg_X5_80 : xFd "StrangerMarketModel" 80 [4] 42 := xS1 4 (⟨_, _, _, _, "StrangerMarketModel", ci_4, by decide, Or.inl rfl, Or.inl q1975⟩)
theorem fp_X5_80 : xPd "StrangerMarketModel" 80 [4] 42 (.array .int) "<init>" := xS1 4 (⟨_, _, _, _, "StrangerMarketModel", ci_4, by decide, Or.inl rfl, by decide +kernel, Or.inl ⟨Or.inr ⟨rfl, rfl, rfl⟩, q1975⟩⟩)
theorem fg_X5_449 : xFd "StrangerMarketModel" 449 [4] 47 := xS1 4 (⟨_, _, _, _, "StrangerMarketModel", ci_4, by decide, Or.inl rfl, Or.inl q1980⟩)
theorem fp_X5_449 (nm : String) : xPd "StrangerMarketModel" 449 [4] 47 .boolean nm := xS1 4 (⟨_, _, _, _, "StrangerMarketModel", ci_4, by decide, Or.inl rfl, by decide +kernel, Or.inl ⟨Or.inl rfl, q1980⟩⟩)
theorem fg_X5_157 : xFd "StrangerMarketModel" 157 [4] 11 := xS1 4 (⟨_, _, _, _, "StrangerMarketModel", ci_4, by decide, Or.inl rfl, Or.inl q1944⟩)
theorem fp_X5_157 (nm : String) : xPd "StrangerMarketModel" 157 [4] 11 .int nm := xS1 4 (⟨_, _, _, _, "StrangerMarketModel", ci_4, by decide, Or.inl rfl, by decide +kernel, Or.inl ⟨Or.inl rfl, q1944⟩⟩)
theorem fg_X5_167 : xFd "StrangerMarketModel" 167 [4] 14 := xS1 4 (⟨_, _, _, _, "StrangerMarketModel", ci_4, by decide, Or.inl rfl, Or.inl q1947⟩)
theorem fp_X5_167 (nm : String) : xPd "StrangerMarketModel" 167 [4] 14 .int nm := xS1 4 (⟨_, _, _, _, "StrangerMarketModel", ci_4, by decide, Or.inl rfl, by decide +kernel, Or.inl ⟨Or.inl rfl, q1947⟩⟩)
theorem fg_X5_170 : xFd "StrangerMarketModel" 170 [4] 17 := xS1 4 (⟨_, _, _, _, "StrangerMarketModel", ci_4, by decide, Or.inl rfl, Or.inl q1950⟩)
theorem fp_X5_170 (nm : String) : xPd "StrangerMarketModel" 170 [4] 17 .long nm := xS1 4 (⟨_, _, _, _, "StrangerMarketModel", ci_4, by decide, Or.inl rfl, by decide +kernel, Or.inl ⟨Or.inl rfl, q1950⟩⟩)
theorem fg_X5_40 : xFd "StrangerMarketModel" 40 [4] 8 := xS1 4 (⟨_, _, _, _, "StrangerMarketModel", ci_4, by decide, Or.inl rfl, Or.inl q1941⟩)
theorem fp_X5_40 : xPd "StrangerMarketModel" 40 [4] 8 (.array .int) "<init>" := xS1 4 (⟨_, _, _, _, "StrangerMarketModel", ci_4, by decide, Or.inl rfl, by decide +kernel, Or.inl ⟨Or.inr ⟨rfl, rfl, rfl⟩, q1941⟩⟩)
theorem fg_X5_431 : xFd "StrangerMarketModel" 431 [4] 43 := xS1 4 (⟨_, _, _, _, "StrangerMarketModel", ci_4, by decide, Or.inl rfl, Or.inl q1976⟩)
theorem fp_X5_431 (nm : String) : xPd "StrangerMarketModel" 431 [4] 43 .int nm := xS1 4 (⟨_, _, _, _, "StrangerMarketModel", ci_4, by decide, Or.inl rfl, by decide +kernel, Or.inl ⟨Or.inl rfl, q1976⟩⟩)
theorem fg_X5_21 : xFd "StrangerMarketModel" 21 [4] 4 := xS1 4 (⟨_, _, _, _, "StrangerMarketModel", ci_4, by decide, Or.inl rfl, Or.inl q1937⟩)
theorem fp_X5_21 (nm : String) : xPd "StrangerMarketModel" 21 [4] 4 .int nm := xS1 4 (⟨_, _, _, _, "StrangerMarketModel", ci_4, by decide, Or.inl rfl, by decide +kernel, Or.inl ⟨Or.inl rfl, q1937⟩⟩)
theorem fg_X5_154 : xFd "StrangerMarketModel" 154 [4] 13 := xS1 4 (⟨_, _, _, _, "StrangerMarketModel", ci_4, by decide, Or.inl rfl, Or.inl q1946⟩)
theorem fp_X5_154 (nm : String) : xPd "StrangerMarketModel" 154 [4] 13 .int nm := xS1 4 (⟨_, _, _, _, "StrangerMarketModel", ci_4, by decide, Or.inl rfl, by decide +kernel, Or.inl ⟨Or.inl rfl, q1946⟩⟩)
theorem fg_X5_18 : xFd "StrangerMarketModel" 18 [4] 3 := xS1 4 (⟨_, _, _, _, "StrangerMarketModel", ci_4, by decide, Or.inl rfl, Or.inl q1936⟩)
theorem fp_X5_18 (nm : String) : xPd "StrangerMarketModel" 18 [4] 3 .int nm := xS1 4 (⟨_, _, _, _, "StrangerMarketModel", ci_4, by decide, Or.inl rfl, by decide +kernel, Or.inl ⟨Or.inl rfl, q1936⟩⟩)
theorem fg_X5_24 : xFd "StrangerMarketModel" 24 [4] 5 := xS1 4 (⟨_, _, _, _, "StrangerMarketModel", ci_4, by decide, Or.inl rfl, Or.inl q1938⟩)
theorem fp_X5_24 (nm : String) : xPd "StrangerMarketModel" 24 [4] 5 .int nm := xS1 4 (⟨_, _, _, _, "StrangerMarketModel", ci_4, by decide, Or.inl rfl, by decide +kernel, Or.inl ⟨Or.inl rfl, q1938⟩⟩)
theorem fg_X5_14 : xFd "StrangerMarketModel" 14 [4] 1 := xS1 4 (⟨_, _, _, _, "StrangerMarketModel", ci_4, by decide, Or.inl rfl, Or.inl q1934⟩)
theorem fp_X5_14 : xPd "StrangerMarketModel" 14 [4] 1 (.array .byte) "<init>" := xS1 4 (⟨_, _, _, _, "StrangerMarketModel", ci_4, by decide, Or.inl rfl, by decide +kernel, Or.inl ⟨Or.inr ⟨rfl, rfl, rfl⟩, q1934⟩⟩)
theorem fg_X5_418 : xFd "StrangerMarketModel" 418 [4] 39 := xS1 4 (⟨_, _, _, _, "StrangerMarketModel", ci_4, by decide, Or.inl rfl, Or.inl q1972⟩)
theorem fp_X5_418 (nm : String) : xPd "StrangerMarketModel" 418 [4] 39 .int nm := xS1 4 (⟨_, _, _, _, "StrangerMarketModel", ci_4, by decide, Or.inl rfl, by decide +kernel, Or.inl ⟨Or.inl rfl, q1972⟩⟩)
theorem fg_X5_77 : xFd "StrangerMarketModel" 77 [4] 40 := xS1 4 (⟨_, _, _, _, "StrangerMarketModel", ci_4, by decide, Or.inl rfl, Or.inl q1973⟩)
theorem fp_X5_77 : xPd "StrangerMarketModel" 77 [4] 40 (.array .int) "<init>" := xS1 4 (⟨_, _, _, _, "StrangerMarketModel", ci_4, by decide, Or.inl rfl, by decide +kernel, Or.inl ⟨Or.inr ⟨rfl, rfl, rfl⟩, q1973⟩⟩)
theorem fg_X5_428 : xFd "StrangerMarketModel" 428 [4] 41 := xS1 4 (⟨_, _, _, _, "StrangerMarketModel", ci_4, by decide, Or.inl rfl, Or.inl q1974⟩)
theorem fp_X5_428 (nm : String) : xPd "StrangerMarketModel" 428 [4] 41 .boolean nm := xS1 4 (⟨_, _, _, _, "StrangerMarketModel", ci_4, by decide, Or.inl rfl, by decide +kernel, Or.inl ⟨Or.inl rfl, q1974⟩⟩)
theorem fg_X5_50 : xFd "StrangerMarketModel" 50 [4] 21 := xS1 4 (⟨_, _, _, _, "StrangerMarketModel", ci_4, by decide, Or.inl rfl, Or.inl q1954⟩)
theorem fp_X5_50 : xPd "StrangerMarketModel" 50 [4] 21 (.array .int) "<init>" := xS1 4 (⟨_, _, _, _, "StrangerMarketModel", ci_4, by decide, Or.inl rfl, by decide +kernel, Or.inl ⟨Or.inr ⟨rfl, rfl, rfl⟩, q1954⟩⟩)
theorem fg_X5_262 : xFd "StrangerMarketModel" 262 [4] 23 := xS1 4 (⟨_, _, _, _, "StrangerMarketModel", ci_4, by decide, Or.inl rfl, Or.inl q1956⟩)
theorem fp_X5_262 (nm : String) : xPd "StrangerMarketModel" 262 [4] 23 .int nm := xS1 4 (⟨_, _, _, _, "StrangerMarketModel", ci_4, by decide, Or.inl rfl, by decide +kernel, Or.inl ⟨Or.inl rfl, q1956⟩⟩)
theorem fg_X5_193 : xFd "StrangerMarketModel" 193 [4] 18 := xS1 4 (⟨_, _, _, _, "StrangerMarketModel", ci_4, by decide, Or.inl rfl, Or.inl q1951⟩)
theorem fp_X5_193 (nm : String) : xPd "StrangerMarketModel" 193 [4] 18 .int nm := xS1 4 (⟨_, _, _, _, "StrangerMarketModel", ci_4, by decide, Or.inl rfl, by decide +kernel, Or.inl ⟨Or.inl rfl, q1951⟩⟩)
theorem fg_X5_47 : xFd "StrangerMarketModel" 47 [4] 10 := xS1 4 (⟨_, _, _, _, "StrangerMarketModel", ci_4, by decide, Or.inl rfl, Or.inl q1943⟩)
theorem fp_X5_47 : xPd "StrangerMarketModel" 47 [4] 10 (.array .long) "<init>" := xS1 4 (⟨_, _, _, _, "StrangerMarketModel", ci_4, by decide, Or.inl rfl, by decide +kernel, Or.inl ⟨Or.inr ⟨rfl, rfl, rfl⟩, q1943⟩⟩)
theorem fg_X5_43 : xFd "StrangerMarketModel" 43 [4] 9 := xS1 4 (⟨_, _, _, _, "StrangerMarketModel", ci_4, by decide, Or.inl rfl, Or.inl q1942⟩)
theorem fp_X5_43 : xPd "StrangerMarketModel" 43 [4] 9 (.array .long) "<init>" := xS1 4 (⟨_, _, _, _, "StrangerMarketModel", ci_4, by decide, Or.inl rfl, by decide +kernel, Or.inl ⟨Or.inr ⟨rfl, rfl, rfl⟩, q1942⟩⟩)
theorem fg_X5_7 : xFd "StrangerMarketModel" 7 [4] 2 := xS1 4 (⟨_, _, _, _, "StrangerMarketModel", ci_4, by decide, Or.inl rfl, Or.inl q1935⟩)
theorem fp_X5_7 (nm : String) : xPd "StrangerMarketModel" 7 [4] 2 .int nm := xS1 4 (⟨_, _, _, _, "StrangerMarketModel", ci_4, by decide, Or.inl rfl, by decide +kernel, Or.inl ⟨Or.inl rfl, q1935⟩⟩)
theorem fg_X5_382 : xFd "StrangerMarketModel" 382 [4] 37 := xS1 4 (⟨_, _, _, _, "StrangerMarketModel", ci_4, by decide, Or.inl rfl, Or.inl q1970⟩)
theorem fp_X5_382 (nm : String) : xPd "StrangerMarketModel" 382 [4] 37 .int nm := xS1 4 (⟨_, _, _, _, "StrangerMarketModel", ci_4, by decide, Or.inl rfl, by decide +kernel, Or.inl ⟨Or.inl rfl, q1970⟩⟩)
theorem fg_X5_74 : xFd "StrangerMarketModel" 74 [4] 36 := xS1 4 (⟨_, _, _, _, "StrangerMarketModel", ci_4, by decide, Or.inl rfl, Or.inl q1969⟩)
theorem fp_X5_74 : xPd "StrangerMarketModel" 74 [4] 36 (.array .byte) "<init>" := xS1 4 (⟨_, _, _, _, "StrangerMarketModel", ci_4, by decide, Or.inl rfl, by decide +kernel, Or.inl ⟨Or.inr ⟨rfl, rfl, rfl⟩, q1969⟩⟩)
theorem fg_X5_65 : xFd "StrangerMarketModel" 65 [4] 31 := xS1 4 (⟨_, _, _, _, "StrangerMarketModel", ci_4, by decide, Or.inl rfl, Or.inl q1964⟩)
theorem fp_X5_65 : xPd "StrangerMarketModel" 65 [4] 31 (.array .int) "<init>" := xS1 4 (⟨_, _, _, _, "StrangerMarketModel", ci_4, by decide, Or.inl rfl, by decide +kernel, Or.inl ⟨Or.inr ⟨rfl, rfl, rfl⟩, q1964⟩⟩)
theorem fg_X5_71 : xFd "StrangerMarketModel" 71 [4] 33 := xS1 4 (⟨_, _, _, _, "StrangerMarketModel", ci_4, by decide, Or.inl rfl, Or.inl q1966⟩)
theorem fp_X5_71 (nm : String) : xPd "StrangerMarketModel" 71 [4] 33 .int nm := xS1 4 (⟨_, _, _, _, "StrangerMarketModel", ci_4, by decide, Or.inl rfl, by decide +kernel, Or.inl ⟨Or.inl rfl, q1966⟩⟩)
theorem fg_X5_68 : xFd "StrangerMarketModel" 68 [4] 32 := xS1 4 (⟨_, _, _, _, "StrangerMarketModel", ci_4, by decide, Or.inl rfl, Or.inl q1965⟩)
theorem fp_X5_68 : xPd "StrangerMarketModel" 68 [4] 32 (.array .int) "<init>" := xS1 4 (⟨_, _, _, _, "StrangerMarketModel", ci_4, by decide, Or.inl rfl, by decide +kernel, Or.inl ⟨Or.inr ⟨rfl, rfl, rfl⟩, q1965⟩⟩)
theorem fg_X5_37 : xFd "StrangerMarketModel" 37 [4] 7 := xS1 4 (⟨_, _, _, _, "StrangerMarketModel", ci_4, by decide, Or.inl rfl, Or.inl q1940⟩)
theorem fp_X5_37 : xPd "StrangerMarketModel" 37 [4] 7 (.array .int) "<init>" := xS1 4 (⟨_, _, _, _, "StrangerMarketModel", ci_4, by decide, Or.inl rfl, by decide +kernel, Or.inl ⟨Or.inr ⟨rfl, rfl, rfl⟩, q1940⟩⟩)
theorem fg_X5_250 : xFd "StrangerMarketModel" 250 [4] 19 := xS1 4 (⟨_, _, _, _, "StrangerMarketModel", ci_4, by decide, Or.inl rfl, Or.inl q1952⟩)
theorem fp_X5_250 (nm : String) : xPd "StrangerMarketModel" 250 [4] 19 .int nm := xS1 4 (⟨_, _, _, _, "StrangerMarketModel", ci_4, by decide, Or.inl rfl, by decide +kernel, Or.inl ⟨Or.inl rfl, q1952⟩⟩)
theorem fg_X5_211 : xFd "StrangerMarketModel" 211 [4] 20 := xS1 4 (⟨_, _, _, _, "StrangerMarketModel", ci_4, by decide, Or.inl rfl, Or.inl q1953⟩)
theorem fp_X5_211 (nm : String) : xPd "StrangerMarketModel" 211 [4] 20 .int nm := xS1 4 (⟨_, _, _, _, "StrangerMarketModel", ci_4, by decide, Or.inl rfl, by decide +kernel, Or.inl ⟨Or.inl rfl, q1953⟩⟩)
theorem fg_X5_399 : xFd "StrangerMarketModel" 399 [4] 38 := xS1 4 (⟨_, _, _, _, "StrangerMarketModel", ci_4, by decide, Or.inl rfl, Or.inl q1971⟩)
theorem fp_X5_399 (nm : String) : xPd "StrangerMarketModel" 399 [4] 38 .int nm := xS1 4 (⟨_, _, _, _, "StrangerMarketModel", ci_4, by decide, Or.inl rfl, by decide +kernel, Or.inl ⟨Or.inl rfl, q1971⟩⟩)
theorem fg_X5_59 : xFd "StrangerMarketModel" 59 [4] 25 := xS1 4 (⟨_, _, _, _, "StrangerMarketModel", ci_4, by decide, Or.inl rfl, Or.inl q1958⟩)
theorem fp_X5_59 : xPd "StrangerMarketModel" 59 [4] 25 (.array .int) "<init>" := xS1 4 (⟨_, _, _, _, "StrangerMarketModel", ci_4, by decide, Or.inl rfl, by decide +kernel, Or.inl ⟨Or.inr ⟨rfl, rfl, rfl⟩, q1958⟩⟩)
theorem fg_X5_62 : xFd "StrangerMarketModel" 62 [4] 26 := xS1 4 (⟨_, _, _, _, "StrangerMarketModel", ci_4, by decide, Or.inl rfl, Or.inl q1959⟩)
theorem fp_X5_62 : xPd "StrangerMarketModel" 62 [4] 26 (.array .int) "<init>" := xS1 4 (⟨_, _, _, _, "StrangerMarketModel", ci_4, by decide, Or.inl rfl, by decide +kernel, Or.inl ⟨Or.inr ⟨rfl, rfl, rfl⟩, q1959⟩⟩)
theorem fg_X5_56 : xFd "StrangerMarketModel" 56 [4] 24 := xS1 4 (⟨_, _, _, _, "StrangerMarketModel", ci_4, by decide, Or.inl rfl, Or.inl q1957⟩)
theorem fp_X5_56 : xPd "StrangerMarketModel" 56 [4] 24 (.array .int) "<init>" := xS1 4 (⟨_, _, _, _, "StrangerMarketModel", ci_4, by decide, Or.inl rfl, by decide +kernel, Or.inl ⟨Or.inr ⟨rfl, rfl, rfl⟩, q1957⟩⟩)
theorem fg_X5_87 : xFd "StrangerMarketModel" 87 [4] 49 := xS1 4 (⟨_, _, _, _, "StrangerMarketModel", ci_4, by decide, Or.inl rfl, Or.inl q1982⟩)
theorem fp_X5_87 : xPd "StrangerMarketModel" 87 [4] 49 (.array .int) "<init>" := xS1 4 (⟨_, _, _, _, "StrangerMarketModel", ci_4, by decide, Or.inl rfl, by decide +kernel, Or.inl ⟨Or.inr ⟨rfl, rfl, rfl⟩, q1982⟩⟩)
theorem fg_X5_90 : xFd "StrangerMarketModel" 90 [4] 50 := xS1 4 (⟨_, _, _, _, "StrangerMarketModel", ci_4, by decide, Or.inl rfl, Or.inl q1983⟩)
theorem fp_X5_90 : xPd "StrangerMarketModel" 90 [4] 50 (.array .long) "<init>" := xS1 4 (⟨_, _, _, _, "StrangerMarketModel", ci_4, by decide, Or.inl rfl, by decide +kernel, Or.inl ⟨Or.inr ⟨rfl, rfl, rfl⟩, q1983⟩⟩)
theorem fg_X5_93 : xFd "StrangerMarketModel" 93 [4] 51 := xS1 4 (⟨_, _, _, _, "StrangerMarketModel", ci_4, by decide, Or.inl rfl, Or.inl q1984⟩)
theorem fp_X5_93 : xPd "StrangerMarketModel" 93 [4] 51 (.array .boolean) "<init>" := xS1 4 (⟨_, _, _, _, "StrangerMarketModel", ci_4, by decide, Or.inl rfl, by decide +kernel, Or.inl ⟨Or.inr ⟨rfl, rfl, rfl⟩, q1984⟩⟩)
theorem fg_X5_83 : xFd "StrangerMarketModel" 83 [4] 48 := xS1 4 (⟨_, _, _, _, "StrangerMarketModel", ci_4, by decide, Or.inl rfl, Or.inl q1981⟩)
theorem fp_X5_83 : xPd "StrangerMarketModel" 83 [4] 48 (.array .boolean) "<init>" := xS1 4 (⟨_, _, _, _, "StrangerMarketModel", ci_4, by decide, Or.inl rfl, by decide +kernel, Or.inl ⟨Or.inr ⟨rfl, rfl, rfl⟩, q1981⟩⟩)
theorem fg_X5_446 : xFd "StrangerMarketModel" 446 [4] 44 := xS1 4 (⟨_, _, _, _, "StrangerMarketModel", ci_4, by decide, Or.inl rfl, Or.inl q1977⟩)
theorem fp_X5_446 (nm : String) : xPd "StrangerMarketModel" 446 [4] 44 .int nm := xS1 4 (⟨_, _, _, _, "StrangerMarketModel", ci_4, by decide, Or.inl rfl, by decide +kernel, Or.inl ⟨Or.inl rfl, q1977⟩⟩)
theorem fg_X5_361 : xFd "StrangerMarketModel" 361 [4] 30 := xS1 4 (⟨_, _, _, _, "StrangerMarketModel", ci_4, by decide, Or.inl rfl, Or.inl q1963⟩)
theorem fp_X5_361 (nm : String) : xPd "StrangerMarketModel" 361 [4] 30 .boolean nm := xS1 4 (⟨_, _, _, _, "StrangerMarketModel", ci_4, by decide, Or.inl rfl, by decide +kernel, Or.inl ⟨Or.inl rfl, q1963⟩⟩)
theorem fg_X5_364 : xFd "StrangerMarketModel" 364 [4] 29 := xS1 4 (⟨_, _, _, _, "StrangerMarketModel", ci_4, by decide, Or.inl rfl, Or.inl q1962⟩)
theorem fp_X5_364 (nm : String) : xPd "StrangerMarketModel" 364 [4] 29 .int nm := xS1 4 (⟨_, _, _, _, "StrangerMarketModel", ci_4, by decide, Or.inl rfl, by decide +kernel, Or.inl ⟨Or.inl rfl, q1962⟩⟩)
