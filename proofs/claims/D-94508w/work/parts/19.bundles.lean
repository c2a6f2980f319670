set_option maxRecDepth 100000
theorem ki_m1 : Int32.ofInt (-1) = (-1 : Int32) := by decide
theorem ki_0 : Int32.ofInt (0) = (0 : Int32) := by decide
theorem ki_1 : Int32.ofInt (1) = (1 : Int32) := by decide
theorem ki_2 : Int32.ofInt (2) = (2 : Int32) := by decide
theorem ki_3 : Int32.ofInt (3) = (3 : Int32) := by decide
theorem ki_4 : Int32.ofInt (4) = (4 : Int32) := by decide
theorem ki_5 : Int32.ofInt (5) = (5 : Int32) := by decide
theorem kb_6 : (Int8.ofInt (6)).toInt32 = (6 : Int32) := by decide
theorem kb_7 : (Int8.ofInt (7)).toInt32 = (7 : Int32) := by decide
theorem kb_8 : (Int8.ofInt (8)).toInt32 = (8 : Int32) := by decide
theorem kb_9 : (Int8.ofInt (9)).toInt32 = (9 : Int32) := by decide
theorem kb_10 : (Int8.ofInt (10)).toInt32 = (10 : Int32) := by decide
theorem kb_14 : (Int8.ofInt (14)).toInt32 = (14 : Int32) := by decide
theorem kb_15 : (Int8.ofInt (15)).toInt32 = (15 : Int32) := by decide
theorem kb_16 : (Int8.ofInt (16)).toInt32 = (16 : Int32) := by decide
theorem kb_17 : (Int8.ofInt (17)).toInt32 = (17 : Int32) := by decide
theorem kb_18 : (Int8.ofInt (18)).toInt32 = (18 : Int32) := by decide
theorem kb_19 : (Int8.ofInt (19)).toInt32 = (19 : Int32) := by decide
theorem kb_20 : (Int8.ofInt (20)).toInt32 = (20 : Int32) := by decide
theorem kb_21 : (Int8.ofInt (21)).toInt32 = (21 : Int32) := by decide
theorem kb_22 : (Int8.ofInt (22)).toInt32 = (22 : Int32) := by decide
theorem kb_23 : (Int8.ofInt (23)).toInt32 = (23 : Int32) := by decide
theorem kb_24 : (Int8.ofInt (24)).toInt32 = (24 : Int32) := by decide
theorem kb_25 : (Int8.ofInt (25)).toInt32 = (25 : Int32) := by decide
theorem kb_26 : (Int8.ofInt (26)).toInt32 = (26 : Int32) := by decide
theorem kb_27 : (Int8.ofInt (27)).toInt32 = (27 : Int32) := by decide
theorem kb_28 : (Int8.ofInt (28)).toInt32 = (28 : Int32) := by decide
theorem kb_29 : (Int8.ofInt (29)).toInt32 = (29 : Int32) := by decide
theorem kb_30 : (Int8.ofInt (30)).toInt32 = (30 : Int32) := by decide
theorem kb_32 : (Int8.ofInt (32)).toInt32 = (32 : Int32) := by decide
theorem kb_48 : (Int8.ofInt (48)).toInt32 = (48 : Int32) := by decide
theorem kb_57 : (Int8.ofInt (57)).toInt32 = (57 : Int32) := by decide
theorem kb_59 : (Int8.ofInt (59)).toInt32 = (59 : Int32) := by decide
theorem kb_60 : (Int8.ofInt (60)).toInt32 = (60 : Int32) := by decide
theorem kb_63 : (Int8.ofInt (63)).toInt32 = (63 : Int32) := by decide
theorem kb_80 : (Int8.ofInt (80)).toInt32 = (80 : Int32) := by decide
theorem kb_86 : (Int8.ofInt (86)).toInt32 = (86 : Int32) := by decide
theorem kb_94 : (Int8.ofInt (94)).toInt32 = (94 : Int32) := by decide
theorem kb_97 : (Int8.ofInt (97)).toInt32 = (97 : Int32) := by decide
theorem kb_98 : (Int8.ofInt (98)).toInt32 = (98 : Int32) := by decide
theorem kb_99 : (Int8.ofInt (99)).toInt32 = (99 : Int32) := by decide
theorem kb_100 : (Int8.ofInt (100)).toInt32 = (100 : Int32) := by decide
theorem kb_106 : (Int8.ofInt (106)).toInt32 = (106 : Int32) := by decide
theorem kb_110 : (Int8.ofInt (110)).toInt32 = (110 : Int32) := by decide
theorem kb_114 : (Int8.ofInt (114)).toInt32 = (114 : Int32) := by decide
theorem kb_120 : (Int8.ofInt (120)).toInt32 = (120 : Int32) := by decide
theorem kb_122 : (Int8.ofInt (122)).toInt32 = (122 : Int32) := by decide
theorem ks_240 : (Int16.ofInt (240)).toInt32 = (240 : Int32) := by decide
theorem ks_255 : (Int16.ofInt (255)).toInt32 = (255 : Int32) := by decide
theorem ks_300 : (Int16.ofInt (300)).toInt32 = (300 : Int32) := by decide
theorem ks_400 : (Int16.ofInt (400)).toInt32 = (400 : Int32) := by decide
theorem ks_430 : (Int16.ofInt (430)).toInt32 = (430 : Int32) := by decide
theorem ks_900 : (Int16.ofInt (900)).toInt32 = (900 : Int32) := by decide
theorem ks_999 : (Int16.ofInt (999)).toInt32 = (999 : Int32) := by decide
theorem ks_1000 : (Int16.ofInt (1000)).toInt32 = (1000 : Int32) := by decide
theorem ks_1720 : (Int16.ofInt (1720)).toInt32 = (1720 : Int32) := by decide
theorem ks_1721 : (Int16.ofInt (1721)).toInt32 = (1721 : Int32) := by decide
theorem ks_1722 : (Int16.ofInt (1722)).toInt32 = (1722 : Int32) := by decide
theorem ks_1723 : (Int16.ofInt (1723)).toInt32 = (1723 : Int32) := by decide
theorem ks_1724 : (Int16.ofInt (1724)).toInt32 = (1724 : Int32) := by decide
theorem ks_1728 : (Int16.ofInt (1728)).toInt32 = (1728 : Int32) := by decide
theorem ks_1734 : (Int16.ofInt (1734)).toInt32 = (1734 : Int32) := by decide
theorem ks_1806 : (Int16.ofInt (1806)).toInt32 = (1806 : Int32) := by decide
theorem ks_1826 : (Int16.ofInt (1826)).toInt32 = (1826 : Int32) := by decide
theorem ks_1840 : (Int16.ofInt (1840)).toInt32 = (1840 : Int32) := by decide
theorem ks_2149 : (Int16.ofInt (2149)).toInt32 = (2149 : Int32) := by decide
theorem ks_2150 : (Int16.ofInt (2150)).toInt32 = (2150 : Int32) := by decide
theorem ks_2400 : (Int16.ofInt (2400)).toInt32 = (2400 : Int32) := by decide
theorem ks_2741 : (Int16.ofInt (2741)).toInt32 = (2741 : Int32) := by decide
theorem ks_9999 : (Int16.ofInt (9999)).toInt32 = (9999 : Int32) := by decide
theorem ks_10007 : (Int16.ofInt (10007)).toInt32 = (10007 : Int32) := by decide
theorem kn_m8 (x : Int32) : x + Int32.ofInt (-8) = x + (-8 : Int32) := by rw [show Int32.ofInt (-8) = (-8 : Int32) by decide]
theorem kn_m1 (x : Int32) : x + Int32.ofInt (-1) = x + (-1 : Int32) := by rw [show Int32.ofInt (-1) = (-1 : Int32) by decide]
theorem kn_1 (x : Int32) : x + Int32.ofInt (1) = x + (1 : Int32) := by rw [show Int32.ofInt (1) = (1 : Int32) by decide]
theorem kn_6 (x : Int32) : x + Int32.ofInt (6) = x + (6 : Int32) := by rw [show Int32.ofInt (6) = (6 : Int32) by decide]
theorem pnJ11 : plainName RJ11 = true := by decide +kernel
theorem pnX0 : plainName RX0 = true := by decide +kernel
theorem pnX1 : plainName RX1 = true := by decide +kernel
theorem pnX10 : plainName RX10 = true := by decide +kernel
theorem pnX11 : plainName RX11 = true := by decide +kernel
theorem pnX12 : plainName RX12 = true := by decide +kernel
theorem pnX13 : plainName RX13 = true := by decide +kernel
theorem pnX14 : plainName RX14 = true := by decide +kernel
theorem pnX15 : plainName RX15 = true := by decide +kernel
theorem pnX16 : plainName RX16 = true := by decide +kernel
theorem pnX17 : plainName RX17 = true := by decide +kernel
theorem pnX18 : plainName RX18 = true := by decide +kernel
theorem pnX19 : plainName RX19 = true := by decide +kernel
theorem pnX2 : plainName RX2 = true := by decide +kernel
theorem pnX3 : plainName RX3 = true := by decide +kernel
theorem pnX4 : plainName RX4 = true := by decide +kernel
theorem pnX5 : plainName RX5 = true := by decide +kernel
theorem pnX6 : plainName RX6 = true := by decide +kernel
theorem pnX7 : plainName RX7 = true := by decide +kernel
theorem pnX8 : plainName RX8 = true := by decide +kernel
theorem pnX9 : plainName RX9 = true := by decide +kernel
theorem zty0 : ∀ k, k < 28 → zTy 0 k = .int ∨ zTy 0 k = .boolean ∨ ztc (zTy 0 k) = 1 ∨ ztc (zTy 0 k) = 2 := by decide
theorem zty1 : ∀ k, k < 1 → zTy 1 k = .int ∨ zTy 1 k = .boolean ∨ ztc (zTy 1 k) = 1 ∨ ztc (zTy 1 k) = 2 := by decide
theorem zty2 : ∀ k, k < 8 → zTy 2 k = .int ∨ zTy 2 k = .boolean ∨ ztc (zTy 2 k) = 1 ∨ ztc (zTy 2 k) = 2 := by decide
theorem zty3 : ∀ k, k < 7 → zTy 3 k = .int ∨ zTy 3 k = .boolean ∨ ztc (zTy 3 k) = 1 ∨ ztc (zTy 3 k) = 2 := by decide
theorem zty4 : ∀ k, k < 2 → zTy 4 k = .int ∨ zTy 4 k = .boolean ∨ ztc (zTy 4 k) = 1 ∨ ztc (zTy 4 k) = 2 := by decide
theorem zty5 : ∀ k, k < 6 → zTy 5 k = .int ∨ zTy 5 k = .boolean ∨ ztc (zTy 5 k) = 1 ∨ ztc (zTy 5 k) = 2 := by decide
theorem zty6 : ∀ k, k < 9 → zTy 6 k = .int ∨ zTy 6 k = .boolean ∨ ztc (zTy 6 k) = 1 ∨ ztc (zTy 6 k) = 2 := by decide
theorem zty7 : ∀ k, k < 5 → zTy 7 k = .int ∨ zTy 7 k = .boolean ∨ ztc (zTy 7 k) = 1 ∨ ztc (zTy 7 k) = 2 := by decide
theorem zty8 : ∀ k, k < 10 → zTy 8 k = .int ∨ zTy 8 k = .boolean ∨ ztc (zTy 8 k) = 1 ∨ ztc (zTy 8 k) = 2 := by decide
theorem zty9 : ∀ k, k < 54 → zTy 9 k = .int ∨ zTy 9 k = .boolean ∨ ztc (zTy 9 k) = 1 ∨ ztc (zTy 9 k) = 2 := by decide
theorem zty10 : ∀ k, k < 7 → zTy 10 k = .int ∨ zTy 10 k = .boolean ∨ ztc (zTy 10 k) = 1 ∨ ztc (zTy 10 k) = 2 := by decide
theorem zty11 : ∀ k, k < 10 → zTy 11 k = .int ∨ zTy 11 k = .boolean ∨ ztc (zTy 11 k) = 1 ∨ ztc (zTy 11 k) = 2 := by decide
theorem zty12 : ∀ k, k < 6 → zTy 12 k = .int ∨ zTy 12 k = .boolean ∨ ztc (zTy 12 k) = 1 ∨ ztc (zTy 12 k) = 2 := by decide
theorem zty13 : ∀ k, k < 3 → zTy 13 k = .int ∨ zTy 13 k = .boolean ∨ ztc (zTy 13 k) = 1 ∨ ztc (zTy 13 k) = 2 := by decide
theorem zty16 : ∀ k, k < 3 → zTy 16 k = .int ∨ zTy 16 k = .boolean ∨ ztc (zTy 16 k) = 1 ∨ ztc (zTy 16 k) = 2 := by decide
theorem zty17 : ∀ k, k < 5 → zTy 17 k = .int ∨ zTy 17 k = .boolean ∨ ztc (zTy 17 k) = 1 ∨ ztc (zTy 17 k) = 2 := by decide
theorem zty18 : ∀ k, k < 4 → zTy 18 k = .int ∨ zTy 18 k = .boolean ∨ ztc (zTy 18 k) = 1 ∨ ztc (zTy 18 k) = 2 := by decide
theorem zty19 : ∀ k, k < 0 → zTy 19 k = .int ∨ zTy 19 k = .boolean ∨ ztc (zTy 19 k) = 1 ∨ ztc (zTy 19 k) = 2 := fun k h => absurd h (Nat.not_lt_zero k)
theorem flX0_20 : ZF 2 RX0 20 0 0 := ⟨RX0, TX0, 28, 0, "", zk0, by decide, rfl, rfl, Or.inl q487⟩
theorem flX0_24 : ZF 2 RX0 24 0 1 := ⟨RX0, TX0, 28, 1, "", zk0, by decide, rfl, rfl, Or.inl q489⟩
theorem flX0_27 : ZF 0 RX0 27 0 3 := ⟨RX0, TX0, 28, 3, "", zk0, by decide, rfl, rfl, Or.inl q491⟩
theorem flX0_31 : ZF 0 RX0 31 0 4 := ⟨RX0, TX0, 28, 4, "", zk0, by decide, rfl, rfl, Or.inl q492⟩
theorem flX0_44 : ZF 2 RX0 44 0 6 := ⟨RX0, TX0, 28, 6, "", zk0, by decide, rfl, rfl, Or.inl q495⟩
theorem flX0_48 : ZF 1 RX0 48 0 9 := ⟨RX0, TX0, 28, 9, "", zk0, by decide, rfl, rfl, Or.inl q498⟩
theorem flX0_55 : ZF 2 RX0 55 0 10 := ⟨RX0, TX0, 28, 10, "", zk0, by decide, rfl, rfl, Or.inl q499⟩
theorem flX0_59 : ZF 2 RX0 59 0 11 := ⟨RX0, TX0, 28, 11, "", zk0, by decide, rfl, rfl, Or.inl q500⟩
theorem flX0_66 : ZF 2 RX0 66 0 13 := ⟨RX0, TX0, 28, 13, "", zk0, by decide, rfl, rfl, Or.inl q502⟩
theorem flX0_73 : ZF 2 RX0 73 0 14 := ⟨RX0, TX0, 28, 14, "", zk0, by decide, rfl, rfl, Or.inl q503⟩
theorem flX0_78 : ZF 2 RX0 78 0 15 := ⟨RX0, TX0, 28, 15, "", zk0, by decide, rfl, rfl, Or.inl q504⟩
theorem flX0_81 : ZF 2 RX0 81 0 16 := ⟨RX0, TX0, 28, 16, "", zk0, by decide, rfl, rfl, Or.inl q505⟩
theorem flX0_84 : ZF 2 RX0 84 0 17 := ⟨RX0, TX0, 28, 17, "", zk0, by decide, rfl, rfl, Or.inl q506⟩
theorem flX0_88 : ZF 2 RX0 88 0 19 := ⟨RX0, TX0, 28, 19, "", zk0, by decide, rfl, rfl, Or.inl q508⟩
theorem flX0_91 : ZF 2 RX0 91 0 20 := ⟨RX0, TX0, 28, 20, "", zk0, by decide, rfl, rfl, Or.inl q509⟩
theorem flX0_94 : ZF 2 RX0 94 0 21 := ⟨RX0, TX0, 28, 21, "", zk0, by decide, rfl, rfl, Or.inl q510⟩
theorem flX0_100 : ZF 2 RX0 100 0 23 := ⟨RX0, TX0, 28, 23, "", zk0, by decide, rfl, rfl, Or.inl q512⟩
theorem flX0_104 : ZF 2 RX0 104 0 25 := ⟨RX0, TX0, 28, 25, "", zk0, by decide, rfl, rfl, Or.inl q514⟩
theorem flX0_107 : ZF 2 RX0 107 0 26 := ⟨RX0, TX0, 28, 26, "", zk0, by decide, rfl, rfl, Or.inl q515⟩
theorem flX0_110 : ZF 0 RX0 110 0 7 := ⟨RX0, TX0, 28, 7, "", zk0, by decide, rfl, rfl, Or.inl q496⟩
theorem flX0_113 : ZF 1 RX0 113 0 8 := ⟨RX0, TX0, 28, 8, "", zk0, by decide, rfl, rfl, Or.inl q497⟩
theorem flX0_120 : ZF 0 RX0 120 3 306 := ⟨RX3, TX3, 7, 6, "SillBridges", zk3, by decide, rfl, rfl, Or.inr (zNw_in q281 rfl)⟩
theorem flX0_139 : ZF 2 RX0 139 1 100 := ⟨RX1, TX1, 1, 0, "SillBridges", zk1, by decide, rfl, rfl, Or.inr (zNw_in q192 rfl)⟩
theorem flX0_183 : ZF 2 RX0 183 4 400 := ⟨RX4, TX4, 2, 0, "SillBridges", zk4, by decide, rfl, rfl, Or.inr (zNw_in q395 rfl)⟩
theorem flX0_184 : ZF 2 RX0 184 5 500 := ⟨RX5, TX5, 6, 0, "SillBridges", zk5, by decide, rfl, rfl, Or.inr (zNw_in q370 rfl)⟩
theorem flX0_191 : ZF 0 RX0 191 6 600 := ⟨RX6, TX6, 9, 0, "SillBridges", zk6, by decide, rfl, rfl, Or.inr (zNw_in q312 rfl)⟩
theorem flX0_200 : ZF 0 RX0 200 6 601 := ⟨RX6, TX6, 9, 1, "SillBridges", zk6, by decide, rfl, rfl, Or.inr (zNw_in q316 rfl)⟩
theorem flX0_203 : ZF 0 RX0 203 6 602 := ⟨RX6, TX6, 9, 2, "SillBridges", zk6, by decide, rfl, rfl, Or.inr (zNw_in q321 rfl)⟩
theorem flX0_206 : ZF 0 RX0 206 6 603 := ⟨RX6, TX6, 9, 3, "SillBridges", zk6, by decide, rfl, rfl, Or.inr (zNw_in q326 rfl)⟩
theorem flX0_209 : ZF 0 RX0 209 0 2 := ⟨RX0, TX0, 28, 2, "", zk0, by decide, rfl, rfl, Or.inl q490⟩
theorem flX0_216 : ZF 0 RX0 216 2 206 := ⟨RX2, TX2, 8, 6, "SillBridges", zk2, by decide, rfl, rfl, Or.inr (zNw_in q246 rfl)⟩
theorem flX0_219 : ZF 0 RX0 219 2 207 := ⟨RX2, TX2, 8, 7, "SillBridges", zk2, by decide, rfl, rfl, Or.inr (zNw_in q248 rfl)⟩
theorem flX0_238 : ZF 2 RX0 238 4 401 := ⟨RX4, TX4, 2, 1, "SillBridges", zk4, by decide, rfl, rfl, Or.inr (zNw_in q397 rfl)⟩
theorem flX0_253 : ZF 0 RX0 253 10 1005 := ⟨RX10, TX10, 7, 5, "SillBridges", zk10, by decide, rfl, rfl, Or.inr (zNw_in q734 rfl)⟩
theorem flX0_268 : ZF 2 RX0 268 6 606 := ⟨RX6, TX6, 9, 6, "SillBridges", zk6, by decide, rfl, rfl, Or.inr (zNw_in q338 rfl)⟩
theorem flX0_272 : ZF 0 RX0 272 11 1101 := ⟨RX11, TX11, 10, 1, "SillBridges", zk11, by decide, rfl, rfl, Or.inr (zNw_in q913 rfl)⟩
theorem flX0_277 : ZF 0 RX0 277 11 1102 := ⟨RX11, TX11, 10, 2, "SillBridges", zk11, by decide, rfl, rfl, Or.inr (zNw_in q915 rfl)⟩
theorem flX0_280 : ZF 0 RX0 280 11 1103 := ⟨RX11, TX11, 10, 3, "SillBridges", zk11, by decide, rfl, rfl, Or.inr (zNw_in q918 rfl)⟩
theorem flX0_283 : ZF 0 RX0 283 11 1104 := ⟨RX11, TX11, 10, 4, "SillBridges", zk11, by decide, rfl, rfl, Or.inr (zNw_in q920 rfl)⟩
theorem flX0_286 : ZF 0 RX0 286 11 1105 := ⟨RX11, TX11, 10, 5, "SillBridges", zk11, by decide, rfl, rfl, Or.inr (zNw_in q923 rfl)⟩
theorem flX0_288 : ZF 0 RX0 288 11 1106 := ⟨RX11, TX11, 10, 6, "SillBridges", zk11, by decide, rfl, rfl, Or.inr (zNw_in q927 rfl)⟩
theorem flX0_291 : ZF 0 RX0 291 11 1107 := ⟨RX11, TX11, 10, 7, "SillBridges", zk11, by decide, rfl, rfl, Or.inr (zNw_in q931 rfl)⟩
theorem flX0_294 : ZF 0 RX0 294 11 1108 := ⟨RX11, TX11, 10, 8, "SillBridges", zk11, by decide, rfl, rfl, Or.inr (zNw_in q936 rfl)⟩
theorem flX0_297 : ZF 0 RX0 297 11 1109 := ⟨RX11, TX11, 10, 9, "SillBridges", zk11, by decide, rfl, rfl, Or.inr (zNw_in q939 rfl)⟩
theorem flX0_309 : ZF 2 RX0 309 6 607 := ⟨RX6, TX6, 9, 7, "SillBridges", zk6, by decide, rfl, rfl, Or.inr (zNw_in q342 rfl)⟩
theorem flX0_313 : ZF 0 RX0 313 12 1201 := ⟨RX12, TX12, 6, 1, "SillBridges", zk12, by decide, rfl, rfl, Or.inr (zNw_in q979 rfl)⟩
theorem flX0_318 : ZF 0 RX0 318 12 1203 := ⟨RX12, TX12, 6, 3, "SillBridges", zk12, by decide, rfl, rfl, Or.inr (zNw_in q985 rfl)⟩
theorem flX0_325 : ZF 0 RX0 325 12 1204 := ⟨RX12, TX12, 6, 4, "SillBridges", zk12, by decide, rfl, rfl, Or.inr (zNw_in q988 rfl)⟩
theorem flX0_328 : ZF 0 RX0 328 12 1205 := ⟨RX12, TX12, 6, 5, "SillBridges", zk12, by decide, rfl, rfl, Or.inr (zNw_in q991 rfl)⟩
theorem flX0_335 : ZF 2 RX0 335 6 605 := ⟨RX6, TX6, 9, 5, "SillBridges", zk6, by decide, rfl, rfl, Or.inr (zNw_in q332 rfl)⟩
theorem flX0_338 : ZF 2 RX0 338 5 501 := ⟨RX5, TX5, 6, 1, "SillBridges", zk5, by decide, rfl, rfl, Or.inr (zNw_in q373 rfl)⟩
theorem flX0_347 : ZF 2 RX0 347 6 608 := ⟨RX6, TX6, 9, 8, "SillBridges", zk6, by decide, rfl, rfl, Or.inr (zNw_in q346 rfl)⟩
theorem flX0_351 : ZF 0 RX0 351 13 1301 := ⟨RX13, TX13, 3, 1, "SillBridges", zk13, by decide, rfl, rfl, Or.inr (zNw_in q1019 rfl)⟩
theorem flX0_372 : ZF 0 RX0 372 0 18 := ⟨RX0, TX0, 28, 18, "", zk0, by decide, rfl, rfl, Or.inl q507⟩
theorem flX0_388 : ZF 0 RX0 388 7 704 := ⟨RX7, TX7, 5, 4, "SillBridges", zk7, by decide, rfl, rfl, Or.inr (zNw_in q419 rfl)⟩
theorem flX0_430 : ZF 0 RX0 430 0 22 := ⟨RX0, TX0, 28, 22, "", zk0, by decide, rfl, rfl, Or.inl q511⟩
theorem flX0_433 : ZF 2 RX0 433 7 700 := ⟨RX7, TX7, 5, 0, "SillBridges", zk7, by decide, rfl, rfl, Or.inr (zNw_in q411 rfl)⟩
theorem flX0_436 : ZF 2 RX0 436 7 701 := ⟨RX7, TX7, 5, 1, "SillBridges", zk7, by decide, rfl, rfl, Or.inr (zNw_in q413 rfl)⟩
theorem flX0_439 : ZF 2 RX0 439 7 702 := ⟨RX7, TX7, 5, 2, "SillBridges", zk7, by decide, rfl, rfl, Or.inr (zNw_in q415 rfl)⟩
theorem flX0_442 : ZF 2 RX0 442 7 703 := ⟨RX7, TX7, 5, 3, "SillBridges", zk7, by decide, rfl, rfl, Or.inr (zNw_in q417 rfl)⟩
theorem flX0_490 : ZF 0 RX0 490 8 803 := ⟨RX8, TX8, 10, 3, "SillBridges", zk8, by decide, rfl, rfl, Or.inr (zNw_in q450 rfl)⟩
theorem flX0_493 : ZF 0 RX0 493 8 804 := ⟨RX8, TX8, 10, 4, "SillBridges", zk8, by decide, rfl, rfl, Or.inr (zNw_in q452 rfl)⟩
theorem flX0_496 : ZF 0 RX0 496 8 805 := ⟨RX8, TX8, 10, 5, "SillBridges", zk8, by decide, rfl, rfl, Or.inr (zNw_in q454 rfl)⟩
theorem flX0_499 : ZF 0 RX0 499 8 806 := ⟨RX8, TX8, 10, 6, "SillBridges", zk8, by decide, rfl, rfl, Or.inr (zNw_in q456 rfl)⟩
theorem flX0_500 : ZF 0 RX0 500 8 807 := ⟨RX8, TX8, 10, 7, "SillBridges", zk8, by decide, rfl, rfl, Or.inr (zNw_in q458 rfl)⟩
theorem flX0_502 : ZF 2 RX0 502 8 800 := ⟨RX8, TX8, 10, 0, "SillBridges", zk8, by decide, rfl, rfl, Or.inr (zNw_in q444 rfl)⟩
theorem flX0_503 : ZF 0 RX0 503 0 27 := ⟨RX0, TX0, 28, 27, "", zk0, by decide, rfl, rfl, Or.inl q516⟩
theorem flX0_506 : ZF 0 RX0 506 0 24 := ⟨RX0, TX0, 28, 24, "", zk0, by decide, rfl, rfl, Or.inl q513⟩
theorem flX0_509 : ZF 0 RX0 509 8 802 := ⟨RX8, TX8, 10, 2, "SillBridges", zk8, by decide, rfl, rfl, Or.inr (zNw_in q448 rfl)⟩
theorem flX0_516 : ZF 0 RX0 516 0 12 := ⟨RX0, TX0, 28, 12, "", zk0, by decide, rfl, rfl, Or.inl q501⟩
theorem flX10_3 : ZF 2 RX10 3 10 1006 := ⟨RX10, TX10, 7, 6, "", zk10, by decide, rfl, rfl, Or.inl q735⟩
theorem flX10_15 : ZF 0 RX10 15 10 1000 := ⟨RX10, TX10, 7, 0, "", zk10, by decide, rfl, rfl, Or.inl q728⟩
theorem flX10_22 : ZF 2 RX10 22 0 1 := ⟨RX0, TX0, 28, 1, "SillBridges", zk0, by decide, rfl, rfl, Or.inr (zNw_in q488 rfl)⟩
theorem flX10_26 : ZF 0 RX10 26 10 1002 := ⟨RX10, TX10, 7, 2, "", zk10, by decide, rfl, rfl, Or.inl q730⟩
theorem flX10_29 : ZF 0 RX10 29 10 1001 := ⟨RX10, TX10, 7, 1, "", zk10, by decide, rfl, rfl, Or.inl q729⟩
theorem flX10_32 : ZF 0 RX10 32 10 1003 := ⟨RX10, TX10, 7, 3, "", zk10, by decide, rfl, rfl, Or.inl q731⟩
theorem flX10_42 : ZF 0 RX10 42 10 1004 := ⟨RX10, TX10, 7, 4, "", zk10, by decide, rfl, rfl, Or.inl q732⟩
theorem flX10_55 : ZF 2 RX10 55 0 5 := ⟨RX0, TX0, 28, 5, "SillBridges", zk0, by decide, rfl, rfl, Or.inr (zNw_in q493 rfl)⟩
theorem flX10_188 : ZF 0 RX10 188 6 600 := ⟨RX6, TX6, 9, 0, "SillBridges", zk6, by decide, rfl, rfl, Or.inr (zNw_in q311 rfl)⟩
theorem flX10_191 : ZF 2 RX10 191 6 604 := ⟨RX6, TX6, 9, 4, "SillBridges", zk6, by decide, rfl, rfl, Or.inr (zNw_in q328 rfl)⟩
theorem flX10_199 : ZF 0 RX10 199 6 601 := ⟨RX6, TX6, 9, 1, "SillBridges", zk6, by decide, rfl, rfl, Or.inr (zNw_in q315 rfl)⟩
theorem flX10_228 : ZF 2 RX10 228 6 606 := ⟨RX6, TX6, 9, 6, "SillBridges", zk6, by decide, rfl, rfl, Or.inr (zNw_in q337 rfl)⟩
theorem flX10_232 : ZF 0 RX10 232 6 602 := ⟨RX6, TX6, 9, 2, "SillBridges", zk6, by decide, rfl, rfl, Or.inr (zNw_in q320 rfl)⟩
theorem flX10_247 : ZF 2 RX10 247 6 607 := ⟨RX6, TX6, 9, 7, "SillBridges", zk6, by decide, rfl, rfl, Or.inr (zNw_in q341 rfl)⟩
theorem flX10_250 : ZF 0 RX10 250 6 603 := ⟨RX6, TX6, 9, 3, "SillBridges", zk6, by decide, rfl, rfl, Or.inr (zNw_in q325 rfl)⟩
theorem flX10_253 : ZF 2 RX10 253 6 608 := ⟨RX6, TX6, 9, 8, "SillBridges", zk6, by decide, rfl, rfl, Or.inr (zNw_in q345 rfl)⟩
theorem flX10_259 : ZF 2 RX10 259 6 605 := ⟨RX6, TX6, 9, 5, "SillBridges", zk6, by decide, rfl, rfl, Or.inr (zNw_in q331 rfl)⟩
theorem flX10_270 : ZF 0 RX10 270 10 1005 := ⟨RX10, TX10, 7, 5, "", zk10, by decide, rfl, rfl, Or.inl q733⟩
theorem flX11_9 : ZF 0 RX11 9 11 1105 := ⟨RX11, TX11, 10, 5, "", zk11, by decide, rfl, rfl, Or.inl q921⟩
theorem flX11_25 : ZF 0 RX11 25 11 1101 := ⟨RX11, TX11, 10, 1, "", zk11, by decide, rfl, rfl, Or.inl q912⟩
theorem flX11_28 : ZF 0 RX11 28 11 1102 := ⟨RX11, TX11, 10, 2, "", zk11, by decide, rfl, rfl, Or.inl q914⟩
theorem flX11_34 : ZF 0 RX11 34 11 1104 := ⟨RX11, TX11, 10, 4, "", zk11, by decide, rfl, rfl, Or.inl q919⟩
theorem flX14_9 : ZF 0 RX14 9 8 802 := ⟨RX8, TX8, 10, 2, "SillBridges", zk8, by decide, rfl, rfl, Or.inr (zNw_in q447 rfl)⟩
theorem flX15_23 : ZF 0 RX15 23 8 808 := ⟨RX8, TX8, 10, 8, "SillBridges", zk8, by decide, rfl, rfl, Or.inr (zNw_in q462 rfl)⟩
theorem flX16_7 : ZF 0 RX16 7 16 1602 := ⟨RX16, TX16, 3, 2, "", zk16, by decide, rfl, rfl, Or.inl q1063⟩
theorem flX16_13 : ZF 0 RX16 13 8 808 := ⟨RX8, TX8, 10, 8, "SillBridges", zk8, by decide, rfl, rfl, Or.inr (zNw_in q460 rfl)⟩
theorem flX17_9 : ZF 0 RX17 9 17 1702 := ⟨RX17, TX17, 5, 2, "", zk17, by decide, rfl, rfl, Or.inl q1108⟩
theorem flX17_15 : ZF 0 RX17 15 17 1703 := ⟨RX17, TX17, 5, 3, "", zk17, by decide, rfl, rfl, Or.inl q1109⟩
theorem flX17_18 : ZF 0 RX17 18 17 1704 := ⟨RX17, TX17, 5, 4, "", zk17, by decide, rfl, rfl, Or.inl q1110⟩
theorem flX17_21 : ZF 2 RX17 21 8 800 := ⟨RX8, TX8, 10, 0, "SillBridges", zk8, by decide, rfl, rfl, Or.inr (zNw_in q443 rfl)⟩
theorem flX17_27 : ZF 2 RX17 27 5 501 := ⟨RX5, TX5, 6, 1, "SillBridges", zk5, by decide, rfl, rfl, Or.inr (zNw_in q372 rfl)⟩
theorem flX18_9 : ZF 0 RX18 9 18 1800 := ⟨RX18, TX18, 4, 0, "", zk18, by decide, rfl, rfl, Or.inl q1147⟩
theorem flX18_21 : ZF 0 RX18 21 18 1801 := ⟨RX18, TX18, 4, 1, "", zk18, by decide, rfl, rfl, Or.inl q1148⟩
theorem flX18_27 : ZF 0 RX18 27 18 1802 := ⟨RX18, TX18, 4, 2, "", zk18, by decide, rfl, rfl, Or.inl q1149⟩
theorem flX18_30 : ZF 0 RX18 30 18 1803 := ⟨RX18, TX18, 4, 3, "", zk18, by decide, rfl, rfl, Or.inl q1150⟩
theorem flX4_10 : ZF 2 RX4 10 4 400 := ⟨RX4, TX4, 2, 0, "", zk4, by decide, rfl, rfl, Or.inl q394⟩
theorem flX4_20 : ZF 2 RX4 20 4 401 := ⟨RX4, TX4, 2, 1, "", zk4, by decide, rfl, rfl, Or.inl q396⟩
theorem flX5_12 : ZF 2 RX5 12 5 500 := ⟨RX5, TX5, 6, 0, "", zk5, by decide, rfl, rfl, Or.inl q368⟩
theorem flX5_18 : ZF 2 RX5 18 5 501 := ⟨RX5, TX5, 6, 1, "", zk5, by decide, rfl, rfl, Or.inl q371⟩
theorem flX5_22 : ZF 2 RX5 22 5 502 := ⟨RX5, TX5, 6, 2, "", zk5, by decide, rfl, rfl, Or.inl q374⟩
theorem flX5_25 : ZF 0 RX5 25 5 503 := ⟨RX5, TX5, 6, 3, "", zk5, by decide, rfl, rfl, Or.inl q375⟩
theorem flX5_29 : ZF 0 RX5 29 5 504 := ⟨RX5, TX5, 6, 4, "", zk5, by decide, rfl, rfl, Or.inl q377⟩
theorem flX5_32 : ZF 0 RX5 32 6 602 := ⟨RX6, TX6, 9, 2, "SillBridges", zk6, by decide, rfl, rfl, Or.inr (zNw_in q317 rfl)⟩
theorem flX5_35 : ZF 2 RX5 35 6 607 := ⟨RX6, TX6, 9, 7, "SillBridges", zk6, by decide, rfl, rfl, Or.inr (zNw_in q340 rfl)⟩
theorem flX5_39 : ZF 0 RX5 39 12 1202 := ⟨RX12, TX12, 6, 2, "SillBridges", zk12, by decide, rfl, rfl, Or.inr (zNw_in q981 rfl)⟩
theorem flX5_43 : ZF 0 RX5 43 6 603 := ⟨RX6, TX6, 9, 3, "SillBridges", zk6, by decide, rfl, rfl, Or.inr (zNw_in q322 rfl)⟩
theorem flX5_46 : ZF 2 RX5 46 6 608 := ⟨RX6, TX6, 9, 8, "SillBridges", zk6, by decide, rfl, rfl, Or.inr (zNw_in q344 rfl)⟩
theorem flX5_49 : ZF 0 RX5 49 13 1302 := ⟨RX13, TX13, 3, 2, "SillBridges", zk13, by decide, rfl, rfl, Or.inr (zNw_in q1021 rfl)⟩
theorem flX5_62 : ZF 0 RX5 62 12 1201 := ⟨RX12, TX12, 6, 1, "SillBridges", zk12, by decide, rfl, rfl, Or.inr (zNw_in q978 rfl)⟩
theorem flX5_65 : ZF 0 RX5 65 13 1301 := ⟨RX13, TX13, 3, 1, "SillBridges", zk13, by decide, rfl, rfl, Or.inr (zNw_in q1018 rfl)⟩
theorem flX5_66 : ZF 2 RX5 66 6 605 := ⟨RX6, TX6, 9, 5, "SillBridges", zk6, by decide, rfl, rfl, Or.inr (zNw_in q330 rfl)⟩
theorem flX5_69 : ZF 0 RX5 69 5 505 := ⟨RX5, TX5, 6, 5, "", zk5, by decide, rfl, rfl, Or.inl q379⟩
theorem flX5_75 : ZF 2 RX5 75 6 606 := ⟨RX6, TX6, 9, 6, "SillBridges", zk6, by decide, rfl, rfl, Or.inr (zNw_in q336 rfl)⟩
theorem flX5_79 : ZF 0 RX5 79 11 1103 := ⟨RX11, TX11, 10, 3, "SillBridges", zk11, by decide, rfl, rfl, Or.inr (zNw_in q917 rfl)⟩
theorem flX5_100 : ZF 0 RX5 100 11 1106 := ⟨RX11, TX11, 10, 6, "SillBridges", zk11, by decide, rfl, rfl, Or.inr (zNw_in q925 rfl)⟩
theorem flX5_103 : ZF 0 RX5 103 12 1205 := ⟨RX12, TX12, 6, 5, "SillBridges", zk12, by decide, rfl, rfl, Or.inr (zNw_in q989 rfl)⟩
theorem flX5_107 : ZF 0 RX5 107 12 1204 := ⟨RX12, TX12, 6, 4, "SillBridges", zk12, by decide, rfl, rfl, Or.inr (zNw_in q986 rfl)⟩
theorem flX5_117 : ZF 0 RX5 117 12 1203 := ⟨RX12, TX12, 6, 3, "SillBridges", zk12, by decide, rfl, rfl, Or.inr (zNw_in q983 rfl)⟩
theorem flX6_9 : ZF 2 RX6 9 6 604 := ⟨RX6, TX6, 9, 4, "", zk6, by decide, rfl, rfl, Or.inl q327⟩
theorem flX6_21 : ZF 2 RX6 21 6 606 := ⟨RX6, TX6, 9, 6, "", zk6, by decide, rfl, rfl, Or.inl q333⟩
theorem flX6_27 : ZF 2 RX6 27 6 607 := ⟨RX6, TX6, 9, 7, "", zk6, by decide, rfl, rfl, Or.inl q339⟩
theorem flX6_33 : ZF 2 RX6 33 6 608 := ⟨RX6, TX6, 9, 8, "", zk6, by decide, rfl, rfl, Or.inl q343⟩
theorem flX6_37 : ZF 0 RX6 37 6 600 := ⟨RX6, TX6, 9, 0, "", zk6, by decide, rfl, rfl, Or.inl q310⟩
theorem flX6_41 : ZF 0 RX6 41 6 601 := ⟨RX6, TX6, 9, 1, "", zk6, by decide, rfl, rfl, Or.inl q313⟩
theorem flX6_44 : ZF 1 RX6 44 11 1100 := ⟨RX11, TX11, 10, 0, "SillBridges", zk11, by decide, rfl, rfl, Or.inr (zNw_in q911 rfl)⟩
theorem flX6_48 : ZF 0 RX6 48 6 602 := ⟨RX6, TX6, 9, 2, "", zk6, by decide, rfl, rfl, Or.inl q319⟩
theorem flX6_51 : ZF 1 RX6 51 12 1200 := ⟨RX12, TX12, 6, 0, "SillBridges", zk12, by decide, rfl, rfl, Or.inr (zNw_in q976 rfl)⟩
theorem flX6_52 : ZF 0 RX6 52 6 603 := ⟨RX6, TX6, 9, 3, "", zk6, by decide, rfl, rfl, Or.inl q324⟩
theorem flX6_55 : ZF 1 RX6 55 13 1300 := ⟨RX13, TX13, 3, 0, "SillBridges", zk13, by decide, rfl, rfl, Or.inr (zNw_in q1016 rfl)⟩
theorem flX7_11 : ZF 2 RX7 11 7 700 := ⟨RX7, TX7, 5, 0, "", zk7, by decide, rfl, rfl, Or.inl q410⟩
theorem flX7_15 : ZF 2 RX7 15 7 701 := ⟨RX7, TX7, 5, 1, "", zk7, by decide, rfl, rfl, Or.inl q412⟩
theorem flX7_18 : ZF 2 RX7 18 7 702 := ⟨RX7, TX7, 5, 2, "", zk7, by decide, rfl, rfl, Or.inl q414⟩
theorem flX7_21 : ZF 2 RX7 21 7 703 := ⟨RX7, TX7, 5, 3, "", zk7, by decide, rfl, rfl, Or.inl q416⟩
theorem flX7_24 : ZF 0 RX7 24 7 704 := ⟨RX7, TX7, 5, 4, "", zk7, by decide, rfl, rfl, Or.inl q418⟩
theorem flX7_28 : ZF 0 RX7 28 6 602 := ⟨RX6, TX6, 9, 2, "SillBridges", zk6, by decide, rfl, rfl, Or.inr (zNw_in q318 rfl)⟩
theorem flX7_33 : ZF 0 RX7 33 6 601 := ⟨RX6, TX6, 9, 1, "SillBridges", zk6, by decide, rfl, rfl, Or.inr (zNw_in q314 rfl)⟩
theorem flX7_40 : ZF 0 RX7 40 6 603 := ⟨RX6, TX6, 9, 3, "SillBridges", zk6, by decide, rfl, rfl, Or.inr (zNw_in q323 rfl)⟩
theorem flX7_49 : ZF 2 RX7 49 6 606 := ⟨RX6, TX6, 9, 6, "SillBridges", zk6, by decide, rfl, rfl, Or.inr (zNw_in q334 rfl)⟩
theorem flX7_53 : ZF 0 RX7 53 11 1107 := ⟨RX11, TX11, 10, 7, "SillBridges", zk11, by decide, rfl, rfl, Or.inr (zNw_in q928 rfl)⟩
theorem flX7_58 : ZF 0 RX7 58 11 1108 := ⟨RX11, TX11, 10, 8, "SillBridges", zk11, by decide, rfl, rfl, Or.inr (zNw_in q934 rfl)⟩
theorem flX8_12 : ZF 2 RX8 12 8 800 := ⟨RX8, TX8, 10, 0, "", zk8, by decide, rfl, rfl, Or.inl q442⟩
theorem flX8_22 : ZF 0 RX8 22 8 801 := ⟨RX8, TX8, 10, 1, "", zk8, by decide, rfl, rfl, Or.inl q445⟩
theorem flX8_26 : ZF 0 RX8 26 8 809 := ⟨RX8, TX8, 10, 9, "", zk8, by decide, rfl, rfl, Or.inl q464⟩
theorem flX8_33 : ZF 0 RX8 33 8 803 := ⟨RX8, TX8, 10, 3, "", zk8, by decide, rfl, rfl, Or.inl q449⟩
theorem flX8_36 : ZF 0 RX8 36 8 804 := ⟨RX8, TX8, 10, 4, "", zk8, by decide, rfl, rfl, Or.inl q451⟩
theorem flX8_39 : ZF 0 RX8 39 8 805 := ⟨RX8, TX8, 10, 5, "", zk8, by decide, rfl, rfl, Or.inl q453⟩
theorem flX8_42 : ZF 0 RX8 42 8 806 := ⟨RX8, TX8, 10, 6, "", zk8, by decide, rfl, rfl, Or.inl q455⟩
theorem flX8_45 : ZF 0 RX8 45 8 807 := ⟨RX8, TX8, 10, 7, "", zk8, by decide, rfl, rfl, Or.inl q457⟩
theorem flX8_48 : ZF 0 RX8 48 8 808 := ⟨RX8, TX8, 10, 8, "", zk8, by decide, rfl, rfl, Or.inl q461⟩
theorem flX8_67 : ZF 2 RX8 67 5 500 := ⟨RX5, TX5, 6, 0, "SillBridges", zk5, by decide, rfl, rfl, Or.inr (zNw_in q369 rfl)⟩
theorem flX8_71 : ZF 2 RX8 71 6 606 := ⟨RX6, TX6, 9, 6, "SillBridges", zk6, by decide, rfl, rfl, Or.inr (zNw_in q335 rfl)⟩
theorem flX8_77 : ZF 0 RX8 77 11 1107 := ⟨RX11, TX11, 10, 7, "SillBridges", zk11, by decide, rfl, rfl, Or.inr (zNw_in q929 rfl)⟩
theorem flX8_80 : ZF 0 RX8 80 11 1108 := ⟨RX11, TX11, 10, 8, "SillBridges", zk11, by decide, rfl, rfl, Or.inr (zNw_in q933 rfl)⟩
theorem flX8_83 : ZF 0 RX8 83 11 1109 := ⟨RX11, TX11, 10, 9, "SillBridges", zk11, by decide, rfl, rfl, Or.inr (zNw_in q937 rfl)⟩
theorem flX9_7 : ZF 2 RX9 7 9 900 := ⟨RX9, TX9, 54, 0, "", zk9, by decide, rfl, rfl, Or.inl q1588⟩
theorem flX9_13 : ZF 2 RX9 13 9 901 := ⟨RX9, TX9, 54, 1, "", zk9, by decide, rfl, rfl, Or.inl q1589⟩
theorem flX9_17 : ZF 1 RX9 17 9 904 := ⟨RX9, TX9, 54, 4, "", zk9, by decide, rfl, rfl, Or.inl q1592⟩
theorem flX9_21 : ZF 2 RX9 21 9 905 := ⟨RX9, TX9, 54, 5, "", zk9, by decide, rfl, rfl, Or.inl q1593⟩
theorem flX9_24 : ZF 2 RX9 24 9 906 := ⟨RX9, TX9, 54, 6, "", zk9, by decide, rfl, rfl, Or.inl q1594⟩
theorem flX9_27 : ZF 2 RX9 27 9 907 := ⟨RX9, TX9, 54, 7, "", zk9, by decide, rfl, rfl, Or.inl q1595⟩
theorem flX9_30 : ZF 2 RX9 30 9 908 := ⟨RX9, TX9, 54, 8, "", zk9, by decide, rfl, rfl, Or.inl q1596⟩
theorem flX9_34 : ZF 2 RX9 34 9 909 := ⟨RX9, TX9, 54, 9, "", zk9, by decide, rfl, rfl, Or.inl q1597⟩
theorem flX9_37 : ZF 0 RX9 37 9 916 := ⟨RX9, TX9, 54, 16, "", zk9, by decide, rfl, rfl, Or.inl q1604⟩
theorem flX9_41 : ZF 0 RX9 41 9 917 := ⟨RX9, TX9, 54, 17, "", zk9, by decide, rfl, rfl, Or.inl q1605⟩
theorem flX9_44 : ZF 2 RX9 44 9 921 := ⟨RX9, TX9, 54, 21, "", zk9, by decide, rfl, rfl, Or.inl q1609⟩
theorem flX9_47 : ZF 2 RX9 47 9 924 := ⟨RX9, TX9, 54, 24, "", zk9, by decide, rfl, rfl, Or.inl q1612⟩
theorem flX9_50 : ZF 2 RX9 50 9 925 := ⟨RX9, TX9, 54, 25, "", zk9, by decide, rfl, rfl, Or.inl q1613⟩
theorem flX9_53 : ZF 0 RX9 53 9 926 := ⟨RX9, TX9, 54, 26, "", zk9, by decide, rfl, rfl, Or.inl q1614⟩
theorem flX9_56 : ZF 2 RX9 56 9 929 := ⟨RX9, TX9, 54, 29, "", zk9, by decide, rfl, rfl, Or.inl q1617⟩
theorem flX9_59 : ZF 2 RX9 59 9 930 := ⟨RX9, TX9, 54, 30, "", zk9, by decide, rfl, rfl, Or.inl q1618⟩
theorem flX9_62 : ZF 2 RX9 62 9 931 := ⟨RX9, TX9, 54, 31, "", zk9, by decide, rfl, rfl, Or.inl q1619⟩
theorem flX9_65 : ZF 2 RX9 65 9 932 := ⟨RX9, TX9, 54, 32, "", zk9, by decide, rfl, rfl, Or.inl q1620⟩
theorem flX9_69 : ZF 2 RX9 69 9 934 := ⟨RX9, TX9, 54, 34, "", zk9, by decide, rfl, rfl, Or.inl q1622⟩
theorem flX9_72 : ZF 2 RX9 72 9 935 := ⟨RX9, TX9, 54, 35, "", zk9, by decide, rfl, rfl, Or.inl q1623⟩
theorem flX9_75 : ZF 2 RX9 75 9 936 := ⟨RX9, TX9, 54, 36, "", zk9, by decide, rfl, rfl, Or.inl q1624⟩
theorem flX9_79 : ZF 0 RX9 79 9 939 := ⟨RX9, TX9, 54, 39, "", zk9, by decide, rfl, rfl, Or.inl q1627⟩
theorem flX9_82 : ZF 2 RX9 82 9 940 := ⟨RX9, TX9, 54, 40, "", zk9, by decide, rfl, rfl, Or.inl q1628⟩
theorem flX9_85 : ZF 2 RX9 85 9 949 := ⟨RX9, TX9, 54, 49, "", zk9, by decide, rfl, rfl, Or.inl q1637⟩
theorem flX9_88 : ZF 2 RX9 88 9 950 := ⟨RX9, TX9, 54, 50, "", zk9, by decide, rfl, rfl, Or.inl q1638⟩
theorem flX9_91 : ZF 2 RX9 91 9 951 := ⟨RX9, TX9, 54, 51, "", zk9, by decide, rfl, rfl, Or.inl q1639⟩
theorem flX9_94 : ZF 0 RX9 94 9 952 := ⟨RX9, TX9, 54, 52, "", zk9, by decide, rfl, rfl, Or.inl q1640⟩
theorem flX9_97 : ZF 0 RX9 97 9 902 := ⟨RX9, TX9, 54, 2, "", zk9, by decide, rfl, rfl, Or.inl q1590⟩
theorem flX9_100 : ZF 1 RX9 100 9 903 := ⟨RX9, TX9, 54, 3, "", zk9, by decide, rfl, rfl, Or.inl q1591⟩
theorem flX9_127 : ZF 0 RX9 127 9 910 := ⟨RX9, TX9, 54, 10, "", zk9, by decide, rfl, rfl, Or.inl q1598⟩
theorem flX9_134 : ZF 0 RX9 134 9 911 := ⟨RX9, TX9, 54, 11, "", zk9, by decide, rfl, rfl, Or.inl q1599⟩
theorem flX9_137 : ZF 0 RX9 137 9 914 := ⟨RX9, TX9, 54, 14, "", zk9, by decide, rfl, rfl, Or.inl q1602⟩
theorem flX9_143 : ZF 0 RX9 143 9 913 := ⟨RX9, TX9, 54, 13, "", zk9, by decide, rfl, rfl, Or.inl q1601⟩
theorem flX9_146 : ZF 0 RX9 146 9 915 := ⟨RX9, TX9, 54, 15, "", zk9, by decide, rfl, rfl, Or.inl q1603⟩
theorem flX9_149 : ZF 0 RX9 149 9 912 := ⟨RX9, TX9, 54, 12, "", zk9, by decide, rfl, rfl, Or.inl q1600⟩
theorem flX9_174 : ZF 0 RX9 174 9 918 := ⟨RX9, TX9, 54, 18, "", zk9, by decide, rfl, rfl, Or.inl q1606⟩
theorem flX9_210 : ZF 0 RX9 210 9 920 := ⟨RX9, TX9, 54, 20, "", zk9, by decide, rfl, rfl, Or.inl q1608⟩
theorem flX9_270 : ZF 0 RX9 270 9 922 := ⟨RX9, TX9, 54, 22, "", zk9, by decide, rfl, rfl, Or.inl q1610⟩
theorem flX9_273 : ZF 0 RX9 273 9 923 := ⟨RX9, TX9, 54, 23, "", zk9, by decide, rfl, rfl, Or.inl q1611⟩
theorem flX9_309 : ZF 0 RX9 309 9 928 := ⟨RX9, TX9, 54, 28, "", zk9, by decide, rfl, rfl, Or.inl q1616⟩
theorem flX9_312 : ZF 0 RX9 312 9 927 := ⟨RX9, TX9, 54, 27, "", zk9, by decide, rfl, rfl, Or.inl q1615⟩
theorem flX9_354 : ZF 0 RX9 354 9 933 := ⟨RX9, TX9, 54, 33, "", zk9, by decide, rfl, rfl, Or.inl q1621⟩
theorem flX9_370 : ZF 0 RX9 370 9 938 := ⟨RX9, TX9, 54, 38, "", zk9, by decide, rfl, rfl, Or.inl q1626⟩
theorem flX9_373 : ZF 0 RX9 373 9 937 := ⟨RX9, TX9, 54, 37, "", zk9, by decide, rfl, rfl, Or.inl q1625⟩
theorem flX9_426 : ZF 0 RX9 426 9 948 := ⟨RX9, TX9, 54, 48, "", zk9, by decide, rfl, rfl, Or.inl q1636⟩
theorem flX9_430 : ZF 0 RX9 430 9 941 := ⟨RX9, TX9, 54, 41, "", zk9, by decide, rfl, rfl, Or.inl q1629⟩
theorem flX9_434 : ZF 0 RX9 434 9 946 := ⟨RX9, TX9, 54, 46, "", zk9, by decide, rfl, rfl, Or.inl q1634⟩
theorem flX9_437 : ZF 0 RX9 437 9 947 := ⟨RX9, TX9, 54, 47, "", zk9, by decide, rfl, rfl, Or.inl q1635⟩
theorem flX9_443 : ZF 0 RX9 443 9 945 := ⟨RX9, TX9, 54, 45, "", zk9, by decide, rfl, rfl, Or.inl q1633⟩
theorem flX9_446 : ZF 0 RX9 446 9 943 := ⟨RX9, TX9, 54, 43, "", zk9, by decide, rfl, rfl, Or.inl q1631⟩
theorem flX9_452 : ZF 0 RX9 452 9 942 := ⟨RX9, TX9, 54, 42, "", zk9, by decide, rfl, rfl, Or.inl q1630⟩
theorem flX9_455 : ZF 0 RX9 455 9 944 := ⟨RX9, TX9, 54, 44, "", zk9, by decide, rfl, rfl, Or.inl q1632⟩
theorem flX9_474 : ZF 0 RX9 474 9 953 := ⟨RX9, TX9, 54, 53, "", zk9, by decide, rfl, rfl, Or.inl q1641⟩
theorem puX0_20 : ZPu RX0 "<init>" 20 0 0 (zTy 0 0) := ⟨RX0, TX0, 28, 0, "", zk0, by decide, rfl, rfl, Or.inr ⟨rfl, rfl, rfl, q487⟩⟩
theorem puX0_24 : ZPu RX0 "<init>" 24 0 1 (zTy 0 1) := ⟨RX0, TX0, 28, 1, "", zk0, by decide, rfl, rfl, Or.inr ⟨rfl, rfl, rfl, q489⟩⟩
theorem puX0_27 {nm : String} : ZPu RX0 nm 27 0 3 .int := ⟨RX0, TX0, 28, 3, "", zk0, by decide, rfl, rfl, Or.inl ⟨rfl, Or.inl q491⟩⟩
theorem puX0_31 {nm : String} : ZPu RX0 nm 31 0 4 .int := ⟨RX0, TX0, 28, 4, "", zk0, by decide, rfl, rfl, Or.inl ⟨rfl, Or.inl q492⟩⟩
theorem puX0_37 : ZPu RX0 "<init>" 37 0 5 (zTy 0 5) := ⟨RX0, TX0, 28, 5, "", zk0, by decide, rfl, rfl, Or.inr ⟨rfl, rfl, rfl, q494⟩⟩
theorem puX0_44 : ZPu RX0 "<init>" 44 0 6 (zTy 0 6) := ⟨RX0, TX0, 28, 6, "", zk0, by decide, rfl, rfl, Or.inr ⟨rfl, rfl, rfl, q495⟩⟩
theorem puX0_48 {nm : String} : ZPu RX0 nm 48 0 9 .long := ⟨RX0, TX0, 28, 9, "", zk0, by decide, rfl, rfl, Or.inl ⟨rfl, Or.inl q498⟩⟩
theorem puX0_55 : ZPu RX0 "<init>" 55 0 10 (zTy 0 10) := ⟨RX0, TX0, 28, 10, "", zk0, by decide, rfl, rfl, Or.inr ⟨rfl, rfl, rfl, q499⟩⟩
theorem puX0_59 : ZPu RX0 "<init>" 59 0 11 (zTy 0 11) := ⟨RX0, TX0, 28, 11, "", zk0, by decide, rfl, rfl, Or.inr ⟨rfl, rfl, rfl, q500⟩⟩
theorem puX0_66 : ZPu RX0 "<init>" 66 0 13 (zTy 0 13) := ⟨RX0, TX0, 28, 13, "", zk0, by decide, rfl, rfl, Or.inr ⟨rfl, rfl, rfl, q502⟩⟩
theorem puX0_73 : ZPu RX0 "<init>" 73 0 14 (zTy 0 14) := ⟨RX0, TX0, 28, 14, "", zk0, by decide, rfl, rfl, Or.inr ⟨rfl, rfl, rfl, q503⟩⟩
theorem puX0_78 : ZPu RX0 "<init>" 78 0 15 (zTy 0 15) := ⟨RX0, TX0, 28, 15, "", zk0, by decide, rfl, rfl, Or.inr ⟨rfl, rfl, rfl, q504⟩⟩
theorem puX0_81 : ZPu RX0 "<init>" 81 0 16 (zTy 0 16) := ⟨RX0, TX0, 28, 16, "", zk0, by decide, rfl, rfl, Or.inr ⟨rfl, rfl, rfl, q505⟩⟩
theorem puX0_84 : ZPu RX0 "<init>" 84 0 17 (zTy 0 17) := ⟨RX0, TX0, 28, 17, "", zk0, by decide, rfl, rfl, Or.inr ⟨rfl, rfl, rfl, q506⟩⟩
theorem puX0_88 : ZPu RX0 "<init>" 88 0 19 (zTy 0 19) := ⟨RX0, TX0, 28, 19, "", zk0, by decide, rfl, rfl, Or.inr ⟨rfl, rfl, rfl, q508⟩⟩
theorem puX0_91 : ZPu RX0 "<init>" 91 0 20 (zTy 0 20) := ⟨RX0, TX0, 28, 20, "", zk0, by decide, rfl, rfl, Or.inr ⟨rfl, rfl, rfl, q509⟩⟩
theorem puX0_94 : ZPu RX0 "<init>" 94 0 21 (zTy 0 21) := ⟨RX0, TX0, 28, 21, "", zk0, by decide, rfl, rfl, Or.inr ⟨rfl, rfl, rfl, q510⟩⟩
theorem puX0_100 : ZPu RX0 "<init>" 100 0 23 (zTy 0 23) := ⟨RX0, TX0, 28, 23, "", zk0, by decide, rfl, rfl, Or.inr ⟨rfl, rfl, rfl, q512⟩⟩
theorem puX0_104 : ZPu RX0 "<init>" 104 0 25 (zTy 0 25) := ⟨RX0, TX0, 28, 25, "", zk0, by decide, rfl, rfl, Or.inr ⟨rfl, rfl, rfl, q514⟩⟩
theorem puX0_107 : ZPu RX0 "<init>" 107 0 26 (zTy 0 26) := ⟨RX0, TX0, 28, 26, "", zk0, by decide, rfl, rfl, Or.inr ⟨rfl, rfl, rfl, q515⟩⟩
theorem puX0_110 {nm : String} : ZPu RX0 nm 110 0 7 .int := ⟨RX0, TX0, 28, 7, "", zk0, by decide, rfl, rfl, Or.inl ⟨rfl, Or.inl q496⟩⟩
theorem puX0_113 {nm : String} : ZPu RX0 nm 113 0 8 .long := ⟨RX0, TX0, 28, 8, "", zk0, by decide, rfl, rfl, Or.inl ⟨rfl, Or.inl q497⟩⟩
theorem puX0_139 {nm : String} : ZPu RX0 nm 139 1 100 (zTy 1 0) := ⟨RX1, TX1, 1, 0, "SillBridges", zk1, by decide, rfl, rfl, Or.inl ⟨rfl, Or.inr (zNw_in q192 rfl)⟩⟩
theorem puX0_209 {nm : String} : ZPu RX0 nm 209 0 2 .int := ⟨RX0, TX0, 28, 2, "", zk0, by decide, rfl, rfl, Or.inl ⟨rfl, Or.inl q490⟩⟩
theorem puX0_238 {nm : String} : ZPu RX0 nm 238 4 401 (zTy 4 1) := ⟨RX4, TX4, 2, 1, "SillBridges", zk4, by decide, rfl, rfl, Or.inl ⟨rfl, Or.inr (zNw_in q397 rfl)⟩⟩
theorem puX0_372 {nm : String} : ZPu RX0 nm 372 0 18 .int := ⟨RX0, TX0, 28, 18, "", zk0, by decide, rfl, rfl, Or.inl ⟨rfl, Or.inl q507⟩⟩
theorem puX0_430 {nm : String} : ZPu RX0 nm 430 0 22 .int := ⟨RX0, TX0, 28, 22, "", zk0, by decide, rfl, rfl, Or.inl ⟨rfl, Or.inl q511⟩⟩
theorem puX0_454 {nm : String} : ZPu RX0 nm 454 5 503 .int := ⟨RX5, TX5, 6, 3, "SillBridges", zk5, by decide, rfl, rfl, Or.inl ⟨rfl, Or.inr (zNw_in q376 rfl)⟩⟩
theorem puX0_457 {nm : String} : ZPu RX0 nm 457 5 504 .int := ⟨RX5, TX5, 6, 4, "SillBridges", zk5, by decide, rfl, rfl, Or.inl ⟨rfl, Or.inr (zNw_in q378 rfl)⟩⟩
theorem puX0_460 {nm : String} : ZPu RX0 nm 460 5 505 .int := ⟨RX5, TX5, 6, 5, "SillBridges", zk5, by decide, rfl, rfl, Or.inl ⟨rfl, Or.inr (zNw_in q380 rfl)⟩⟩
theorem puX0_503 {nm : String} : ZPu RX0 nm 503 0 27 .int := ⟨RX0, TX0, 28, 27, "", zk0, by decide, rfl, rfl, Or.inl ⟨rfl, Or.inl q516⟩⟩
theorem puX0_506 {nm : String} : ZPu RX0 nm 506 0 24 .boolean := ⟨RX0, TX0, 28, 24, "", zk0, by decide, rfl, rfl, Or.inl ⟨rfl, Or.inl q513⟩⟩
theorem puX0_516 {nm : String} : ZPu RX0 nm 516 0 12 .int := ⟨RX0, TX0, 28, 12, "", zk0, by decide, rfl, rfl, Or.inl ⟨rfl, Or.inl q501⟩⟩
theorem puX10_3 : ZPu RX10 "<init>" 3 10 1006 (zTy 10 6) := ⟨RX10, TX10, 7, 6, "", zk10, by decide, rfl, rfl, Or.inr ⟨rfl, rfl, rfl, q735⟩⟩
theorem puX10_15 : ZPu RX10 "<init>" 15 10 1000 .int := ⟨RX10, TX10, 7, 0, "", zk10, by decide, rfl, rfl, Or.inr ⟨rfl, rfl, rfl, q728⟩⟩
theorem puX10_26 {nm : String} : ZPu RX10 nm 26 10 1002 .int := ⟨RX10, TX10, 7, 2, "", zk10, by decide, rfl, rfl, Or.inl ⟨rfl, Or.inl q730⟩⟩
theorem puX10_29 {nm : String} : ZPu RX10 nm 29 10 1001 .int := ⟨RX10, TX10, 7, 1, "", zk10, by decide, rfl, rfl, Or.inl ⟨rfl, Or.inl q729⟩⟩
theorem puX10_32 {nm : String} : ZPu RX10 nm 32 10 1003 .int := ⟨RX10, TX10, 7, 3, "", zk10, by decide, rfl, rfl, Or.inl ⟨rfl, Or.inl q731⟩⟩
theorem puX10_42 {nm : String} : ZPu RX10 nm 42 10 1004 .int := ⟨RX10, TX10, 7, 4, "", zk10, by decide, rfl, rfl, Or.inl ⟨rfl, Or.inl q732⟩⟩
theorem puX10_188 {nm : String} : ZPu RX10 nm 188 6 600 .int := ⟨RX6, TX6, 9, 0, "SillBridges", zk6, by decide, rfl, rfl, Or.inl ⟨rfl, Or.inr (zNw_in q311 rfl)⟩⟩
theorem puX10_199 {nm : String} : ZPu RX10 nm 199 6 601 .int := ⟨RX6, TX6, 9, 1, "SillBridges", zk6, by decide, rfl, rfl, Or.inl ⟨rfl, Or.inr (zNw_in q315 rfl)⟩⟩
theorem puX10_218 {nm : String} : ZPu RX10 nm 218 11 1105 .int := ⟨RX11, TX11, 10, 5, "SillBridges", zk11, by decide, rfl, rfl, Or.inl ⟨rfl, Or.inr (zNw_in q922 rfl)⟩⟩
theorem puX10_220 {nm : String} : ZPu RX10 nm 220 11 1106 .int := ⟨RX11, TX11, 10, 6, "SillBridges", zk11, by decide, rfl, rfl, Or.inl ⟨rfl, Or.inr (zNw_in q926 rfl)⟩⟩
theorem puX10_222 {nm : String} : ZPu RX10 nm 222 11 1107 .int := ⟨RX11, TX11, 10, 7, "SillBridges", zk11, by decide, rfl, rfl, Or.inl ⟨rfl, Or.inr (zNw_in q930 rfl)⟩⟩
theorem puX10_224 {nm : String} : ZPu RX10 nm 224 11 1108 .int := ⟨RX11, TX11, 10, 8, "SillBridges", zk11, by decide, rfl, rfl, Or.inl ⟨rfl, Or.inr (zNw_in q935 rfl)⟩⟩
theorem puX10_226 {nm : String} : ZPu RX10 nm 226 11 1109 .int := ⟨RX11, TX11, 10, 9, "SillBridges", zk11, by decide, rfl, rfl, Or.inl ⟨rfl, Or.inr (zNw_in q938 rfl)⟩⟩
theorem puX10_232 {nm : String} : ZPu RX10 nm 232 6 602 .int := ⟨RX6, TX6, 9, 2, "SillBridges", zk6, by decide, rfl, rfl, Or.inl ⟨rfl, Or.inr (zNw_in q320 rfl)⟩⟩
theorem puX10_240 {nm : String} : ZPu RX10 nm 240 12 1203 .int := ⟨RX12, TX12, 6, 3, "SillBridges", zk12, by decide, rfl, rfl, Or.inl ⟨rfl, Or.inr (zNw_in q984 rfl)⟩⟩
theorem puX10_242 {nm : String} : ZPu RX10 nm 242 12 1204 .int := ⟨RX12, TX12, 6, 4, "SillBridges", zk12, by decide, rfl, rfl, Or.inl ⟨rfl, Or.inr (zNw_in q987 rfl)⟩⟩
theorem puX10_244 {nm : String} : ZPu RX10 nm 244 12 1205 .boolean := ⟨RX12, TX12, 6, 5, "SillBridges", zk12, by decide, rfl, rfl, Or.inl ⟨rfl, Or.inr (zNw_in q990 rfl)⟩⟩
theorem puX10_250 {nm : String} : ZPu RX10 nm 250 6 603 .int := ⟨RX6, TX6, 9, 3, "SillBridges", zk6, by decide, rfl, rfl, Or.inl ⟨rfl, Or.inr (zNw_in q325 rfl)⟩⟩
theorem puX10_270 {nm : String} : ZPu RX10 nm 270 10 1005 .int := ⟨RX10, TX10, 7, 5, "", zk10, by decide, rfl, rfl, Or.inl ⟨rfl, Or.inl q733⟩⟩
theorem puX11_9 {nm : String} : ZPu RX11 nm 9 11 1105 .int := ⟨RX11, TX11, 10, 5, "", zk11, by decide, rfl, rfl, Or.inl ⟨rfl, Or.inl q921⟩⟩
theorem puX11_15 {nm : String} : ZPu RX11 nm 15 11 1106 .int := ⟨RX11, TX11, 10, 6, "", zk11, by decide, rfl, rfl, Or.inl ⟨rfl, Or.inl q924⟩⟩
theorem puX11_18 {nm : String} : ZPu RX11 nm 18 11 1108 .int := ⟨RX11, TX11, 10, 8, "", zk11, by decide, rfl, rfl, Or.inl ⟨rfl, Or.inl q932⟩⟩
theorem puX11_21 : ZPu RX11 "<init>" 21 11 1100 .long := ⟨RX11, TX11, 10, 0, "", zk11, by decide, rfl, rfl, Or.inr ⟨rfl, rfl, rfl, q910⟩⟩
theorem puX11_25 : ZPu RX11 "<init>" 25 11 1101 .int := ⟨RX11, TX11, 10, 1, "", zk11, by decide, rfl, rfl, Or.inr ⟨rfl, rfl, rfl, q912⟩⟩
theorem puX11_28 : ZPu RX11 "<init>" 28 11 1102 .int := ⟨RX11, TX11, 10, 2, "", zk11, by decide, rfl, rfl, Or.inr ⟨rfl, rfl, rfl, q914⟩⟩
theorem puX11_31 : ZPu RX11 "<init>" 31 11 1103 .int := ⟨RX11, TX11, 10, 3, "", zk11, by decide, rfl, rfl, Or.inr ⟨rfl, rfl, rfl, q916⟩⟩
theorem puX11_34 : ZPu RX11 "<init>" 34 11 1104 .int := ⟨RX11, TX11, 10, 4, "", zk11, by decide, rfl, rfl, Or.inr ⟨rfl, rfl, rfl, q919⟩⟩
theorem puX12_9 {nm : String} : ZPu RX12 nm 9 12 1203 .int := ⟨RX12, TX12, 6, 3, "", zk12, by decide, rfl, rfl, Or.inl ⟨rfl, Or.inl q982⟩⟩
theorem puX12_15 : ZPu RX12 "<init>" 15 12 1200 .long := ⟨RX12, TX12, 6, 0, "", zk12, by decide, rfl, rfl, Or.inr ⟨rfl, rfl, rfl, q975⟩⟩
theorem puX12_19 : ZPu RX12 "<init>" 19 12 1201 .int := ⟨RX12, TX12, 6, 1, "", zk12, by decide, rfl, rfl, Or.inr ⟨rfl, rfl, rfl, q977⟩⟩
theorem puX12_22 : ZPu RX12 "<init>" 22 12 1202 .int := ⟨RX12, TX12, 6, 2, "", zk12, by decide, rfl, rfl, Or.inr ⟨rfl, rfl, rfl, q980⟩⟩
theorem puX13_7 : ZPu RX13 "<init>" 7 13 1300 .long := ⟨RX13, TX13, 3, 0, "", zk13, by decide, rfl, rfl, Or.inr ⟨rfl, rfl, rfl, q1015⟩⟩
theorem puX13_13 : ZPu RX13 "<init>" 13 13 1301 .int := ⟨RX13, TX13, 3, 1, "", zk13, by decide, rfl, rfl, Or.inr ⟨rfl, rfl, rfl, q1017⟩⟩
theorem puX13_17 : ZPu RX13 "<init>" 17 13 1302 .int := ⟨RX13, TX13, 3, 2, "", zk13, by decide, rfl, rfl, Or.inr ⟨rfl, rfl, rfl, q1020⟩⟩
theorem puX14_9 {nm : String} : ZPu RX14 nm 9 8 802 .int := ⟨RX8, TX8, 10, 2, "SillBridges", zk8, by decide, rfl, rfl, Or.inl ⟨rfl, Or.inr (zNw_in q447 rfl)⟩⟩
theorem puX14_15 {nm : String} : ZPu RX14 nm 15 8 808 .boolean := ⟨RX8, TX8, 10, 8, "SillBridges", zk8, by decide, rfl, rfl, Or.inl ⟨rfl, Or.inr (zNw_in q463 rfl)⟩⟩
theorem puX16_7 : ZPu RX16 "<init>" 7 16 1602 .int := ⟨RX16, TX16, 3, 2, "", zk16, by decide, rfl, rfl, Or.inr ⟨rfl, rfl, rfl, q1063⟩⟩
theorem puX17_9 : ZPu RX17 "<init>" 9 17 1702 .int := ⟨RX17, TX17, 5, 2, "", zk17, by decide, rfl, rfl, Or.inr ⟨rfl, rfl, rfl, q1108⟩⟩
theorem puX17_15 : ZPu RX17 "<init>" 15 17 1703 .int := ⟨RX17, TX17, 5, 3, "", zk17, by decide, rfl, rfl, Or.inr ⟨rfl, rfl, rfl, q1109⟩⟩
theorem puX17_18 : ZPu RX17 "<init>" 18 17 1704 .int := ⟨RX17, TX17, 5, 4, "", zk17, by decide, rfl, rfl, Or.inr ⟨rfl, rfl, rfl, q1110⟩⟩
theorem puX18_9 : ZPu RX18 "<init>" 9 18 1800 .int := ⟨RX18, TX18, 4, 0, "", zk18, by decide, rfl, rfl, Or.inr ⟨rfl, rfl, rfl, q1147⟩⟩
theorem puX18_21 : ZPu RX18 "<init>" 21 18 1801 .int := ⟨RX18, TX18, 4, 1, "", zk18, by decide, rfl, rfl, Or.inr ⟨rfl, rfl, rfl, q1148⟩⟩
theorem puX18_27 : ZPu RX18 "<init>" 27 18 1802 .int := ⟨RX18, TX18, 4, 2, "", zk18, by decide, rfl, rfl, Or.inr ⟨rfl, rfl, rfl, q1149⟩⟩
theorem puX18_30 : ZPu RX18 "<init>" 30 18 1803 .int := ⟨RX18, TX18, 4, 3, "", zk18, by decide, rfl, rfl, Or.inr ⟨rfl, rfl, rfl, q1150⟩⟩
theorem puX19_7 {nm : String} : ZPu RX19 nm 7 8 808 .boolean := ⟨RX8, TX8, 10, 8, "SillBridges", zk8, by decide, rfl, rfl, Or.inl ⟨rfl, Or.inr (zNw_in q459 rfl)⟩⟩
theorem puX2_7 {nm : String} : ZPu RX2 nm 7 2 206 .int := ⟨RX2, TX2, 8, 6, "", zk2, by decide, rfl, rfl, Or.inl ⟨rfl, Or.inl q245⟩⟩
theorem puX2_13 {nm : String} : ZPu RX2 nm 13 2 207 .int := ⟨RX2, TX2, 8, 7, "", zk2, by decide, rfl, rfl, Or.inl ⟨rfl, Or.inl q247⟩⟩
theorem puX3_7 {nm : String} : ZPu RX3 nm 7 3 306 .int := ⟨RX3, TX3, 7, 6, "", zk3, by decide, rfl, rfl, Or.inl ⟨rfl, Or.inl q280⟩⟩
theorem puX4_10 : ZPu RX4 "<init>" 10 4 400 (zTy 4 0) := ⟨RX4, TX4, 2, 0, "", zk4, by decide, rfl, rfl, Or.inr ⟨rfl, rfl, rfl, q394⟩⟩
theorem puX4_20 {nm : String} : ZPu RX4 nm 20 4 401 (zTy 4 1) := ⟨RX4, TX4, 2, 1, "", zk4, by decide, rfl, rfl, Or.inl ⟨rfl, Or.inl q396⟩⟩
theorem puX5_12 {nm : String} : ZPu RX5 nm 12 5 500 (zTy 5 0) := ⟨RX5, TX5, 6, 0, "", zk5, by decide, rfl, rfl, Or.inl ⟨rfl, Or.inl q368⟩⟩
theorem puX5_18 : ZPu RX5 "<init>" 18 5 501 (zTy 5 1) := ⟨RX5, TX5, 6, 1, "", zk5, by decide, rfl, rfl, Or.inr ⟨rfl, rfl, rfl, q371⟩⟩
theorem puX5_22 : ZPu RX5 "<init>" 22 5 502 (zTy 5 2) := ⟨RX5, TX5, 6, 2, "", zk5, by decide, rfl, rfl, Or.inr ⟨rfl, rfl, rfl, q374⟩⟩
theorem puX5_25 {nm : String} : ZPu RX5 nm 25 5 503 .int := ⟨RX5, TX5, 6, 3, "", zk5, by decide, rfl, rfl, Or.inl ⟨rfl, Or.inl q375⟩⟩
theorem puX5_29 {nm : String} : ZPu RX5 nm 29 5 504 .int := ⟨RX5, TX5, 6, 4, "", zk5, by decide, rfl, rfl, Or.inl ⟨rfl, Or.inl q377⟩⟩
theorem puX6_9 : ZPu RX6 "<init>" 9 6 604 (zTy 6 4) := ⟨RX6, TX6, 9, 4, "", zk6, by decide, rfl, rfl, Or.inr ⟨rfl, rfl, rfl, q327⟩⟩
theorem puX6_15 : ZPu RX6 "<init>" 15 6 605 (zTy 6 5) := ⟨RX6, TX6, 9, 5, "", zk6, by decide, rfl, rfl, Or.inr ⟨rfl, rfl, rfl, q329⟩⟩
theorem puX6_21 : ZPu RX6 "<init>" 21 6 606 (zTy 6 6) := ⟨RX6, TX6, 9, 6, "", zk6, by decide, rfl, rfl, Or.inr ⟨rfl, rfl, rfl, q333⟩⟩
theorem puX6_27 : ZPu RX6 "<init>" 27 6 607 (zTy 6 7) := ⟨RX6, TX6, 9, 7, "", zk6, by decide, rfl, rfl, Or.inr ⟨rfl, rfl, rfl, q339⟩⟩
theorem puX6_33 : ZPu RX6 "<init>" 33 6 608 (zTy 6 8) := ⟨RX6, TX6, 9, 8, "", zk6, by decide, rfl, rfl, Or.inr ⟨rfl, rfl, rfl, q343⟩⟩
theorem puX7_11 : ZPu RX7 "<init>" 11 7 700 (zTy 7 0) := ⟨RX7, TX7, 5, 0, "", zk7, by decide, rfl, rfl, Or.inr ⟨rfl, rfl, rfl, q410⟩⟩
theorem puX7_15 : ZPu RX7 "<init>" 15 7 701 (zTy 7 1) := ⟨RX7, TX7, 5, 1, "", zk7, by decide, rfl, rfl, Or.inr ⟨rfl, rfl, rfl, q412⟩⟩
theorem puX7_18 : ZPu RX7 "<init>" 18 7 702 (zTy 7 2) := ⟨RX7, TX7, 5, 2, "", zk7, by decide, rfl, rfl, Or.inr ⟨rfl, rfl, rfl, q414⟩⟩
theorem puX7_21 : ZPu RX7 "<init>" 21 7 703 (zTy 7 3) := ⟨RX7, TX7, 5, 3, "", zk7, by decide, rfl, rfl, Or.inr ⟨rfl, rfl, rfl, q416⟩⟩
theorem puX7_24 {nm : String} : ZPu RX7 nm 24 7 704 .int := ⟨RX7, TX7, 5, 4, "", zk7, by decide, rfl, rfl, Or.inl ⟨rfl, Or.inl q418⟩⟩
theorem puX8_12 : ZPu RX8 "<init>" 12 8 800 (zTy 8 0) := ⟨RX8, TX8, 10, 0, "", zk8, by decide, rfl, rfl, Or.inr ⟨rfl, rfl, rfl, q442⟩⟩
theorem puX8_22 {nm : String} : ZPu RX8 nm 22 8 801 .int := ⟨RX8, TX8, 10, 1, "", zk8, by decide, rfl, rfl, Or.inl ⟨rfl, Or.inl q445⟩⟩
theorem puX8_26 {nm : String} : ZPu RX8 nm 26 8 809 .boolean := ⟨RX8, TX8, 10, 9, "", zk8, by decide, rfl, rfl, Or.inl ⟨rfl, Or.inl q464⟩⟩
theorem puX8_30 {nm : String} : ZPu RX8 nm 30 8 802 .int := ⟨RX8, TX8, 10, 2, "", zk8, by decide, rfl, rfl, Or.inl ⟨rfl, Or.inl q446⟩⟩
theorem puX8_33 {nm : String} : ZPu RX8 nm 33 8 803 .int := ⟨RX8, TX8, 10, 3, "", zk8, by decide, rfl, rfl, Or.inl ⟨rfl, Or.inl q449⟩⟩
theorem puX8_36 {nm : String} : ZPu RX8 nm 36 8 804 .int := ⟨RX8, TX8, 10, 4, "", zk8, by decide, rfl, rfl, Or.inl ⟨rfl, Or.inl q451⟩⟩
theorem puX8_39 {nm : String} : ZPu RX8 nm 39 8 805 .int := ⟨RX8, TX8, 10, 5, "", zk8, by decide, rfl, rfl, Or.inl ⟨rfl, Or.inl q453⟩⟩
theorem puX8_42 {nm : String} : ZPu RX8 nm 42 8 806 .int := ⟨RX8, TX8, 10, 6, "", zk8, by decide, rfl, rfl, Or.inl ⟨rfl, Or.inl q455⟩⟩
theorem puX8_45 {nm : String} : ZPu RX8 nm 45 8 807 .int := ⟨RX8, TX8, 10, 7, "", zk8, by decide, rfl, rfl, Or.inl ⟨rfl, Or.inl q457⟩⟩
theorem puX8_48 {nm : String} : ZPu RX8 nm 48 8 808 .boolean := ⟨RX8, TX8, 10, 8, "", zk8, by decide, rfl, rfl, Or.inl ⟨rfl, Or.inl q461⟩⟩
theorem puX9_7 : ZPu RX9 "<init>" 7 9 900 (zTy 9 0) := ⟨RX9, TX9, 54, 0, "", zk9, by decide, rfl, rfl, Or.inr ⟨rfl, rfl, rfl, q1588⟩⟩
theorem puX9_13 : ZPu RX9 "<init>" 13 9 901 (zTy 9 1) := ⟨RX9, TX9, 54, 1, "", zk9, by decide, rfl, rfl, Or.inr ⟨rfl, rfl, rfl, q1589⟩⟩
theorem puX9_17 {nm : String} : ZPu RX9 nm 17 9 904 .long := ⟨RX9, TX9, 54, 4, "", zk9, by decide, rfl, rfl, Or.inl ⟨rfl, Or.inl q1592⟩⟩
theorem puX9_21 : ZPu RX9 "<init>" 21 9 905 (zTy 9 5) := ⟨RX9, TX9, 54, 5, "", zk9, by decide, rfl, rfl, Or.inr ⟨rfl, rfl, rfl, q1593⟩⟩
theorem puX9_24 : ZPu RX9 "<init>" 24 9 906 (zTy 9 6) := ⟨RX9, TX9, 54, 6, "", zk9, by decide, rfl, rfl, Or.inr ⟨rfl, rfl, rfl, q1594⟩⟩
theorem puX9_27 : ZPu RX9 "<init>" 27 9 907 (zTy 9 7) := ⟨RX9, TX9, 54, 7, "", zk9, by decide, rfl, rfl, Or.inr ⟨rfl, rfl, rfl, q1595⟩⟩
theorem puX9_30 : ZPu RX9 "<init>" 30 9 908 (zTy 9 8) := ⟨RX9, TX9, 54, 8, "", zk9, by decide, rfl, rfl, Or.inr ⟨rfl, rfl, rfl, q1596⟩⟩
theorem puX9_34 : ZPu RX9 "<init>" 34 9 909 (zTy 9 9) := ⟨RX9, TX9, 54, 9, "", zk9, by decide, rfl, rfl, Or.inr ⟨rfl, rfl, rfl, q1597⟩⟩
theorem puX9_37 {nm : String} : ZPu RX9 nm 37 9 916 .int := ⟨RX9, TX9, 54, 16, "", zk9, by decide, rfl, rfl, Or.inl ⟨rfl, Or.inl q1604⟩⟩
theorem puX9_41 {nm : String} : ZPu RX9 nm 41 9 917 .int := ⟨RX9, TX9, 54, 17, "", zk9, by decide, rfl, rfl, Or.inl ⟨rfl, Or.inl q1605⟩⟩
theorem puX9_44 : ZPu RX9 "<init>" 44 9 921 (zTy 9 21) := ⟨RX9, TX9, 54, 21, "", zk9, by decide, rfl, rfl, Or.inr ⟨rfl, rfl, rfl, q1609⟩⟩
theorem puX9_47 : ZPu RX9 "<init>" 47 9 924 (zTy 9 24) := ⟨RX9, TX9, 54, 24, "", zk9, by decide, rfl, rfl, Or.inr ⟨rfl, rfl, rfl, q1612⟩⟩
theorem puX9_50 : ZPu RX9 "<init>" 50 9 925 (zTy 9 25) := ⟨RX9, TX9, 54, 25, "", zk9, by decide, rfl, rfl, Or.inr ⟨rfl, rfl, rfl, q1613⟩⟩
theorem puX9_53 {nm : String} : ZPu RX9 nm 53 9 926 .int := ⟨RX9, TX9, 54, 26, "", zk9, by decide, rfl, rfl, Or.inl ⟨rfl, Or.inl q1614⟩⟩
theorem puX9_56 : ZPu RX9 "<init>" 56 9 929 (zTy 9 29) := ⟨RX9, TX9, 54, 29, "", zk9, by decide, rfl, rfl, Or.inr ⟨rfl, rfl, rfl, q1617⟩⟩
theorem puX9_59 : ZPu RX9 "<init>" 59 9 930 (zTy 9 30) := ⟨RX9, TX9, 54, 30, "", zk9, by decide, rfl, rfl, Or.inr ⟨rfl, rfl, rfl, q1618⟩⟩
theorem puX9_62 : ZPu RX9 "<init>" 62 9 931 (zTy 9 31) := ⟨RX9, TX9, 54, 31, "", zk9, by decide, rfl, rfl, Or.inr ⟨rfl, rfl, rfl, q1619⟩⟩
theorem puX9_65 : ZPu RX9 "<init>" 65 9 932 (zTy 9 32) := ⟨RX9, TX9, 54, 32, "", zk9, by decide, rfl, rfl, Or.inr ⟨rfl, rfl, rfl, q1620⟩⟩
theorem puX9_69 : ZPu RX9 "<init>" 69 9 934 (zTy 9 34) := ⟨RX9, TX9, 54, 34, "", zk9, by decide, rfl, rfl, Or.inr ⟨rfl, rfl, rfl, q1622⟩⟩
theorem puX9_72 : ZPu RX9 "<init>" 72 9 935 (zTy 9 35) := ⟨RX9, TX9, 54, 35, "", zk9, by decide, rfl, rfl, Or.inr ⟨rfl, rfl, rfl, q1623⟩⟩
theorem puX9_75 : ZPu RX9 "<init>" 75 9 936 (zTy 9 36) := ⟨RX9, TX9, 54, 36, "", zk9, by decide, rfl, rfl, Or.inr ⟨rfl, rfl, rfl, q1624⟩⟩
theorem puX9_79 {nm : String} : ZPu RX9 nm 79 9 939 .int := ⟨RX9, TX9, 54, 39, "", zk9, by decide, rfl, rfl, Or.inl ⟨rfl, Or.inl q1627⟩⟩
theorem puX9_82 : ZPu RX9 "<init>" 82 9 940 (zTy 9 40) := ⟨RX9, TX9, 54, 40, "", zk9, by decide, rfl, rfl, Or.inr ⟨rfl, rfl, rfl, q1628⟩⟩
theorem puX9_85 : ZPu RX9 "<init>" 85 9 949 (zTy 9 49) := ⟨RX9, TX9, 54, 49, "", zk9, by decide, rfl, rfl, Or.inr ⟨rfl, rfl, rfl, q1637⟩⟩
theorem puX9_88 : ZPu RX9 "<init>" 88 9 950 (zTy 9 50) := ⟨RX9, TX9, 54, 50, "", zk9, by decide, rfl, rfl, Or.inr ⟨rfl, rfl, rfl, q1638⟩⟩
theorem puX9_91 : ZPu RX9 "<init>" 91 9 951 (zTy 9 51) := ⟨RX9, TX9, 54, 51, "", zk9, by decide, rfl, rfl, Or.inr ⟨rfl, rfl, rfl, q1639⟩⟩
theorem puX9_94 {nm : String} : ZPu RX9 nm 94 9 952 .int := ⟨RX9, TX9, 54, 52, "", zk9, by decide, rfl, rfl, Or.inl ⟨rfl, Or.inl q1640⟩⟩
theorem puX9_97 {nm : String} : ZPu RX9 nm 97 9 902 .int := ⟨RX9, TX9, 54, 2, "", zk9, by decide, rfl, rfl, Or.inl ⟨rfl, Or.inl q1590⟩⟩
theorem puX9_100 {nm : String} : ZPu RX9 nm 100 9 903 .long := ⟨RX9, TX9, 54, 3, "", zk9, by decide, rfl, rfl, Or.inl ⟨rfl, Or.inl q1591⟩⟩
theorem puX9_127 {nm : String} : ZPu RX9 nm 127 9 910 .int := ⟨RX9, TX9, 54, 10, "", zk9, by decide, rfl, rfl, Or.inl ⟨rfl, Or.inl q1598⟩⟩
theorem puX9_134 {nm : String} : ZPu RX9 nm 134 9 911 .int := ⟨RX9, TX9, 54, 11, "", zk9, by decide, rfl, rfl, Or.inl ⟨rfl, Or.inl q1599⟩⟩
theorem puX9_137 {nm : String} : ZPu RX9 nm 137 9 914 .int := ⟨RX9, TX9, 54, 14, "", zk9, by decide, rfl, rfl, Or.inl ⟨rfl, Or.inl q1602⟩⟩
theorem puX9_143 {nm : String} : ZPu RX9 nm 143 9 913 .int := ⟨RX9, TX9, 54, 13, "", zk9, by decide, rfl, rfl, Or.inl ⟨rfl, Or.inl q1601⟩⟩
theorem puX9_146 {nm : String} : ZPu RX9 nm 146 9 915 .int := ⟨RX9, TX9, 54, 15, "", zk9, by decide, rfl, rfl, Or.inl ⟨rfl, Or.inl q1603⟩⟩
theorem puX9_149 {nm : String} : ZPu RX9 nm 149 9 912 .int := ⟨RX9, TX9, 54, 12, "", zk9, by decide, rfl, rfl, Or.inl ⟨rfl, Or.inl q1600⟩⟩
theorem puX9_174 {nm : String} : ZPu RX9 nm 174 9 918 .int := ⟨RX9, TX9, 54, 18, "", zk9, by decide, rfl, rfl, Or.inl ⟨rfl, Or.inl q1606⟩⟩
theorem puX9_177 {nm : String} : ZPu RX9 nm 177 9 919 .int := ⟨RX9, TX9, 54, 19, "", zk9, by decide, rfl, rfl, Or.inl ⟨rfl, Or.inl q1607⟩⟩
theorem puX9_210 {nm : String} : ZPu RX9 nm 210 9 920 .int := ⟨RX9, TX9, 54, 20, "", zk9, by decide, rfl, rfl, Or.inl ⟨rfl, Or.inl q1608⟩⟩
theorem puX9_270 {nm : String} : ZPu RX9 nm 270 9 922 .int := ⟨RX9, TX9, 54, 22, "", zk9, by decide, rfl, rfl, Or.inl ⟨rfl, Or.inl q1610⟩⟩
theorem puX9_273 {nm : String} : ZPu RX9 nm 273 9 923 .int := ⟨RX9, TX9, 54, 23, "", zk9, by decide, rfl, rfl, Or.inl ⟨rfl, Or.inl q1611⟩⟩
theorem puX9_309 {nm : String} : ZPu RX9 nm 309 9 928 .int := ⟨RX9, TX9, 54, 28, "", zk9, by decide, rfl, rfl, Or.inl ⟨rfl, Or.inl q1616⟩⟩
theorem puX9_312 {nm : String} : ZPu RX9 nm 312 9 927 .int := ⟨RX9, TX9, 54, 27, "", zk9, by decide, rfl, rfl, Or.inl ⟨rfl, Or.inl q1615⟩⟩
theorem puX9_354 {nm : String} : ZPu RX9 nm 354 9 933 .int := ⟨RX9, TX9, 54, 33, "", zk9, by decide, rfl, rfl, Or.inl ⟨rfl, Or.inl q1621⟩⟩
theorem puX9_370 {nm : String} : ZPu RX9 nm 370 9 938 .int := ⟨RX9, TX9, 54, 38, "", zk9, by decide, rfl, rfl, Or.inl ⟨rfl, Or.inl q1626⟩⟩
theorem puX9_373 {nm : String} : ZPu RX9 nm 373 9 937 .int := ⟨RX9, TX9, 54, 37, "", zk9, by decide, rfl, rfl, Or.inl ⟨rfl, Or.inl q1625⟩⟩
theorem puX9_426 {nm : String} : ZPu RX9 nm 426 9 948 .boolean := ⟨RX9, TX9, 54, 48, "", zk9, by decide, rfl, rfl, Or.inl ⟨rfl, Or.inl q1636⟩⟩
theorem puX9_430 {nm : String} : ZPu RX9 nm 430 9 941 .int := ⟨RX9, TX9, 54, 41, "", zk9, by decide, rfl, rfl, Or.inl ⟨rfl, Or.inl q1629⟩⟩
theorem puX9_434 {nm : String} : ZPu RX9 nm 434 9 946 .int := ⟨RX9, TX9, 54, 46, "", zk9, by decide, rfl, rfl, Or.inl ⟨rfl, Or.inl q1634⟩⟩
theorem puX9_437 {nm : String} : ZPu RX9 nm 437 9 947 .int := ⟨RX9, TX9, 54, 47, "", zk9, by decide, rfl, rfl, Or.inl ⟨rfl, Or.inl q1635⟩⟩
theorem puX9_443 {nm : String} : ZPu RX9 nm 443 9 945 .int := ⟨RX9, TX9, 54, 45, "", zk9, by decide, rfl, rfl, Or.inl ⟨rfl, Or.inl q1633⟩⟩
theorem puX9_446 {nm : String} : ZPu RX9 nm 446 9 943 .int := ⟨RX9, TX9, 54, 43, "", zk9, by decide, rfl, rfl, Or.inl ⟨rfl, Or.inl q1631⟩⟩
theorem puX9_452 {nm : String} : ZPu RX9 nm 452 9 942 .int := ⟨RX9, TX9, 54, 42, "", zk9, by decide, rfl, rfl, Or.inl ⟨rfl, Or.inl q1630⟩⟩
theorem puX9_455 {nm : String} : ZPu RX9 nm 455 9 944 .int := ⟨RX9, TX9, 54, 44, "", zk9, by decide, rfl, rfl, Or.inl ⟨rfl, Or.inl q1632⟩⟩
theorem puX9_474 {nm : String} : ZPu RX9 nm 474 9 953 .int := ⟨RX9, TX9, 54, 53, "", zk9, by decide, rfl, rfl, Or.inl ⟨rfl, Or.inl q1641⟩⟩
theorem fbX15_7 : ZF 2 RX15 7 16 1500 ∧ ZF 2 RX15 7 17 1500 := ⟨⟨RX16, TX16, 3, 0, "", zk16, by decide, rfl, rfl, Or.inl q1064⟩, ⟨RX17, TX17, 5, 0, "", zk17, by decide, rfl, rfl, Or.inl q1064⟩⟩
theorem fbX15_13 : ZF 0 RX15 13 16 1501 ∧ ZF 0 RX15 13 17 1501 := ⟨⟨RX16, TX16, 3, 1, "", zk16, by decide, rfl, rfl, Or.inl q1065⟩, ⟨RX17, TX17, 5, 1, "", zk17, by decide, rfl, rfl, Or.inl q1065⟩⟩
theorem pbX15_7 {nm : String} : ZPu RX15 nm 7 16 1500 (zTy 16 0) ∧ ZPu RX15 nm 7 17 1500 (zTy 16 0) := ⟨⟨RX16, TX16, 3, 0, "", zk16, by decide, rfl, rfl, Or.inl ⟨rfl, Or.inl q1064⟩⟩, ⟨RX17, TX17, 5, 0, "", zk17, by decide, rfl, rfl, Or.inl ⟨rfl, Or.inl q1064⟩⟩⟩
theorem pbX15_13 {nm : String} : ZPu RX15 nm 13 16 1501 .int ∧ ZPu RX15 nm 13 17 1501 .int := ⟨⟨RX16, TX16, 3, 1, "", zk16, by decide, rfl, rfl, Or.inl ⟨rfl, Or.inl q1065⟩⟩, ⟨RX17, TX17, 5, 1, "", zk17, by decide, rfl, rfl, Or.inl ⟨rfl, Or.inl q1065⟩⟩⟩
theorem v2X10_281 : ZV RX10 281 RX16 yX15_add 1 ∧ ZV RX10 281 RX17 yX15_add 1 := ⟨⟨Or.inl q1172, q1173, q1175, by decide, by decide⟩, ⟨Or.inl q1172, q1173, q1176, by decide, by decide⟩⟩
theorem v4X15_29 : ZV RX15 29 RX16 yX14_go 1 ∧ ZV RX15 29 RX17 yX14_go 1 ∧ ZV RX15 29 RX18 yX14_go 1 ∧ ZV RX15 29 RX19 yX14_go 1 := ⟨⟨Or.inl q1496, q1497, q1500, by decide, by decide⟩, ⟨Or.inl q1496, q1497, q1502, by decide, by decide⟩, ⟨Or.inl q1496, q1497, q1499, by decide, by decide⟩, ⟨Or.inl q1496, q1497, q1501, by decide, by decide⟩⟩
theorem vuX0_483 : ZU RX0 483 RX16 RX15 ⟨RX16, "all", "(LSillBridges$Running;)V"⟩ yX15_all 1 := ⟨q1490, q1491, zNw_in q1492 rfl, q1493, q1494, by decide, by decide⟩
theorem vuX16_19 : ZU RX16 19 RX16 RX15 ⟨RX16, "all", "(LSillBridges$Running;)V"⟩ yX15_all 1 := ⟨q1533, q1491, zNw_in q1492 rfl, q1493, q1494, by decide, by decide⟩
theorem vuX17_41 : ZU RX17 41 RX17 RX15 ⟨RX17, "all", "(LSillBridges$Running;)V"⟩ yX15_all 1 := ⟨q1542, q1543, zNw_in q1492 rfl, q1544, q1494, by decide, by decide⟩
theorem vd16 : ZU RX14 19 RX16 RX14 ⟨RX14, "does", "(LSillBridges$Running;)V"⟩ yX16_does 1 := ⟨q1504, q1506, zNw_in q1505 rfl, q1530, q1531, by decide, by decide⟩
theorem vd17 : ZU RX14 19 RX17 RX14 ⟨RX14, "does", "(LSillBridges$Running;)V"⟩ yX17_does 1 := ⟨q1504, q1506, zNw_in q1505 rfl, q1537, q1538, by decide, by decide⟩
theorem vd18 : ZU RX14 19 RX18 RX14 ⟨RX14, "does", "(LSillBridges$Running;)V"⟩ yX18_does 1 := ⟨q1504, q1506, zNw_in q1505 rfl, q1507, q1508, by decide, by decide⟩
theorem vd19 : ZU RX14 19 RX19 RX14 ⟨RX14, "does", "(LSillBridges$Running;)V"⟩ yX19_does 1 := ⟨q1504, q1506, zNw_in q1505 rfl, q1534, q1535, by decide, by decide⟩
theorem cdJ11_signum : ZCode yJ11_signum cJ11_signum 2 (some .int) [] := Or.inl ⟨rfl, q1567⟩
theorem cdX0_answer : ZCode yX0_answer cX0_answer 2 (some .int) [] := Or.inl ⟨rfl, q1220⟩
theorem cdX0_at : ZCode yX0_at cX0_at 2 (some .int) [] := Or.inl ⟨rfl, q1232⟩
theorem cdX0_back : ZCode yX0_back cX0_back 1 (some .int) [] := Or.inl ⟨rfl, q1580⟩
theorem cdX0_begin : ZCode yX0_begin cX0_begin 1 (some .boolean) [] := Or.inl ⟨rfl, q1329⟩
theorem cdX0_beginAll : ZCode yX0_beginAll cX0_beginAll 2 none [] := Or.inl ⟨rfl, q1346⟩
theorem cdX0_bestStone : ZCode yX0_bestStone cX0_bestStone 6 (some .int) [] := Or.inl ⟨rfl, q1466⟩
theorem cdX0_both : ZCode yX0_both cX0_both 4 (some .boolean) [] := Or.inl ⟨rfl, q1312⟩
theorem cdX0_bottom : ZCode yX0_bottom cX0_bottom 1 (some .long) [] := Or.inl ⟨rfl, q585⟩
theorem cdX0_bridge : ZCode yX0_bridge cX0_bridge 4 (some .int) [] := Or.inl ⟨rfl, q1198⟩
theorem cdX0_canBe : ZCode yX0_canBe cX0_canBe 5 (some .boolean) [] := Or.inl ⟨rfl, q1454⟩
theorem cdX0_carries : ZCode yX0_carries cX0_carries 2 (some .int) [] := Or.inl ⟨rfl, q1236⟩
theorem cdX0_does : ZCode yX0_does cX0_does 6 (some .boolean) [] := Or.inl ⟨rfl, q1287⟩
theorem cdX0_drop : ZCode yX0_drop cX0_drop 2 (some .boolean) [] := Or.inl ⟨rfl, q1325⟩
theorem cdX0_fault : ZCode yX0_fault cX0_fault 2 (some .int) [] := Or.inl ⟨rfl, q1182⟩
theorem cdX0_faulty : ZCode yX0_faulty cX0_faulty 2 (some .int) [] := Or.inl ⟨rfl, q1044⟩
theorem cdX0_feed : ZCode yX0_feed cX0_feed 6 (some .int) [] := Or.inl ⟨rfl, q695⟩
theorem cdX0_fewest : ZCode yX0_fewest cX0_fewest 4 (some .int) [] := Or.inl ⟨rfl, q1417⟩
theorem cdX0_findAll : ZCode yX0_findAll cX0_findAll 2 none [] := Or.inl ⟨rfl, q1342⟩
theorem cdX0_findDone : ZCode yX0_findDone cX0_findDone 2 (some .int) [] := Or.inl ⟨rfl, q1393⟩
theorem cdX0_findGood : ZCode yX0_findGood cX0_findGood 3 none [] := Or.inl ⟨rfl, q1434⟩
theorem cdX0_first : ZCode yX0_first cX0_first 5 (some .int) [] := Or.inl ⟨rfl, q1397⟩
theorem cdX0_firstAt : ZCode yX0_firstAt cX0_firstAt 4 (some .int) [] := Or.inl ⟨rfl, q1409⟩
theorem cdX0_fraction : ZCode yX0_fraction cX0_fraction 11 (some .int) [] := Or.inl ⟨rfl, q1561⟩
theorem cdX0_free : ZCode yX0_free cX0_free 4 (some .int) [] := Or.inl ⟨rfl, q1446⟩
theorem cdX0_go : ZCode yX0_go cX0_go 3 (some .boolean) [] := Or.inl ⟨rfl, q1283⟩
theorem cdX0_hangs : ZCode yX0_hangs cX0_hangs 2 (some .int) [] := Or.inl ⟨rfl, q1265⟩
theorem cdX0_init : ZCode yX0_init cX0_init 1 none [] := Or.inl ⟨rfl, q181⟩
theorem cdX0_isBridge : ZCode yX0_isBridge cX0_isBridge 2 (some .boolean) [] := Or.inl ⟨rfl, q1202⟩
theorem cdX0_isGood : ZCode yX0_isGood cX0_isGood 5 (some .boolean) [] := Or.inl ⟨rfl, q1401⟩
theorem cdX0_isIn : ZCode yX0_isIn cX0_isIn 6 (some .boolean) [] := Or.inl ⟨rfl, q1190⟩
theorem cdX0_isLoad : ZCode yX0_isLoad cX0_isLoad 2 (some .boolean) [] := Or.inl ⟨rfl, q1248⟩
theorem cdX0_isPerson : ZCode yX0_isPerson cX0_isPerson 2 (some .boolean) [] := Or.inl ⟨rfl, q1215⟩
theorem cdX0_isPlace : ZCode yX0_isPlace cX0_isPlace 2 (some .boolean) [] := Or.inl ⟨rfl, q1228⟩
theorem cdX0_lay : ZCode yX0_lay cX0_lay 3 none [] := Or.inl ⟨rfl, q699⟩
theorem cdX0_leadsToGood : ZCode yX0_leadsToGood cX0_leadsToGood 3 (some .boolean) [] := Or.inl ⟨rfl, q1438⟩
theorem cdX0_least : ZCode yX0_least cX0_least 3 (some .int) [] := Or.inl ⟨rfl, q1333⟩
theorem cdX0_leastCost : ZCode yX0_leastCost cX0_leastCost 10 (some .int) [] := Or.inl ⟨rfl, q1338⟩
theorem cdX0_leastStone : ZCode yX0_leastStone cX0_leastStone 5 (some .int) [] := Or.inl ⟨rfl, q1462⟩
theorem cdX0_lift : ZCode yX0_lift cX0_lift 3 (some .boolean) [] := Or.inl ⟨rfl, q1321⟩
theorem cdX0_load : ZCode yX0_load cX0_load 3 (some .int) [] := Or.inl ⟨rfl, q1244⟩
theorem cdX0_lost : ZCode yX0_lost cX0_lost 3 (some .int) [] := Or.inl ⟨rfl, q1430⟩
theorem cdX0_mark : ZCode yX0_mark cX0_mark 1 (some .int) [] := Or.inl ⟨rfl, q1571⟩
theorem cdX0_most : ZCode yX0_most cX0_most 6 (some .int) [] := Or.inl ⟨rfl, q1425⟩
theorem cdX0_needed : ZCode yX0_needed cX0_needed 3 (some .int) [] := Or.inl ⟨rfl, q1450⟩
theorem cdX0_no : ZCode yX0_no cX0_no 2 (some .boolean) [] := Or.inl ⟨rfl, q633⟩
theorem cdX0_none : ZCode yX0_none cX0_none 2 (some .int) [] := Or.inl ⟨rfl, q680⟩
theorem cdX0_number : ZCode yX0_number cX0_number 3 (some .long) [] := Or.inl ⟨rfl, q675⟩
theorem cdX0_odds : ZCode yX0_odds cX0_odds 5 (some .boolean) [] := Or.inl ⟨rfl, q1557⟩
theorem cdX0_on : ZCode yX0_on cX0_on 2 (some (.object "java/lang/Object")) [] := Or.inl ⟨rfl, q661⟩
theorem cdX0_opens : ZCode yX0_opens cX0_opens 3 (some .boolean) [] := Or.inl ⟨rfl, q707⟩
theorem cdX0_orders : ZCode yX0_orders cX0_orders 4 (some .int) [(13, 53, 54, 34)] := Or.inr q1048
theorem cdX0_person : ZCode yX0_person cX0_person 4 (some .int) [] := Or.inl ⟨rfl, q1211⟩
theorem cdX0_pour : ZCode yX0_pour cX0_pour 9 (some .boolean) [(85, 97, 100, 181), (5, 112, 113, 41)] := Or.inr q684
theorem cdX0_put : ZCode yX0_put cX0_put 7 none [] := Or.inl ⟨rfl, q664⟩
theorem cdX0_put_2 : ZCode yX0_put_2 cX0_put_2 3 (some .boolean) [] := Or.inl ⟨rfl, q1279⟩
theorem cdX0_ran : ZCode yX0_ran cX0_ran 2 (some .int) [] := Or.inl ⟨rfl, q1548⟩
theorem cdX0_ranAt : ZCode yX0_ranAt cX0_ranAt 2 (some .int) [] := Or.inl ⟨rfl, q1553⟩
theorem cdX0_reach : ZCode yX0_reach cX0_reach 4 (some .int) [] := Or.inl ⟨rfl, q1413⟩
theorem cdX0_read : ZCode yX0_read cX0_read 4 (some .long) [(5, 14, 15, 159), (5, 14, 25, 41)] := Or.inr q672
theorem cdX0_rope : ZCode yX0_rope cX0_rope 9 (some .int) [(5, 243, 244, 41)] := Or.inr q1470
theorem cdX0_row : ZCode yX0_row cX0_row 2 (some (.object "java/lang/Object")) [] := Or.inl ⟨rfl, q629⟩
theorem cdX0_run : ZCode yX0_run cX0_run 2 (some .int) [] := Or.inl ⟨rfl, q1480⟩
theorem cdX0_runOnce : ZCode yX0_runOnce cX0_runOnce 2 none [] := Or.inl ⟨rfl, q1484⟩
theorem cdX0_safe : ZCode yX0_safe cX0_safe 3 (some .int) [] := Or.inl ⟨rfl, q1442⟩
theorem cdX0_see : ZCode yX0_see cX0_see 3 none [] := Or.inl ⟨rfl, q1367⟩
theorem cdX0_sizeOf : ZCode yX0_sizeOf cX0_sizeOf 2 (some .int) [] := Or.inl ⟨rfl, q1474⟩
theorem cdX0_sortOf : ZCode yX0_sortOf cX0_sortOf 1 (some .int) [] := Or.inl ⟨rfl, q688⟩
theorem cdX0_spread : ZCode yX0_spread cX0_spread 3 none [] := Or.inl ⟨rfl, q1371⟩
theorem cdX0_states : ZCode yX0_states cX0_states 1 (some .int) [] := Or.inl ⟨rfl, q1421⟩
theorem cdX0_status : ZCode yX0_status cX0_status 1 (some .int) [] := Or.inl ⟨rfl, q577⟩
theorem cdX0_step : ZCode yX0_step cX0_step 5 (some .int) [] := Or.inl ⟨rfl, q1405⟩
theorem cdX0_stone : ZCode yX0_stone cX0_stone 2 (some .int) [] := Or.inl ⟨rfl, q1458⟩
theorem cdX0_stones : ZCode yX0_stones cX0_stones 2 (some .int) [] := Or.inl ⟨rfl, q1224⟩
theorem cdX0_told : ZCode yX0_told cX0_told 2 (some .int) [] := Or.inl ⟨rfl, q1186⟩
theorem cdX0_top : ZCode yX0_top cX0_top 1 (some .long) [] := Or.inl ⟨rfl, q581⟩
theorem cdX0_town : ZCode yX0_town cX0_town 3 (some .int) [(13, 57, 58, 34)] := Or.inr q703
theorem cdX0_town_2 : ZCode yX0_town_2 cX0_town_2 1 (some (.object "SillBridges$Town")) [] := Or.inl ⟨rfl, q1076⟩
theorem cdX0_tray : ZCode yX0_tray cX0_tray 5 (some .boolean) [(5, 54, 55, 145), (5, 54, 64, 41)] := Or.inr q589
theorem cdX0_want : ZCode yX0_want cX0_want 3 none [] := Or.inl ⟨rfl, q622⟩
theorem cdX0_weight : ZCode yX0_weight cX0_weight 2 (some .int) [] := Or.inl ⟨rfl, q1256⟩
theorem cdX0_why : ZCode yX0_why cX0_why 4 (some .int) [] := Or.inl ⟨rfl, q1316⟩
theorem cdX0_write : ZCode yX0_write cX0_write 6 (some .boolean) [(5, 16, 17, 159), (5, 16, 26, 41)] := Or.inr q638
theorem cdX10_block : ZCode yX10_block cX10_block 5 (some (.object "SillBridges$Block")) [] := Or.inl ⟨rfl, q1092⟩
theorem cdX10_bridge : ZCode yX10_bridge cX10_bridge 2 (some .int) [] := Or.inl ⟨rfl, q1102⟩
theorem cdX10_close : ZCode yX10_close cX10_close 1 none [] := Or.inl ⟨rfl, q1036⟩
theorem cdX10_fresh : ZCode yX10_fresh cX10_fresh 4 (some .long) [] := Or.inl ⟨rfl, q819⟩
theorem cdX10_going : ZCode yX10_going cX10_going 6 (some (.object "SillBridges$Step")) [] := Or.inl ⟨rfl, q1134⟩
theorem cdX10_init : ZCode yX10_init cX10_init 3 none [] := Or.inl ⟨rfl, q714⟩
theorem cdX10_isDigit : ZCode yX10_isDigit cX10_isDigit 2 (some .boolean) [] := Or.inl ⟨rfl, q727⟩
theorem cdX10_isKept : ZCode yX10_isKept cX10_isKept 4 (some .boolean) [] := Or.inl ⟨rfl, q827⟩
theorem cdX10_isLetter : ZCode yX10_isLetter cX10_isLetter 2 (some .boolean) [] := Or.inl ⟨rfl, q723⟩
theorem cdX10_isPlain : ZCode yX10_isPlain cX10_isPlain 1 (some .boolean) [] := Or.inl ⟨rfl, q1088⟩
theorem cdX10_isWord : ZCode yX10_isWord cX10_isWord 3 (some .boolean) [] := Or.inl ⟨rfl, q759⟩
theorem cdX10_known : ZCode yX10_known cX10_known 2 (some .int) [] := Or.inl ⟨rfl, q899⟩
theorem cdX10_load : ZCode yX10_load cX10_load 2 (some .int) [] := Or.inl ⟨rfl, q1163⟩
theorem cdX10_name : ZCode yX10_name cX10_name 4 (some .long) [] := Or.inl ⟨rfl, q823⟩
theorem cdX10_newBridge : ZCode yX10_newBridge cX10_newBridge 9 none [] := Or.inl ⟨rfl, q886⟩
theorem cdX10_newLoad : ZCode yX10_newLoad cX10_newLoad 5 none [] := Or.inl ⟨rfl, q1008⟩
theorem cdX10_newPerson : ZCode yX10_newPerson cX10_newPerson 6 none [] := Or.inl ⟨rfl, q968⟩
theorem cdX10_newPlace : ZCode yX10_newPlace cX10_newPlace 2 none [] := Or.inl ⟨rfl, q811⟩
theorem cdX10_newStone : ZCode yX10_newStone cX10_newStone 3 none [] := Or.inl ⟨rfl, q1032⟩
theorem cdX10_next : ZCode yX10_next cX10_next 1 none [] := Or.inl ⟨rfl, q719⟩
theorem cdX10_number : ZCode yX10_number cX10_number 4 (some .int) [] := Or.inl ⟨rfl, q905⟩
theorem cdX10_orders : ZCode yX10_orders cX10_orders 3 none [] := Or.inl ⟨rfl, q1080⟩
theorem cdX10_person : ZCode yX10_person cX10_person 2 (some .int) [] := Or.inl ⟨rfl, q1123⟩
theorem cdX10_place : ZCode yX10_place cX10_place 2 (some .int) [] := Or.inl ⟨rfl, q894⟩
theorem cdX10_plain : ZCode yX10_plain cX10_plain 7 (some (.object "SillBridges$Step")) [] := Or.inl ⟨rfl, q1130⟩
theorem cdX10_step : ZCode yX10_step cX10_step 7 none [] := Or.inl ⟨rfl, q1084⟩
theorem cdX10_told : ZCode yX10_told cX10_told 5 (some .int) [] := Or.inl ⟨rfl, q964⟩
theorem cdX10_town : ZCode yX10_town cX10_town 2 none [] := Or.inl ⟨rfl, q754⟩
theorem cdX10_when : ZCode yX10_when cX10_when 6 (some (.object "SillBridges$When")) [] := Or.inl ⟨rfl, q1096⟩
theorem cdX10_word : ZCode yX10_word cX10_word 2 none [] := Or.inl ⟨rfl, q890⟩
theorem cdX10_wrong : ZCode yX10_wrong cX10_wrong 1 (some (.object "SillBridges$Bad")) [] := Or.inl ⟨rfl, q860⟩
theorem cdX11_beyond : ZCode yX11_beyond cX11_beyond 2 (some .int) [] := Or.inl ⟨rfl, q1304⟩
theorem cdX11_init : ZCode yX11_init cX11_init 7 none [] := Or.inl ⟨rfl, q908⟩
theorem cdX11_pull : ZCode yX11_pull cX11_pull 1 (some .int) [] := Or.inl ⟨rfl, q1207⟩
theorem cdX12_init : ZCode yX12_init cX12_init 5 none [] := Or.inl ⟨rfl, q973⟩
theorem cdX13_init : ZCode yX13_init cX13_init 5 none [] := Or.inl ⟨rfl, q1013⟩
theorem cdX14_go : ZCode yX14_go cX14_go 2 none [] := Or.inl ⟨rfl, q1503⟩
theorem cdX14_init : ZCode yX14_init cX14_init 1 none [] := Or.inl ⟨rfl, q1059⟩
theorem cdX15_add : ZCode yX15_add cX15_add 3 none [] := Or.inl ⟨rfl, q1177⟩
theorem cdX15_all : ZCode yX15_all cX15_all 3 none [] := Or.inl ⟨rfl, q1495⟩
theorem cdX15_init : ZCode yX15_init cX15_init 1 none [] := Or.inl ⟨rfl, q1056⟩
theorem cdX16_does : ZCode yX16_does cX16_does 3 none [] := Or.inl ⟨rfl, q1532⟩
theorem cdX16_init : ZCode yX16_init cX16_init 2 none [] := Or.inl ⟨rfl, q1053⟩
theorem cdX17_does : ZCode yX17_does cX17_does 3 none [] := Or.inl ⟨rfl, q1539⟩
theorem cdX17_init : ZCode yX17_init cX17_init 4 none [] := Or.inl ⟨rfl, q1106⟩
theorem cdX18_does : ZCode yX18_does cX18_does 2 none [] := Or.inl ⟨rfl, q1509⟩
theorem cdX18_init : ZCode yX18_init cX18_init 5 none [] := Or.inl ⟨rfl, q1139⟩
theorem cdX19_does : ZCode yX19_does cX19_does 2 none [] := Or.inl ⟨rfl, q1536⟩
theorem cdX19_init : ZCode yX19_init cX19_init 1 none [] := Or.inl ⟨rfl, q1169⟩
theorem cdX1_init : ZCode yX1_init cX1_init 1 none [] := Or.inl ⟨rfl, q190⟩
theorem cdX2_at : ZCode yX2_at cX2_at 3 (some (.object "SillBridges$Bad")) [] := Or.inl ⟨rfl, q815⟩
theorem cdX2_init : ZCode yX2_init cX2_init 1 none [] := Or.inl ⟨rfl, q238⟩
theorem cdX3_by : ZCode yX3_by cX3_by 2 (some (.object "SillBridges$Refused")) [] := Or.inl ⟨rfl, q626⟩
theorem cdX3_init : ZCode yX3_init cX3_init 1 none [] := Or.inl ⟨rfl, q278⟩
theorem cdX4_be : ZCode yX4_be cX4_be 2 none [] := Or.inl ⟨rfl, q1575⟩
theorem cdX4_init : ZCode yX4_init cX4_init 1 none [] := Or.inl ⟨rfl, q290⟩
theorem cdX5_be : ZCode yX5_be cX5_be 2 none [] := Or.inl ⟨rfl, q1350⟩
theorem cdX5_be_2 : ZCode yX5_be_2 cX5_be_2 4 none [] := Or.inl ⟨rfl, q1375⟩
theorem cdX5_begin : ZCode yX5_begin cX5_begin 3 none [] := Or.inl ⟨rfl, q1040⟩
theorem cdX5_canLift : ZCode yX5_canLift cX5_canLift 3 (some .boolean) [] := Or.inl ⟨rfl, q1295⟩
theorem cdX5_carried : ZCode yX5_carried cX5_carried 3 (some .int) [] := Or.inl ⟨rfl, q1240⟩
theorem cdX5_hangs : ZCode yX5_hangs cX5_hangs 2 (some .boolean) [] := Or.inl ⟨rfl, q1269⟩
theorem cdX5_hangs_2 : ZCode yX5_hangs_2 cX5_hangs_2 6 (some .boolean) [] := Or.inl ⟨rfl, q1273⟩
theorem cdX5_heavy : ZCode yX5_heavy cX5_heavy 3 (some .int) [] := Or.inl ⟨rfl, q1308⟩
theorem cdX5_init : ZCode yX5_init cX5_init 1 none [] := Or.inl ⟨rfl, q296⟩
theorem cdX5_isDone : ZCode yX5_isDone cX5_isDone 2 (some .boolean) [] := Or.inl ⟨rfl, q1194⟩
theorem cdX5_moves : ZCode yX5_moves cX5_moves 6 (some .boolean) [] := Or.inl ⟨rfl, q1291⟩
theorem cdX5_number : ZCode yX5_number cX5_number 3 (some .int) [] := Or.inl ⟨rfl, q1363⟩
theorem cdX5_placeOf : ZCode yX5_placeOf cX5_placeOf 2 (some .int) [] := Or.inl ⟨rfl, q1252⟩
theorem cdX5_weight : ZCode yX5_weight cX5_weight 4 (some .int) [] := Or.inl ⟨rfl, q1260⟩
theorem cdX5_why : ZCode yX5_why cX5_why 6 (some .int) [] := Or.inl ⟨rfl, q1300⟩
theorem cdX6_bridgeNamed : ZCode yX6_bridgeNamed cX6_bridgeNamed 4 (some .int) [] := Or.inl ⟨rfl, q874⟩
theorem cdX6_init : ZCode yX6_init cX6_init 1 none [] := Or.inl ⟨rfl, q302⟩
theorem cdX6_isTaken : ZCode yX6_isTaken cX6_isTaken 3 (some .boolean) [] := Or.inl ⟨rfl, q866⟩
theorem cdX6_loadNamed : ZCode yX6_loadNamed cX6_loadNamed 4 (some .int) [] := Or.inl ⟨rfl, q882⟩
theorem cdX6_personNamed : ZCode yX6_personNamed cX6_personNamed 4 (some .int) [] := Or.inl ⟨rfl, q878⟩
theorem cdX6_placeNamed : ZCode yX6_placeNamed cX6_placeNamed 4 (some .int) [] := Or.inl ⟨rfl, q870⟩
theorem cdX7_add : ZCode yX7_add cX7_add 5 none [] := Or.inl ⟨rfl, q1359⟩
theorem cdX7_does : ZCode yX7_does cX7_does 3 (some .boolean) [] := Or.inl ⟨rfl, q1379⟩
theorem cdX7_init : ZCode yX7_init cX7_init 1 none [] := Or.inl ⟨rfl, q408⟩
theorem cdX7_minutes : ZCode yX7_minutes cX7_minutes 3 (some .int) [] := Or.inl ⟨rfl, q1389⟩
theorem cdX7_tell : ZCode yX7_tell cX7_tell 5 none [] := Or.inl ⟨rfl, q1355⟩
theorem cdX7_toll : ZCode yX7_toll cX7_toll 3 (some .int) [] := Or.inl ⟨rfl, q1385⟩
theorem cdX8_begin : ZCode yX8_begin cX8_begin 3 none [] := Or.inl ⟨rfl, q1488⟩
theorem cdX8_draw : ZCode yX8_draw cX8_draw 1 (some .int) [] := Or.inl ⟨rfl, q1528⟩
theorem cdX8_finish : ZCode yX8_finish cX8_finish 1 none [] := Or.inl ⟨rfl, q1518⟩
theorem cdX8_init : ZCode yX8_init cX8_init 1 none [] := Or.inl ⟨rfl, q438⟩
theorem cdX8_move : ZCode yX8_move cX8_move 7 none [] := Or.inl ⟨rfl, q1513⟩
theorem cdX8_slips : ZCode yX8_slips cX8_slips 5 (some .boolean) [] := Or.inl ⟨rfl, q1524⟩
theorem cdX9_aBridge : ZCode yX9_aBridge cX9_aBridge 6 (some .boolean) [] := Or.inl ⟨rfl, q1872⟩
theorem cdX9_aLoad : ZCode yX9_aLoad cX9_aLoad 2 (some .boolean) [] := Or.inl ⟨rfl, q1896⟩
theorem cdX9_aMan : ZCode yX9_aMan cX9_aMan 2 (some .boolean) [] := Or.inl ⟨rfl, q1940⟩
theorem cdX9_aPerson : ZCode yX9_aPerson cX9_aPerson 2 (some .boolean) [] := Or.inl ⟨rfl, q1892⟩
theorem cdX9_aPlaceTo : ZCode yX9_aPlaceTo cX9_aPlaceTo 2 (some .boolean) [] := Or.inl ⟨rfl, q1880⟩
theorem cdX9_aStone : ZCode yX9_aStone cX9_aStone 1 (some .boolean) [] := Or.inl ⟨rfl, q1900⟩
theorem cdX9_aTest : ZCode yX9_aTest cX9_aTest 3 (some .boolean) [] := Or.inl ⟨rfl, q1948⟩
theorem cdX9_adds : ZCode yX9_adds cX9_adds 5 none [] := Or.inl ⟨rfl, q2120⟩
theorem cdX9_ahead : ZCode yX9_ahead cX9_ahead 2 none [] := Or.inl ⟨rfl, q1817⟩
theorem cdX9_areTwo : ZCode yX9_areTwo cX9_areTwo 3 (some .boolean) [] := Or.inl ⟨rfl, q2076⟩
theorem cdX9_at : ZCode yX9_at cX9_at 2 (some .int) [] := Or.inl ⟨rfl, q2000⟩
theorem cdX9_back : ZCode yX9_back cX9_back 1 (some .int) [] := Or.inl ⟨rfl, q2286⟩
theorem cdX9_begin : ZCode yX9_begin cX9_begin 1 (some .boolean) [] := Or.inl ⟨rfl, q2044⟩
theorem cdX9_begins : ZCode yX9_begins cX9_begins 4 (some .boolean) [] := Or.inl ⟨rfl, q1813⟩
theorem cdX9_behindEnds : ZCode yX9_behindEnds cX9_behindEnds 5 (some .int) [] := Or.inl ⟨rfl, q2258⟩
theorem cdX9_bestStone : ZCode yX9_bestStone cX9_bestStone 6 (some .int) [] := Or.inl ⟨rfl, q2220⟩
theorem cdX9_both : ZCode yX9_both cX9_both 4 (some .boolean) [] := Or.inl ⟨rfl, q2072⟩
theorem cdX9_bottom : ZCode yX9_bottom cX9_bottom 1 (some .long) [] := Or.inl ⟨rfl, q1762⟩
theorem cdX9_bridge : ZCode yX9_bridge cX9_bridge 3 (some .int) [] := Or.inl ⟨rfl, q1964⟩
theorem cdX9_burden : ZCode yX9_burden cX9_burden 2 (some .int) [] := Or.inl ⟨rfl, q2028⟩
theorem cdX9_byteAt : ZCode yX9_byteAt cX9_byteAt 2 (some .int) [] := Or.inl ⟨rfl, q1821⟩
theorem cdX9_canDo : ZCode yX9_canDo cX9_canDo 1 (some .boolean) [] := Or.inl ⟨rfl, q2204⟩
theorem cdX9_canWith : ZCode yX9_canWith cX9_canWith 4 (some .boolean) [] := Or.inl ⟨rfl, q2216⟩
theorem cdX9_carries : ZCode yX9_carries cX9_carries 2 (some .int) [] := Or.inl ⟨rfl, q2004⟩
theorem cdX9_code : ZCode yX9_code cX9_code 3 (some .int) [] := Or.inl ⟨rfl, q2124⟩
theorem cdX9_comes : ZCode yX9_comes cX9_comes 4 none [] := Or.inl ⟨rfl, q2108⟩
theorem cdX9_copies : ZCode yX9_copies cX9_copies 4 none [] := Or.inl ⟨rfl, q2282⟩
theorem cdX9_costOf : ZCode yX9_costOf cX9_costOf 3 (some .int) [] := Or.inl ⟨rfl, q2140⟩
theorem cdX9_crosses : ZCode yX9_crosses cX9_crosses 3 none [] := Or.inl ⟨rfl, q2060⟩
theorem cdX9_cut : ZCode yX9_cut cX9_cut 3 (some .long) [] := Or.inl ⟨rfl, q1784⟩
theorem cdX9_doneOr : ZCode yX9_doneOr cX9_doneOr 2 (some .boolean) [] := Or.inl ⟨rfl, q2064⟩
theorem cdX9_drop : ZCode yX9_drop cX9_drop 2 (some .boolean) [] := Or.inl ⟨rfl, q2092⟩
theorem cdX9_drops : ZCode yX9_drops cX9_drops 3 (some .boolean) [] := Or.inl ⟨rfl, q2096⟩
theorem cdX9_fails : ZCode yX9_fails cX9_fails 2 (some .boolean) [] := Or.inl ⟨rfl, q1852⟩
theorem cdX9_fault : ZCode yX9_fault cX9_fault 2 (some .int) [] := Or.inl ⟨rfl, q1805⟩
theorem cdX9_feed : ZCode yX9_feed cX9_feed 6 (some .int) [] := Or.inl ⟨rfl, q1797⟩
theorem cdX9_fewest : ZCode yX9_fewest cX9_fewest 4 (some .int) [] := Or.inl ⟨rfl, q2172⟩
theorem cdX9_fewestMoves : ZCode yX9_fewestMoves cX9_fewestMoves 2 (some .int) [] := Or.inl ⟨rfl, q2148⟩
theorem cdX9_findHere : ZCode yX9_findHere cX9_findHere 4 (some .int) [] := Or.inl ⟨rfl, q1864⟩
theorem cdX9_first : ZCode yX9_first cX9_first 5 (some .int) [] := Or.inl ⟨rfl, q2152⟩
theorem cdX9_firstAt : ZCode yX9_firstAt cX9_firstAt 4 (some .int) [] := Or.inl ⟨rfl, q2164⟩
theorem cdX9_four : ZCode yX9_four cX9_four 3 none [] := Or.inl ⟨rfl, q1801⟩
theorem cdX9_free : ZCode yX9_free cX9_free 4 (some .int) [] := Or.inl ⟨rfl, q2196⟩
theorem cdX9_gives : ZCode yX9_gives cX9_gives 2 (some .int) [] := Or.inl ⟨rfl, q1924⟩
theorem cdX9_go : ZCode yX9_go cX9_go 3 (some .boolean) [] := Or.inl ⟨rfl, q2048⟩
theorem cdX9_goesOver : ZCode yX9_goesOver cX9_goesOver 4 (some .boolean) [] := Or.inl ⟨rfl, q2052⟩
theorem cdX9_hangs : ZCode yX9_hangs cX9_hangs 2 (some .int) [] := Or.inl ⟨rfl, q2032⟩
theorem cdX9_hangsBy : ZCode yX9_hangsBy cX9_hangsBy 5 (some .boolean) [] := Or.inl ⟨rfl, q2036⟩
theorem cdX9_holdsNow : ZCode yX9_holdsNow cX9_holdsNow 4 (some .boolean) [] := Or.inl ⟨rfl, q2254⟩
theorem cdX9_inWords : ZCode yX9_inWords cX9_inWords 7 (some .int) [] := Or.inl ⟨rfl, q1842⟩
theorem cdX9_init : ZCode yX9_init cX9_init 1 none [] := Or.inl ⟨rfl, q1585⟩
theorem cdX9_is : ZCode yX9_is cX9_is 2 (some .boolean) [] := Or.inl ⟨rfl, q1773⟩
theorem cdX9_isBridge : ZCode yX9_isBridge cX9_isBridge 2 (some .boolean) [] := Or.inl ⟨rfl, q1968⟩
theorem cdX9_isDigit : ZCode yX9_isDigit cX9_isDigit 1 (some .boolean) [] := Or.inl ⟨rfl, q1827⟩
theorem cdX9_isDone : ZCode yX9_isDone cX9_isDone 3 (some .boolean) [] := Or.inl ⟨rfl, q1960⟩
theorem cdX9_isDoneAt : ZCode yX9_isDoneAt cX9_isDoneAt 2 (some .boolean) [] := Or.inl ⟨rfl, q2144⟩
theorem cdX9_isFree : ZCode yX9_isFree cX9_isFree 1 (some .boolean) [] := Or.inl ⟨rfl, q1860⟩
theorem cdX9_isFrom : ZCode yX9_isFrom cX9_isFrom 6 (some .boolean) [] := Or.inl ⟨rfl, q2228⟩
theorem cdX9_isLoad : ZCode yX9_isLoad cX9_isLoad 2 (some .boolean) [] := Or.inl ⟨rfl, q2016⟩
theorem cdX9_isName : ZCode yX9_isName cX9_isName 2 (some .boolean) [] := Or.inl ⟨rfl, q1856⟩
theorem cdX9_isPerson : ZCode yX9_isPerson cX9_isPerson 2 (some .boolean) [] := Or.inl ⟨rfl, q1984⟩
theorem cdX9_isPlace : ZCode yX9_isPlace cX9_isPlace 2 (some .boolean) [] := Or.inl ⟨rfl, q1996⟩
theorem cdX9_isSign : ZCode yX9_isSign cX9_isSign 2 (some .boolean) [] := Or.inl ⟨rfl, q1908⟩
theorem cdX9_isSmall : ZCode yX9_isSmall cX9_isSmall 1 (some .boolean) [] := Or.inl ⟨rfl, q1824⟩
theorem cdX9_isTray : ZCode yX9_isTray cX9_isTray 1 (some .boolean) [] := Or.inl ⟨rfl, q1769⟩
theorem cdX9_keepsGood : ZCode yX9_keepsGood cX9_keepsGood 6 none [] := Or.inl ⟨rfl, q2188⟩
theorem cdX9_laysMoves : ZCode yX9_laysMoves cX9_laysMoves 5 none [] := Or.inl ⟨rfl, q2116⟩
theorem cdX9_least : ZCode yX9_least cX9_least 2 (some .int) [] := Or.inl ⟨rfl, q2100⟩
theorem cdX9_leastBy : ZCode yX9_leastBy cX9_leastBy 5 (some .int) [] := Or.inl ⟨rfl, q2104⟩
theorem cdX9_leaves : ZCode yX9_leaves cX9_leaves 3 none [] := Or.inl ⟨rfl, q2156⟩
theorem cdX9_leavesLess : ZCode yX9_leavesLess cX9_leavesLess 5 (some .boolean) [] := Or.inl ⟨rfl, q2160⟩
theorem cdX9_lessens : ZCode yX9_lessens cX9_lessens 7 (some .boolean) [] := Or.inl ⟨rfl, q2136⟩
theorem cdX9_lift : ZCode yX9_lift cX9_lift 3 (some .boolean) [] := Or.inl ⟨rfl, q2084⟩
theorem cdX9_lifts : ZCode yX9_lifts cX9_lifts 3 (some .boolean) [] := Or.inl ⟨rfl, q2088⟩
theorem cdX9_load : ZCode yX9_load cX9_load 4 (some .int) [] := Or.inl ⟨rfl, q2012⟩
theorem cdX9_loadOf : ZCode yX9_loadOf cX9_loadOf 3 (some .int) [] := Or.inl ⟨rfl, q2008⟩
theorem cdX9_lost : ZCode yX9_lost cX9_lost 3 (some .int) [] := Or.inl ⟨rfl, q2184⟩
theorem cdX9_mark : ZCode yX9_mark cX9_mark 1 (some .int) [] := Or.inl ⟨rfl, q2278⟩
theorem cdX9_most : ZCode yX9_most cX9_most 6 (some .int) [] := Or.inl ⟨rfl, q2180⟩
theorem cdX9_moved : ZCode yX9_moved cX9_moved 4 (some .int) [] := Or.inl ⟨rfl, q2128⟩
theorem cdX9_nameHere : ZCode yX9_nameHere cX9_nameHere 4 (some .long) [] := Or.inl ⟨rfl, q1868⟩
theorem cdX9_needed : ZCode yX9_needed cX9_needed 3 (some .int) [] := Or.inl ⟨rfl, q2200⟩
theorem cdX9_newOne : ZCode yX9_newOne cX9_newOne 4 (some .boolean) [] := Or.inl ⟨rfl, q1848⟩
theorem cdX9_number : ZCode yX9_number cX9_number 4 (some .boolean) [] := Or.inl ⟨rfl, q1888⟩
theorem cdX9_odds : ZCode yX9_odds cX9_odds 5 (some .boolean) [] := Or.inl ⟨rfl, q2270⟩
theorem cdX9_ofBridge : ZCode yX9_ofBridge cX9_ofBridge 3 (some .int) [] := Or.inl ⟨rfl, q1976⟩
theorem cdX9_ofPerson : ZCode yX9_ofPerson cX9_ofPerson 3 (some .int) [] := Or.inl ⟨rfl, q1916⟩
theorem cdX9_oldOne : ZCode yX9_oldOne cX9_oldOne 4 (some .boolean) [] := Or.inl ⟨rfl, q1884⟩
theorem cdX9_opens : ZCode yX9_opens cX9_opens 4 none [] := Or.inl ⟨rfl, q2132⟩
theorem cdX9_orNone : ZCode yX9_orNone cX9_orNone 2 (some .int) [] := Or.inl ⟨rfl, q1988⟩
theorem cdX9_order : ZCode yX9_order cX9_order 3 (some .boolean) [] := Or.inl ⟨rfl, q1936⟩
theorem cdX9_orderName : ZCode yX9_orderName cX9_orderName 4 (some .boolean) [] := Or.inl ⟨rfl, q1944⟩
theorem cdX9_orders : ZCode yX9_orders cX9_orders 4 (some .int) [] := Or.inl ⟨rfl, q1928⟩
theorem cdX9_ordersMove : ZCode yX9_ordersMove cX9_ordersMove 5 (some .boolean) [] := Or.inl ⟨rfl, q2241⟩
theorem cdX9_ordersOver : ZCode yX9_ordersOver cX9_ordersOver 5 (some .boolean) [] := Or.inl ⟨rfl, q2245⟩
theorem cdX9_person : ZCode yX9_person cX9_person 3 (some .int) [] := Or.inl ⟨rfl, q1980⟩
theorem cdX9_pour : ZCode yX9_pour cX9_pour 8 (some .boolean) [] := Or.inl ⟨rfl, q1793⟩
theorem cdX9_put : ZCode yX9_put cX9_put 3 (some .boolean) [] := Or.inl ⟨rfl, q2040⟩
theorem cdX9_ran : ZCode yX9_ran cX9_ran 2 (some .int) [] := Or.inl ⟨rfl, q2262⟩
theorem cdX9_ranAt : ZCode yX9_ranAt cX9_ranAt 2 (some .int) [] := Or.inl ⟨rfl, q2266⟩
theorem cdX9_reach : ZCode yX9_reach cX9_reach 4 (some .int) [] := Or.inl ⟨rfl, q2168⟩
theorem cdX9_read : ZCode yX9_read cX9_read 3 (some .long) [] := Or.inl ⟨rfl, q1788⟩
theorem cdX9_refuse : ZCode yX9_refuse cX9_refuse 2 (some .int) [] := Or.inl ⟨rfl, q1833⟩
theorem cdX9_rope : ZCode yX9_rope cX9_rope 11 (some .int) [] := Or.inl ⟨rfl, q2224⟩
theorem cdX9_run : ZCode yX9_run cX9_run 3 (some .int) [] := Or.inl ⟨rfl, q2233⟩
theorem cdX9_runs : ZCode yX9_runs cX9_runs 6 none [] := Or.inl ⟨rfl, q2237⟩
theorem cdX9_safe : ZCode yX9_safe cX9_safe 4 (some .int) [] := Or.inl ⟨rfl, q2192⟩
theorem cdX9_slips : ZCode yX9_slips cX9_slips 2 (some .boolean) [] := Or.inl ⟨rfl, q2249⟩
theorem cdX9_starts : ZCode yX9_starts cX9_starts 2 none [] := Or.inl ⟨rfl, q2112⟩
theorem cdX9_startsOver : ZCode yX9_startsOver cX9_startsOver 2 none [] := Or.inl ⟨rfl, q1912⟩
theorem cdX9_states : ZCode yX9_states cX9_states 1 (some .int) [] := Or.inl ⟨rfl, q2176⟩
theorem cdX9_status : ZCode yX9_status cX9_status 1 (some .int) [] := Or.inl ⟨rfl, q1754⟩
theorem cdX9_staysSo : ZCode yX9_staysSo cX9_staysSo 2 none [] := Or.inl ⟨rfl, q2068⟩
theorem cdX9_step : ZCode yX9_step cX9_step 7 (some .boolean) [] := Or.inl ⟨rfl, q1932⟩
theorem cdX9_stone : ZCode yX9_stone cX9_stone 2 (some .int) [] := Or.inl ⟨rfl, q2208⟩
theorem cdX9_stoneAt : ZCode yX9_stoneAt cX9_stoneAt 5 (some .int) [] := Or.inl ⟨rfl, q2212⟩
theorem cdX9_stones : ZCode yX9_stones cX9_stones 2 (some .int) [] := Or.inl ⟨rfl, q1992⟩
theorem cdX9_taken : ZCode yX9_taken cX9_taken 2 (some .int) [] := Or.inl ⟨rfl, q1920⟩
theorem cdX9_takesNow : ZCode yX9_takesNow cX9_takesNow 2 none [] := Or.inl ⟨rfl, q1956⟩
theorem cdX9_takesOf : ZCode yX9_takesOf cX9_takesOf 2 (some .int) [] := Or.inl ⟨rfl, q1972⟩
theorem cdX9_tellsBy : ZCode yX9_tellsBy cX9_tellsBy 11 (some .boolean) [] := Or.inl ⟨rfl, q2274⟩
theorem cdX9_told : ZCode yX9_told cX9_told 2 (some .int) [] := Or.inl ⟨rfl, q1952⟩
theorem cdX9_top : ZCode yX9_top cX9_top 1 (some .long) [] := Or.inl ⟨rfl, q1758⟩
theorem cdX9_town : ZCode yX9_town cX9_town 4 (some .int) [] := Or.inl ⟨rfl, q1809⟩
theorem cdX9_townPart : ZCode yX9_townPart cX9_townPart 2 (some .boolean) [] := Or.inl ⟨rfl, q1837⟩
theorem cdX9_tray : ZCode yX9_tray cX9_tray 5 (some .boolean) [] := Or.inl ⟨rfl, q1766⟩
theorem cdX9_wantSign : ZCode yX9_wantSign cX9_wantSign 2 (some .boolean) [] := Or.inl ⟨rfl, q1904⟩
theorem cdX9_wantWord : ZCode yX9_wantWord cX9_wantWord 3 (some .boolean) [] := Or.inl ⟨rfl, q1876⟩
theorem cdX9_weight : ZCode yX9_weight cX9_weight 2 (some .int) [] := Or.inl ⟨rfl, q2020⟩
theorem cdX9_weightAt : ZCode yX9_weightAt cX9_weightAt 4 (some .int) [] := Or.inl ⟨rfl, q2024⟩
theorem cdX9_why : ZCode yX9_why cX9_why 4 (some .int) [] := Or.inl ⟨rfl, q2080⟩
theorem cdX9_whyNot : ZCode yX9_whyNot cX9_whyNot 6 (some .int) [] := Or.inl ⟨rfl, q2056⟩
theorem cdX9_write : ZCode yX9_write cX9_write 6 (some .boolean) [] := Or.inl ⟨rfl, q1777⟩
theorem cdX9_wrongPlace : ZCode yX9_wrongPlace cX9_wrongPlace 3 (some .int) [] := Or.inl ⟨rfl, q1781⟩
theorem vvL_13 : ZV RL 13 RX0 yX0_status 0 := ⟨Or.inl q574, q575, q576, by decide, by decide⟩
theorem vvL_17 : ZV RL 17 RX9 yX9_status 0 := ⟨Or.inl q1751, q1752, q1753, by decide, by decide⟩
theorem vvL_18 : ZV RL 18 RX0 yX0_top 0 := ⟨Or.inl q578, q579, q580, by decide, by decide⟩
theorem vvL_22 : ZV RL 22 RX9 yX9_top 0 := ⟨Or.inl q1755, q1756, q1757, by decide, by decide⟩
theorem vvL_23 : ZV RL 23 RX0 yX0_bottom 0 := ⟨Or.inl q582, q583, q584, by decide, by decide⟩
theorem vvL_26 : ZV RL 26 RX9 yX9_bottom 0 := ⟨Or.inl q1759, q1760, q1761, by decide, by decide⟩
theorem vvL_27 : ZV RL 27 RX0 yX0_tray 3 := ⟨Or.inl q586, q587, q588, by decide, by decide⟩
theorem vvL_31 : ZV RL 31 RX9 yX9_tray 3 := ⟨Or.inl q1763, q1764, q1765, by decide, by decide⟩
theorem vvL_34 : ZV RL 34 RX0 yX0_write 3 := ⟨Or.inl q635, q636, q637, by decide, by decide⟩
theorem vvL_38 : ZV RL 38 RX9 yX9_write 3 := ⟨Or.inl q1774, q1775, q1776, by decide, by decide⟩
theorem vvL_39 : ZV RL 39 RX0 yX0_read 2 := ⟨Or.inl q669, q670, q671, by decide, by decide⟩
theorem vvL_43 : ZV RL 43 RX9 yX9_read 2 := ⟨Or.inl q1785, q1786, q1787, by decide, by decide⟩
theorem vvL_44 : ZV RL 44 RX0 yX0_pour 5 := ⟨Or.inl q681, q682, q683, by decide, by decide⟩
theorem vvL_48 : ZV RL 48 RX9 yX9_pour 5 := ⟨Or.inl q1790, q1791, q1792, by decide, by decide⟩
theorem vvL_49 : ZV RL 49 RX0 yX0_feed 5 := ⟨Or.inl q692, q693, q694, by decide, by decide⟩
theorem vvL_53 : ZV RL 53 RX9 yX9_feed 5 := ⟨Or.inl q1794, q1795, q1796, by decide, by decide⟩
theorem vvL_54 : ZV RL 54 RX0 yX0_town 1 := ⟨Or.inl q700, q701, q702, by decide, by decide⟩
theorem vvL_58 : ZV RL 58 RX9 yX9_town 1 := ⟨Or.inl q1806, q1807, q1808, by decide, by decide⟩
theorem vvL_59 : ZV RL 59 RX0 yX0_orders 1 := ⟨Or.inl q1045, q1046, q1047, by decide, by decide⟩
theorem vvL_62 : ZV RL 62 RX9 yX9_orders 1 := ⟨Or.inl q1925, q1926, q1927, by decide, by decide⟩
theorem vvL_63 : ZV RL 63 RX0 yX0_fault 1 := ⟨Or.inl q1179, q1180, q1181, by decide, by decide⟩
theorem vvL_66 : ZV RL 66 RX9 yX9_fault 1 := ⟨Or.inl q1802, q1803, q1804, by decide, by decide⟩
theorem vvL_67 : ZV RL 67 RX0 yX0_told 1 := ⟨Or.inl q1183, q1184, q1185, by decide, by decide⟩
theorem vvL_70 : ZV RL 70 RX9 yX9_told 1 := ⟨Or.inl q1949, q1950, q1951, by decide, by decide⟩
theorem vvL_71 : ZV RL 71 RX0 yX0_bridge 2 := ⟨Or.inl q1195, q1196, q1197, by decide, by decide⟩
theorem vvL_75 : ZV RL 75 RX9 yX9_bridge 2 := ⟨Or.inl q1961, q1962, q1963, by decide, by decide⟩
theorem vvL_76 : ZV RL 76 RX0 yX0_person 2 := ⟨Or.inl q1208, q1209, q1210, by decide, by decide⟩
theorem vvL_79 : ZV RL 79 RX9 yX9_person 2 := ⟨Or.inl q1977, q1978, q1979, by decide, by decide⟩
theorem vvL_80 : ZV RL 80 RX0 yX0_stones 1 := ⟨Or.inl q1221, q1222, q1223, by decide, by decide⟩
theorem vvL_83 : ZV RL 83 RX9 yX9_stones 1 := ⟨Or.inl q1989, q1990, q1991, by decide, by decide⟩
theorem vvL_84 : ZV RL 84 RX0 yX0_at 1 := ⟨Or.inl q1229, q1230, q1231, by decide, by decide⟩
theorem vvL_87 : ZV RL 87 RX9 yX9_at 1 := ⟨Or.inl q1997, q1998, q1999, by decide, by decide⟩
theorem vvL_88 : ZV RL 88 RX0 yX0_carries 1 := ⟨Or.inl q1233, q1234, q1235, by decide, by decide⟩
theorem vvL_91 : ZV RL 91 RX9 yX9_carries 1 := ⟨Or.inl q2001, q2002, q2003, by decide, by decide⟩
theorem vvL_92 : ZV RL 92 RX0 yX0_load 2 := ⟨Or.inl q1241, q1242, q1243, by decide, by decide⟩
theorem vvL_95 : ZV RL 95 RX9 yX9_load 2 := ⟨Or.inl q2009, q2010, q2011, by decide, by decide⟩
theorem vvL_96 : ZV RL 96 RX0 yX0_weight 1 := ⟨Or.inl q1253, q1254, q1255, by decide, by decide⟩
theorem vvL_99 : ZV RL 99 RX9 yX9_weight 1 := ⟨Or.inl q2017, q2018, q2019, by decide, by decide⟩
theorem vvL_100 : ZV RL 100 RX0 yX0_hangs 1 := ⟨Or.inl q1262, q1263, q1264, by decide, by decide⟩
theorem vvL_103 : ZV RL 103 RX9 yX9_hangs 1 := ⟨Or.inl q2029, q2030, q2031, by decide, by decide⟩
theorem vvL_104 : ZV RL 104 RX0 yX0_put_2 2 := ⟨Or.inl q1276, q1277, q1278, by decide, by decide⟩
theorem vvL_108 : ZV RL 108 RX9 yX9_put 2 := ⟨Or.inl q2037, q2038, q2039, by decide, by decide⟩
theorem vvL_109 : ZV RL 109 RX0 yX0_go 2 := ⟨Or.inl q1280, q1281, q1282, by decide, by decide⟩
theorem vvL_112 : ZV RL 112 RX9 yX9_go 2 := ⟨Or.inl q2045, q2046, q2047, by decide, by decide⟩
theorem vvL_113 : ZV RL 113 RX0 yX0_both 3 := ⟨Or.inl q1309, q1310, q1311, by decide, by decide⟩
theorem vvL_116 : ZV RL 116 RX9 yX9_both 3 := ⟨Or.inl q2069, q2070, q2071, by decide, by decide⟩
theorem vvL_117 : ZV RL 117 RX0 yX0_why 3 := ⟨Or.inl q1313, q1314, q1315, by decide, by decide⟩
theorem vvL_121 : ZV RL 121 RX9 yX9_why 3 := ⟨Or.inl q2077, q2078, q2079, by decide, by decide⟩
theorem vvL_122 : ZV RL 122 RX0 yX0_lift 2 := ⟨Or.inl q1318, q1319, q1320, by decide, by decide⟩
theorem vvL_125 : ZV RL 125 RX9 yX9_lift 2 := ⟨Or.inl q2081, q2082, q2083, by decide, by decide⟩
theorem vvL_126 : ZV RL 126 RX0 yX0_drop 1 := ⟨Or.inl q1322, q1323, q1324, by decide, by decide⟩
theorem vvL_130 : ZV RL 130 RX9 yX9_drop 1 := ⟨Or.inl q2089, q2090, q2091, by decide, by decide⟩
theorem vvL_131 : ZV RL 131 RX0 yX0_begin 0 := ⟨Or.inl q1326, q1327, q1328, by decide, by decide⟩
theorem vvL_135 : ZV RL 135 RX9 yX9_begin 0 := ⟨Or.inl q2041, q2042, q2043, by decide, by decide⟩
theorem vvL_136 : ZV RL 136 RX0 yX0_least 1 := ⟨Or.inl q1330, q1331, q1332, by decide, by decide⟩
theorem vvL_139 : ZV RL 139 RX9 yX9_least 1 := ⟨Or.inl q2097, q2098, q2099, by decide, by decide⟩
theorem vvL_140 : ZV RL 140 RX0 yX0_first 0 := ⟨Or.inl q1394, q1395, q1396, by decide, by decide⟩
theorem vvL_143 : ZV RL 143 RX9 yX9_first 0 := ⟨Or.inl q2149, q2150, q2151, by decide, by decide⟩
theorem vvL_144 : ZV RL 144 RX0 yX0_firstAt 2 := ⟨Or.inl q1406, q1407, q1408, by decide, by decide⟩
theorem vvL_147 : ZV RL 147 RX9 yX9_firstAt 2 := ⟨Or.inl q2161, q2162, q2163, by decide, by decide⟩
theorem vvL_148 : ZV RL 148 RX0 yX0_reach 1 := ⟨Or.inl q1410, q1411, q1412, by decide, by decide⟩
theorem vvL_151 : ZV RL 151 RX9 yX9_reach 1 := ⟨Or.inl q2165, q2166, q2167, by decide, by decide⟩
theorem vvL_152 : ZV RL 152 RX0 yX0_fewest 2 := ⟨Or.inl q1414, q1415, q1416, by decide, by decide⟩
theorem vvL_155 : ZV RL 155 RX9 yX9_fewest 2 := ⟨Or.inl q2169, q2170, q2171, by decide, by decide⟩
theorem vvL_156 : ZV RL 156 RX0 yX0_states 0 := ⟨Or.inl q1418, q1419, q1420, by decide, by decide⟩
theorem vvL_159 : ZV RL 159 RX9 yX9_states 0 := ⟨Or.inl q2173, q2174, q2175, by decide, by decide⟩
theorem vvL_160 : ZV RL 160 RX0 yX0_most 1 := ⟨Or.inl q1422, q1423, q1424, by decide, by decide⟩
theorem vvL_163 : ZV RL 163 RX9 yX9_most 1 := ⟨Or.inl q2177, q2178, q2179, by decide, by decide⟩
theorem vvL_164 : ZV RL 164 RX0 yX0_lost 0 := ⟨Or.inl q1427, q1428, q1429, by decide, by decide⟩
theorem vvL_167 : ZV RL 167 RX9 yX9_lost 0 := ⟨Or.inl q2181, q2182, q2183, by decide, by decide⟩
theorem vvL_168 : ZV RL 168 RX0 yX0_safe 0 := ⟨Or.inl q1439, q1440, q1441, by decide, by decide⟩
theorem vvL_171 : ZV RL 171 RX9 yX9_safe 0 := ⟨Or.inl q2189, q2190, q2191, by decide, by decide⟩
theorem vvL_172 : ZV RL 172 RX0 yX0_free 0 := ⟨Or.inl q1443, q1444, q1445, by decide, by decide⟩
theorem vvL_175 : ZV RL 175 RX9 yX9_free 0 := ⟨Or.inl q2193, q2194, q2195, by decide, by decide⟩
theorem vvL_176 : ZV RL 176 RX0 yX0_needed 0 := ⟨Or.inl q1447, q1448, q1449, by decide, by decide⟩
theorem vvL_179 : ZV RL 179 RX9 yX9_needed 0 := ⟨Or.inl q2197, q2198, q2199, by decide, by decide⟩
theorem vvL_180 : ZV RL 180 RX0 yX0_stone 1 := ⟨Or.inl q1455, q1456, q1457, by decide, by decide⟩
theorem vvL_183 : ZV RL 183 RX9 yX9_stone 1 := ⟨Or.inl q2205, q2206, q2207, by decide, by decide⟩
theorem vvL_184 : ZV RL 184 RX0 yX0_bestStone 1 := ⟨Or.inl q1463, q1464, q1465, by decide, by decide⟩
theorem vvL_187 : ZV RL 187 RX9 yX9_bestStone 1 := ⟨Or.inl q2217, q2218, q2219, by decide, by decide⟩
theorem vvL_188 : ZV RL 188 RX0 yX0_rope 3 := ⟨Or.inl q1467, q1468, q1469, by decide, by decide⟩
theorem vvL_191 : ZV RL 191 RX9 yX9_rope 3 := ⟨Or.inl q2221, q2222, q2223, by decide, by decide⟩
theorem vvL_192 : ZV RL 192 RX0 yX0_run 1 := ⟨Or.inl q1477, q1478, q1479, by decide, by decide⟩
theorem vvL_195 : ZV RL 195 RX9 yX9_run 1 := ⟨Or.inl q2230, q2231, q2232, by decide, by decide⟩
theorem vvL_196 : ZV RL 196 RX0 yX0_ran 1 := ⟨Or.inl q1545, q1546, q1547, by decide, by decide⟩
theorem vvL_199 : ZV RL 199 RX9 yX9_ran 1 := ⟨Or.inl q2259, q2260, q2261, by decide, by decide⟩
theorem vvL_200 : ZV RL 200 RX0 yX0_ranAt 1 := ⟨Or.inl q1550, q1551, q1552, by decide, by decide⟩
theorem vvL_203 : ZV RL 203 RX9 yX9_ranAt 1 := ⟨Or.inl q2263, q2264, q2265, by decide, by decide⟩
theorem vvL_204 : ZV RL 204 RX0 yX0_odds 2 := ⟨Or.inl q1554, q1555, q1556, by decide, by decide⟩
theorem vvL_207 : ZV RL 207 RX9 yX9_odds 2 := ⟨Or.inl q2267, q2268, q2269, by decide, by decide⟩
theorem vvL_208 : ZV RL 208 RX0 yX0_mark 0 := ⟨Or.inl q1568, q1569, q1570, by decide, by decide⟩
theorem vvL_211 : ZV RL 211 RX9 yX9_mark 0 := ⟨Or.inl q2275, q2276, q2277, by decide, by decide⟩
theorem vvL_212 : ZV RL 212 RX0 yX0_back 0 := ⟨Or.inl q1577, q1578, q1579, by decide, by decide⟩
theorem vvL_215 : ZV RL 215 RX9 yX9_back 0 := ⟨Or.inl q2283, q2284, q2285, by decide, by decide⟩
theorem vvX0_116 : ZV RX0 116 RX3 yX3_by 1 := ⟨Or.inl q623, q624, q625, by decide, by decide⟩
theorem vvX0_135 : ZV RX0 135 RX0 yX0_want 2 := ⟨Or.inl q619, q621, qs1, by decide, by decide⟩
theorem vvX0_147 : ZV RX0 147 RX0 yX0_no 1 := ⟨Or.inl q630, q632, qs2, by decide, by decide⟩
theorem vvX0_151 : ZV RX0 151 RX0 yX0_on 1 := ⟨Or.inl q658, q660, qs3, by decide, by decide⟩
theorem vvX0_167 : ZV RX0 167 RX0 yX0_none 1 := ⟨Or.inl q677, q679, qs4, by decide, by decide⟩
theorem vvX0_188 : ZV RX0 188 RX0 yX0_town_2 0 := ⟨Or.inl q1073, q1075, qs27, by decide, by decide⟩
theorem vvX0_212 : ZV RX0 212 RX0 yX0_lay 1 := ⟨Or.inl q696, q698, qs5, by decide, by decide⟩
theorem vvX0_222 : ZV RX0 222 RX0 yX0_opens 2 := ⟨Or.inl q704, q706, qs6, by decide, by decide⟩
theorem vvX0_232 : ZV RX0 232 RX10 yX10_town 1 := ⟨Or.inl q751, q752, q753, by decide, by decide⟩
theorem vvX0_235 : ZV RX0 235 RX5 yX5_begin 1 := ⟨Or.inl q1037, q1038, q1039, by decide, by decide⟩
theorem vvX0_242 : ZV RX0 242 RX0 yX0_faulty 1 := ⟨Or.inl q1041, q1043, qs26, by decide, by decide⟩
theorem vvX0_250 : ZV RX0 250 RX10 yX10_orders 2 := ⟨Or.inl q1077, q1078, q1079, by decide, by decide⟩
theorem vvX0_258 : ZV RX0 258 RX5 yX5_isDone 0 := ⟨Or.inl q1191, q1192, q1193, by decide, by decide⟩
theorem vvX0_262 : ZV RX0 262 RX0 yX0_isBridge 1 := ⟨Or.inl q1199, q1201, qs37, by decide, by decide⟩
theorem vvX0_300 : ZV RX0 300 RX11 yX11_pull 0 := ⟨Or.inl q1204, q1205, q1206, by decide, by decide⟩
theorem vvX0_304 : ZV RX0 304 RX0 yX0_isPerson 1 := ⟨Or.inl q1212, q1214, qs38, by decide, by decide⟩
theorem vvX0_321 : ZV RX0 321 RX0 yX0_answer 1 := ⟨Or.inl q1217, q1219, qs39, by decide, by decide⟩
theorem vvX0_332 : ZV RX0 332 RX0 yX0_isPlace 1 := ⟨Or.inl q1225, q1227, qs40, by decide, by decide⟩
theorem vvX0_341 : ZV RX0 341 RX5 yX5_carried 1 := ⟨Or.inl q1237, q1238, q1239, by decide, by decide⟩
theorem vvX0_344 : ZV RX0 344 RX0 yX0_isLoad 1 := ⟨Or.inl q1245, q1247, qs41, by decide, by decide⟩
theorem vvX0_354 : ZV RX0 354 RX5 yX5_placeOf 1 := ⟨Or.inl q1249, q1250, q1251, by decide, by decide⟩
theorem vvX0_357 : ZV RX0 357 RX5 yX5_weight 1 := ⟨Or.inl q1257, q1258, q1259, by decide, by decide⟩
theorem vvX0_359 : ZV RX0 359 RX5 yX5_hangs 1 := ⟨Or.inl q1266, q1267, q1268, by decide, by decide⟩
theorem vvX0_362 : ZV RX0 362 RX5 yX5_moves 4 := ⟨Or.inl q1288, q1289, q1290, by decide, by decide⟩
theorem vvX0_365 : ZV RX0 365 RX0 yX0_does 5 := ⟨Or.inl q1284, q1286, qs43, by decide, by decide⟩
theorem vvX0_369 : ZV RX0 369 RX5 yX5_why 3 := ⟨Or.inl q1317, q1298, q1299, by decide, by decide⟩
theorem vvX0_375 : ZV RX0 375 RX5 yX5_be 1 := ⟨Or.inl q1347, q1348, q1349, by decide, by decide⟩
theorem vvX0_379 : ZV RX0 379 RX7 yX7_tell 1 := ⟨Or.inl q1352, q1353, q1354, by decide, by decide⟩
theorem vvX0_382 : ZV RX0 382 RX5 yX5_number 0 := ⟨Or.inl q1360, q1361, q1362, by decide, by decide⟩
theorem vvX0_384 : ZV RX0 384 RX0 yX0_see 2 := ⟨Or.inl q1364, q1366, qs48, by decide, by decide⟩
theorem vvX0_391 : ZV RX0 391 RX5 yX5_be_2 1 := ⟨Or.inl q1372, q1373, q1374, by decide, by decide⟩
theorem vvX0_393 : ZV RX0 393 RX7 yX7_does 2 := ⟨Or.inl q1376, q1377, q1378, by decide, by decide⟩
theorem vvX0_396 : ZV RX0 396 RX0 yX0_beginAll 0 := ⟨Or.inl q1343, q1345, qs46, by decide, by decide⟩
theorem vvX0_399 : ZV RX0 399 RX0 yX0_spread 1 := ⟨Or.inl q1368, q1370, qs49, by decide, by decide⟩
theorem vvX0_402 : ZV RX0 402 RX0 yX0_findAll 0 := ⟨Or.inl q1339, q1341, qs45, by decide, by decide⟩
theorem vvX0_408 : ZV RX0 408 RX7 yX7_toll 2 := ⟨Or.inl q1382, q1383, q1384, by decide, by decide⟩
theorem vvX0_411 : ZV RX0 411 RX7 yX7_minutes 2 := ⟨Or.inl q1386, q1387, q1388, by decide, by decide⟩
theorem vvX0_416 : ZV RX0 416 RX0 yX0_leastCost 1 := ⟨Or.inl q1335, q1337, qs44, by decide, by decide⟩
theorem vvX0_420 : ZV RX0 420 RX0 yX0_findDone 0 := ⟨Or.inl q1390, q1392, qs50, by decide, by decide⟩
theorem vvX0_423 : ZV RX0 423 RX0 yX0_isGood 2 := ⟨Or.inl q1398, q1400, qs51, by decide, by decide⟩
theorem vvX0_426 : ZV RX0 426 RX0 yX0_step 2 := ⟨Or.inl q1402, q1404, qs52, by decide, by decide⟩
theorem vvX0_448 : ZV RX0 448 RX0 yX0_leadsToGood 1 := ⟨Or.inl q1435, q1437, qs54, by decide, by decide⟩
theorem vvX0_451 : ZV RX0 451 RX0 yX0_findGood 0 := ⟨Or.inl q1431, q1433, qs53, by decide, by decide⟩
theorem vvX0_463 : ZV RX0 463 RX0 yX0_canBe 3 := ⟨Or.inl q1451, q1453, qs55, by decide, by decide⟩
theorem vvX0_467 : ZV RX0 467 RX0 yX0_leastStone 1 := ⟨Or.inl q1459, q1461, qs56, by decide, by decide⟩
theorem vvX0_480 : ZV RX0 480 RX8 yX8_begin 2 := ⟨Or.inl q1485, q1486, q1487, by decide, by decide⟩
theorem vvX0_487 : ZV RX0 487 RX0 yX0_runOnce 1 := ⟨Or.inl q1481, q1483, qs57, by decide, by decide⟩
theorem vvX0_512 : ZV RX0 512 RX0 yX0_fraction 2 := ⟨Or.inl q1558, q1560, qs61, by decide, by decide⟩
theorem vvX0_519 : ZV RX0 519 RX4 yX4_be 1 := ⟨Or.inl q1572, q1573, q1574, by decide, by decide⟩
theorem vvX10_19 : ZV RX10 19 RX10 yX10_next 0 := ⟨Or.inl q716, q718, qs7, by decide, by decide⟩
theorem vvX10_35 : ZV RX10 35 RX10 yX10_isLetter 1 := ⟨Or.inl q720, q722, qs8, by decide, by decide⟩
theorem vvX10_39 : ZV RX10 39 RX10 yX10_isDigit 1 := ⟨Or.inl q724, q726, qs9, by decide, by decide⟩
theorem vvX10_59 : ZV RX10 59 RX2 yX2_at 2 := ⟨Or.inl q812, q813, q814, by decide, by decide⟩
theorem vvX10_64 : ZV RX10 64 RX10 yX10_wrong 0 := ⟨Or.inl q857, q859, qs15, by decide, by decide⟩
theorem vvX10_68 : ZV RX10 68 RX10 yX10_isWord 1 := ⟨Or.inl q756, q758, qs10, by decide, by decide⟩
theorem vvX10_72 : ZV RX10 72 RX10 yX10_number 2 := ⟨Or.inl q902, q904, qs20, by decide, by decide⟩
theorem vvX10_134 : ZV RX10 134 RX10 yX10_isKept 0 := ⟨Or.inl q824, q826, qs14, by decide, by decide⟩
theorem vvX10_142 : ZV RX10 142 RX10 yX10_name 0 := ⟨Or.inl q820, q822, qs13, by decide, by decide⟩
theorem vvX10_146 : ZV RX10 146 RX6 yX6_isTaken 1 := ⟨Or.inl q863, q864, q865, by decide, by decide⟩
theorem vvX10_152 : ZV RX10 152 RX6 yX6_placeNamed 1 := ⟨Or.inl q895, q868, q869, by decide, by decide⟩
theorem vvX10_156 : ZV RX10 156 RX10 yX10_known 1 := ⟨Or.inl q896, q898, qs19, by decide, by decide⟩
theorem vvX10_160 : ZV RX10 160 RX6 yX6_bridgeNamed 1 := ⟨Or.inl q1103, q872, q873, by decide, by decide⟩
theorem vvX10_163 : ZV RX10 163 RX6 yX6_personNamed 1 := ⟨Or.inl q1124, q876, q877, by decide, by decide⟩
theorem vvX10_166 : ZV RX10 166 RX6 yX6_loadNamed 1 := ⟨Or.inl q1164, q880, q881, by decide, by decide⟩
theorem vvX10_169 : ZV RX10 169 RX10 yX10_newPlace 1 := ⟨Or.inl q808, q810, qs11, by decide, by decide⟩
theorem vvX10_173 : ZV RX10 173 RX10 yX10_newBridge 1 := ⟨Or.inl q883, q885, qs16, by decide, by decide⟩
theorem vvX10_176 : ZV RX10 176 RX10 yX10_newPerson 1 := ⟨Or.inl q965, q967, qs22, by decide, by decide⟩
theorem vvX10_179 : ZV RX10 179 RX10 yX10_newLoad 1 := ⟨Or.inl q1005, q1007, qs23, by decide, by decide⟩
theorem vvX10_182 : ZV RX10 182 RX10 yX10_newStone 1 := ⟨Or.inl q1029, q1031, qs24, by decide, by decide⟩
theorem vvX10_185 : ZV RX10 185 RX10 yX10_close 0 := ⟨Or.inl q1033, q1035, qs25, by decide, by decide⟩
theorem vvX10_195 : ZV RX10 195 RX10 yX10_fresh 1 := ⟨Or.inl q816, q818, qs12, by decide, by decide⟩
theorem vvX10_202 : ZV RX10 202 RX10 yX10_word 1 := ⟨Or.inl q887, q889, qs17, by decide, by decide⟩
theorem vvX10_206 : ZV RX10 206 RX10 yX10_place 1 := ⟨Or.inl q891, q893, qs18, by decide, by decide⟩
theorem vvX10_214 : ZV RX10 214 RX10 yX10_told 4 := ⟨Or.inl q961, q963, qs21, by decide, by decide⟩
theorem vvX10_263 : ZV RX10 263 RX10 yX10_step 3 := ⟨Or.inl q1081, q1083, qs28, by decide, by decide⟩
theorem vvX10_267 : ZV RX10 267 RX10 yX10_isPlain 0 := ⟨Or.inl q1085, q1087, qs29, by decide, by decide⟩
theorem vvX10_273 : ZV RX10 273 RX10 yX10_block 3 := ⟨Or.inl q1089, q1091, qs30, by decide, by decide⟩
theorem vvX10_277 : ZV RX10 277 RX10 yX10_plain 1 := ⟨Or.inl q1127, q1129, qs34, by decide, by decide⟩
theorem vvX10_287 : ZV RX10 287 RX10 yX10_going 2 := ⟨Or.inl q1131, q1133, qs35, by decide, by decide⟩
theorem vvX10_291 : ZV RX10 291 RX10 yX10_person 1 := ⟨Or.inl q1120, q1122, qs33, by decide, by decide⟩
theorem vvX10_295 : ZV RX10 295 RX10 yX10_load 1 := ⟨Or.inl q1160, q1162, qs36, by decide, by decide⟩
theorem vvX10_303 : ZV RX10 303 RX10 yX10_bridge 1 := ⟨Or.inl q1099, q1101, qs32, by decide, by decide⟩
theorem vvX10_305 : ZV RX10 305 RX10 yX10_when 1 := ⟨Or.inl q1093, q1095, qs31, by decide, by decide⟩
theorem vvX17_33 : ZV RX17 33 RX5 yX5_hangs 1 := ⟨Or.inl q1540, q1267, q1268, by decide, by decide⟩
theorem vvX17_37 : ZV RX17 37 RX5 yX5_carried 1 := ⟨Or.inl q1541, q1238, q1239, by decide, by decide⟩
theorem vvX18_33 : ZV RX18 33 RX8 yX8_move 4 := ⟨Or.inl q1510, q1511, q1512, by decide, by decide⟩
theorem vvX4_16 : ZV RX4 16 RX5 yX5_be 1 := ⟨Or.inl q1576, q1348, q1349, by decide, by decide⟩
theorem vvX5_58 : ZV RX5 58 RX5 yX5_carried 1 := ⟨Or.inl q1296, q1238, q1239, by decide, by decide⟩
theorem vvX5_72 : ZV RX5 72 RX5 yX5_placeOf 1 := ⟨Or.inl q1261, q1250, q1251, by decide, by decide⟩
theorem vvX5_84 : ZV RX5 84 RX11 yX11_pull 0 := ⟨Or.inl q1274, q1205, q1206, by decide, by decide⟩
theorem vvX5_88 : ZV RX5 88 RX5 yX5_weight 1 := ⟨Or.inl q1275, q1258, q1259, by decide, by decide⟩
theorem vvX5_90 : ZV RX5 90 RX5 yX5_hangs_2 2 := ⟨Or.inl q1270, q1272, qs42, by decide, by decide⟩
theorem vvX5_94 : ZV RX5 94 RX11 yX11_beyond 1 := ⟨Or.inl q1301, q1302, q1303, by decide, by decide⟩
theorem vvX5_97 : ZV RX5 97 RX5 yX5_heavy 1 := ⟨Or.inl q1305, q1306, q1307, by decide, by decide⟩
theorem vvX5_110 : ZV RX5 110 RX5 yX5_canLift 2 := ⟨Or.inl q1292, q1293, q1294, by decide, by decide⟩
theorem vvX5_113 : ZV RX5 113 RX5 yX5_why 3 := ⟨Or.inl q1297, q1298, q1299, by decide, by decide⟩
theorem vvX6_56 : ZV RX6 56 RX6 yX6_placeNamed 1 := ⟨Or.inl q867, q868, q869, by decide, by decide⟩
theorem vvX6_60 : ZV RX6 60 RX6 yX6_bridgeNamed 1 := ⟨Or.inl q871, q872, q873, by decide, by decide⟩
theorem vvX6_63 : ZV RX6 63 RX6 yX6_personNamed 1 := ⟨Or.inl q875, q876, q877, by decide, by decide⟩
theorem vvX6_66 : ZV RX6 66 RX6 yX6_loadNamed 1 := ⟨Or.inl q879, q880, q881, by decide, by decide⟩
theorem vvX7_36 : ZV RX7 36 RX7 yX7_add 4 := ⟨Or.inl q1356, q1358, qs47, by decide, by decide⟩
theorem vvX7_43 : ZV RX7 43 RX5 yX5_moves 4 := ⟨Or.inl q1380, q1289, q1290, by decide, by decide⟩
theorem vvX8_18 : ZV RX8 18 RX5 yX5_be 1 := ⟨Or.inl q1489, q1348, q1349, by decide, by decide⟩
theorem vvX8_52 : ZV RX8 52 RX8 yX8_draw 0 := ⟨Or.inl q1525, q1527, qs60, by decide, by decide⟩
theorem vvX8_56 : ZV RX8 56 RX5 yX5_moves 4 := ⟨Or.inl q1514, q1289, q1290, by decide, by decide⟩
theorem vvX8_60 : ZV RX8 60 RX8 yX8_finish 0 := ⟨Or.inl q1515, q1517, qs58, by decide, by decide⟩
theorem vvX8_63 : ZV RX8 63 RX5 yX5_why 3 := ⟨Or.inl q1520, q1298, q1299, by decide, by decide⟩
theorem vvX8_86 : ZV RX8 86 RX8 yX8_slips 2 := ⟨Or.inl q1521, q1523, qs59, by decide, by decide⟩
theorem vvX8_90 : ZV RX8 90 RX5 yX5_isDone 0 := ⟨Or.inl q1519, q1192, q1193, by decide, by decide⟩
theorem vvX9_103 : ZV RX9 103 RX9 yX9_refuse 1 := ⟨Or.inl q1830, q1832, qs68, by decide, by decide⟩
theorem vvX9_107 : ZV RX9 107 RX9 yX9_gives 1 := ⟨Or.inl q1921, q1923, qs90, by decide, by decide⟩
theorem vvX9_110 : ZV RX9 110 RX9 yX9_is 1 := ⟨Or.inl q1770, q1772, qs62, by decide, by decide⟩
theorem vvX9_117 : ZV RX9 117 RX9 yX9_wrongPlace 2 := ⟨Or.inl q1778, q1780, qs63, by decide, by decide⟩
theorem vvX9_130 : ZV RX9 130 RX9 yX9_four 1 := ⟨Or.inl q1798, q1800, qs64, by decide, by decide⟩
theorem vvX9_140 : ZV RX9 140 RX9 yX9_byteAt 1 := ⟨Or.inl q1818, q1820, qs67, by decide, by decide⟩
theorem vvX9_180 : ZV RX9 180 RX9 yX9_ahead 0 := ⟨Or.inl q1814, q1816, qs66, by decide, by decide⟩
theorem vvX9_183 : ZV RX9 183 RX9 yX9_isSign 1 := ⟨Or.inl q1905, q1907, qs86, by decide, by decide⟩
theorem vvX9_186 : ZV RX9 186 RX9 yX9_fails 1 := ⟨Or.inl q1849, q1851, qs72, by decide, by decide⟩
theorem vvX9_189 : ZV RX9 189 RX9 yX9_inWords 1 := ⟨Or.inl q1839, q1841, qs70, by decide, by decide⟩
theorem vvX9_193 : ZV RX9 193 RX9 yX9_nameHere 0 := ⟨Or.inl q1865, q1867, qs76, by decide, by decide⟩
theorem vvX9_197 : ZV RX9 197 RX9 yX9_findHere 2 := ⟨Or.inl q1861, q1863, qs75, by decide, by decide⟩
theorem vvX9_202 : ZV RX9 202 RX9 yX9_isName 1 := ⟨Or.inl q1853, q1855, qs73, by decide, by decide⟩
theorem vvX9_206 : ZV RX9 206 RX9 yX9_isFree 0 := ⟨Or.inl q1857, q1859, qs74, by decide, by decide⟩
theorem vvX9_213 : ZV RX9 213 RX9 yX9_oldOne 3 := ⟨Or.inl q1881, q1883, qs80, by decide, by decide⟩
theorem vvX9_217 : ZV RX9 217 RX9 yX9_newOne 3 := ⟨Or.inl q1845, q1847, qs71, by decide, by decide⟩
theorem vvX9_220 : ZV RX9 220 RX9 yX9_wantWord 2 := ⟨Or.inl q1873, q1875, qs78, by decide, by decide⟩
theorem vvX9_224 : ZV RX9 224 RX9 yX9_aPlaceTo 1 := ⟨Or.inl q1877, q1879, qs79, by decide, by decide⟩
theorem vvX9_227 : ZV RX9 227 RX9 yX9_number 3 := ⟨Or.inl q1885, q1887, qs81, by decide, by decide⟩
theorem vvX9_230 : ZV RX9 230 RX9 yX9_aBridge 0 := ⟨Or.inl q1869, q1871, qs77, by decide, by decide⟩
theorem vvX9_233 : ZV RX9 233 RX9 yX9_aPerson 0 := ⟨Or.inl q1889, q1891, qs82, by decide, by decide⟩
theorem vvX9_236 : ZV RX9 236 RX9 yX9_aLoad 0 := ⟨Or.inl q1893, q1895, qs83, by decide, by decide⟩
theorem vvX9_239 : ZV RX9 239 RX9 yX9_aStone 0 := ⟨Or.inl q1897, q1899, qs84, by decide, by decide⟩
theorem vvX9_242 : ZV RX9 242 RX9 yX9_wantSign 1 := ⟨Or.inl q1901, q1903, qs85, by decide, by decide⟩
theorem vvX9_245 : ZV RX9 245 RX9 yX9_begins 2 := ⟨Or.inl q1810, q1812, qs65, by decide, by decide⟩
theorem vvX9_249 : ZV RX9 249 RX9 yX9_townPart 0 := ⟨Or.inl q1834, q1836, qs69, by decide, by decide⟩
theorem vvX9_252 : ZV RX9 252 RX9 yX9_startsOver 0 := ⟨Or.inl q1909, q1911, qs87, by decide, by decide⟩
theorem vvX9_255 : ZV RX9 255 RX9 yX9_taken 1 := ⟨Or.inl q1917, q1919, qs89, by decide, by decide⟩
theorem vvX9_258 : ZV RX9 258 RX9 yX9_ofPerson 2 := ⟨Or.inl q1913, q1915, qs88, by decide, by decide⟩
theorem vvX9_261 : ZV RX9 261 RX9 yX9_orderName 3 := ⟨Or.inl q1941, q1943, qs94, by decide, by decide⟩
theorem vvX9_264 : ZV RX9 264 RX9 yX9_aMan 1 := ⟨Or.inl q1937, q1939, qs93, by decide, by decide⟩
theorem vvX9_267 : ZV RX9 267 RX9 yX9_aTest 1 := ⟨Or.inl q1945, q1947, qs95, by decide, by decide⟩
theorem vvX9_276 : ZV RX9 276 RX9 yX9_order 2 := ⟨Or.inl q1933, q1935, qs92, by decide, by decide⟩
theorem vvX9_279 : ZV RX9 279 RX9 yX9_step 0 := ⟨Or.inl q1929, q1931, qs91, by decide, by decide⟩
theorem vvX9_282 : ZV RX9 282 RX9 yX9_ofBridge 2 := ⟨Or.inl q1973, q1975, qs100, by decide, by decide⟩
theorem vvX9_285 : ZV RX9 285 RX9 yX9_takesNow 0 := ⟨Or.inl q1953, q1955, qs96, by decide, by decide⟩
theorem vvX9_288 : ZV RX9 288 RX9 yX9_isDone 0 := ⟨Or.inl q1957, q1959, qs97, by decide, by decide⟩
theorem vvX9_291 : ZV RX9 291 RX9 yX9_isBridge 1 := ⟨Or.inl q1965, q1967, qs98, by decide, by decide⟩
theorem vvX9_294 : ZV RX9 294 RX9 yX9_takesOf 1 := ⟨Or.inl q1969, q1971, qs99, by decide, by decide⟩
theorem vvX9_297 : ZV RX9 297 RX9 yX9_isPerson 1 := ⟨Or.inl q1981, q1983, qs101, by decide, by decide⟩
theorem vvX9_300 : ZV RX9 300 RX9 yX9_orNone 1 := ⟨Or.inl q1985, q1987, qs102, by decide, by decide⟩
theorem vvX9_303 : ZV RX9 303 RX9 yX9_isPlace 1 := ⟨Or.inl q1993, q1995, qs103, by decide, by decide⟩
theorem vvX9_306 : ZV RX9 306 RX9 yX9_loadOf 1 := ⟨Or.inl q2005, q2007, qs104, by decide, by decide⟩
theorem vvX9_315 : ZV RX9 315 RX9 yX9_burden 1 := ⟨Or.inl q2025, q2027, qs107, by decide, by decide⟩
theorem vvX9_318 : ZV RX9 318 RX9 yX9_weightAt 1 := ⟨Or.inl q2021, q2023, qs106, by decide, by decide⟩
theorem vvX9_321 : ZV RX9 321 RX9 yX9_isLoad 1 := ⟨Or.inl q2013, q2015, qs105, by decide, by decide⟩
theorem vvX9_324 : ZV RX9 324 RX9 yX9_hangsBy 2 := ⟨Or.inl q2033, q2035, qs108, by decide, by decide⟩
theorem vvX9_327 : ZV RX9 327 RX9 yX9_whyNot 3 := ⟨Or.inl q2053, q2055, qs110, by decide, by decide⟩
theorem vvX9_331 : ZV RX9 331 RX9 yX9_crosses 2 := ⟨Or.inl q2057, q2059, qs111, by decide, by decide⟩
theorem vvX9_335 : ZV RX9 335 RX9 yX9_staysSo 0 := ⟨Or.inl q2065, q2067, qs113, by decide, by decide⟩
theorem vvX9_338 : ZV RX9 338 RX9 yX9_goesOver 3 := ⟨Or.inl q2049, q2051, qs109, by decide, by decide⟩
theorem vvX9_341 : ZV RX9 341 RX9 yX9_doneOr 1 := ⟨Or.inl q2061, q2063, qs112, by decide, by decide⟩
theorem vvX9_345 : ZV RX9 345 RX9 yX9_areTwo 2 := ⟨Or.inl q2073, q2075, qs114, by decide, by decide⟩
theorem vvX9_348 : ZV RX9 348 RX9 yX9_lifts 2 := ⟨Or.inl q2085, q2087, qs115, by decide, by decide⟩
theorem vvX9_351 : ZV RX9 351 RX9 yX9_drops 1 := ⟨Or.inl q2093, q2095, qs116, by decide, by decide⟩
theorem vvX9_357 : ZV RX9 357 RX9 yX9_adds 4 := ⟨Or.inl q2117, q2119, qs121, by decide, by decide⟩
theorem vvX9_361 : ZV RX9 361 RX9 yX9_opens 1 := ⟨Or.inl q2129, q2131, qs124, by decide, by decide⟩
theorem vvX9_364 : ZV RX9 364 RX9 yX9_code 0 := ⟨Or.inl q2121, q2123, qs122, by decide, by decide⟩
theorem vvX9_367 : ZV RX9 367 RX9 yX9_laysMoves 0 := ⟨Or.inl q2113, q2115, qs120, by decide, by decide⟩
theorem vvX9_376 : ZV RX9 376 RX9 yX9_starts 0 := ⟨Or.inl q2109, q2111, qs119, by decide, by decide⟩
theorem vvX9_379 : ZV RX9 379 RX9 yX9_moved 2 := ⟨Or.inl q2125, q2127, qs123, by decide, by decide⟩
theorem vvX9_382 : ZV RX9 382 RX9 yX9_isDoneAt 1 := ⟨Or.inl q2141, q2143, qs127, by decide, by decide⟩
theorem vvX9_385 : ZV RX9 385 RX9 yX9_comes 0 := ⟨Or.inl q2105, q2107, qs118, by decide, by decide⟩
theorem vvX9_388 : ZV RX9 388 RX9 yX9_lessens 2 := ⟨Or.inl q2133, q2135, qs125, by decide, by decide⟩
theorem vvX9_391 : ZV RX9 391 RX9 yX9_costOf 2 := ⟨Or.inl q2137, q2139, qs126, by decide, by decide⟩
theorem vvX9_394 : ZV RX9 394 RX9 yX9_leastBy 1 := ⟨Or.inl q2101, q2103, qs117, by decide, by decide⟩
theorem vvX9_397 : ZV RX9 397 RX9 yX9_fewestMoves 0 := ⟨Or.inl q2145, q2147, qs128, by decide, by decide⟩
theorem vvX9_400 : ZV RX9 400 RX9 yX9_leavesLess 1 := ⟨Or.inl q2157, q2159, qs130, by decide, by decide⟩
theorem vvX9_403 : ZV RX9 403 RX9 yX9_leaves 0 := ⟨Or.inl q2153, q2155, qs129, by decide, by decide⟩
theorem vvX9_406 : ZV RX9 406 RX9 yX9_keepsGood 0 := ⟨Or.inl q2185, q2187, qs131, by decide, by decide⟩
theorem vvX9_409 : ZV RX9 409 RX9 yX9_canDo 0 := ⟨Or.inl q2201, q2203, qs132, by decide, by decide⟩
theorem vvX9_412 : ZV RX9 412 RX9 yX9_canWith 2 := ⟨Or.inl q2213, q2215, qs134, by decide, by decide⟩
theorem vvX9_415 : ZV RX9 415 RX9 yX9_stoneAt 1 := ⟨Or.inl q2209, q2211, qs133, by decide, by decide⟩
theorem vvX9_440 : ZV RX9 440 RX9 yX9_slips 1 := ⟨Or.inl q2246, q2248, qs138, by decide, by decide⟩
theorem vvX9_449 : ZV RX9 449 RX9 yX9_ordersOver 3 := ⟨Or.inl q2242, q2244, qs137, by decide, by decide⟩
theorem vvX9_458 : ZV RX9 458 RX9 yX9_ordersMove 1 := ⟨Or.inl q2238, q2240, qs136, by decide, by decide⟩
theorem vvX9_461 : ZV RX9 461 RX9 yX9_holdsNow 1 := ⟨Or.inl q2251, q2253, qs139, by decide, by decide⟩
theorem vvX9_464 : ZV RX9 464 RX9 yX9_behindEnds 1 := ⟨Or.inl q2255, q2257, qs140, by decide, by decide⟩
theorem vvX9_467 : ZV RX9 467 RX9 yX9_runs 1 := ⟨Or.inl q2234, q2236, qs135, by decide, by decide⟩
theorem vvX9_470 : ZV RX9 470 RX9 yX9_tellsBy 2 := ⟨Or.inl q2271, q2273, qs141, by decide, by decide⟩
theorem vvX9_477 : ZV RX9 477 RX9 yX9_copies 2 := ⟨Or.inl q2279, q2281, qs142, by decide, by decide⟩
theorem vsX0_129 : ZS RX0 129 yJ11_signum 1 := ⟨Or.inl q1565, q1566, q176, by decide, by decide⟩
theorem vsX0_142 : ZS RX0 142 yX0_row 2 := ⟨Or.inl q627, q628, q144, by decide, by decide⟩
theorem vsX0_155 : ZS RX0 155 yX0_put 3 := ⟨Or.inl q662, q663, q144, by decide, by decide⟩
theorem vsX0_161 : ZS RX0 161 yX0_number 2 := ⟨Or.inl q673, q674, q144, by decide, by decide⟩
theorem vsX0_171 : ZS RX0 171 yX0_sortOf 1 := ⟨Or.inl q686, q687, q144, by decide, by decide⟩
theorem vsX0_196 : ZS RX0 196 yX0_isIn 3 := ⟨Or.inl q1188, q1189, q144, by decide, by decide⟩
theorem vsX0_472 : ZS RX0 472 yX0_sizeOf 1 := ⟨Or.inl q1472, q1473, q144, by decide, by decide⟩
theorem vsX9_114 : ZS RX9 114 yX9_isTray 1 := ⟨Or.inl q1767, q1768, q155, by decide, by decide⟩
theorem vsX9_121 : ZS RX9 121 yX9_cut 2 := ⟨Or.inl q1782, q1783, q155, by decide, by decide⟩
theorem vsX9_152 : ZS RX9 152 yX9_isSmall 1 := ⟨Or.inl q1822, q1823, q155, by decide, by decide⟩
theorem vsX9_155 : ZS RX9 155 yX9_isDigit 1 := ⟨Or.inl q1825, q1826, q155, by decide, by decide⟩
theorem vsX9_420 : ZS RX9 420 yX9_isFrom 3 := ⟨Or.inl q2226, q2227, q155, by decide, by decide⟩
theorem viL_9 : ZIn RL 9 yX0_init cX0_init 1 0 := ⟨Or.inl q179, q180, q181, rfl, by decide, by decide⟩
theorem viL_12 : ZIn RL 12 yX9_init cX9_init 1 0 := ⟨Or.inl q1583, q1584, q1585, rfl, by decide, by decide⟩
theorem viX0_19 : ZIn RX0 19 yX1_init cX1_init 1 0 := ⟨Or.inr ⟨_, zNw_in q188 rfl⟩, q189, q190, rfl, by decide, by decide⟩
theorem viX0_36 : ZIn RX0 36 yX2_init cX2_init 1 0 := ⟨Or.inl q236, q237, q238, rfl, by decide, by decide⟩
theorem viX0_43 : ZIn RX0 43 yX3_init cX3_init 1 0 := ⟨Or.inl q276, q277, q278, rfl, by decide, by decide⟩
theorem viX0_54 : ZIn RX0 54 yX4_init cX4_init 1 0 := ⟨Or.inr ⟨_, zNw_in q288 rfl⟩, q289, q290, rfl, by decide, by decide⟩
theorem viX0_65 : ZIn RX0 65 yX7_init cX7_init 1 0 := ⟨Or.inr ⟨_, zNw_in q406 rfl⟩, q407, q408, rfl, by decide, by decide⟩
theorem viX0_72 : ZIn RX0 72 yX5_init cX5_init 1 0 := ⟨Or.inr ⟨_, zNw_in q432 rfl⟩, q295, q296, rfl, by decide, by decide⟩
theorem viX0_99 : ZIn RX0 99 yX8_init cX8_init 1 0 := ⟨Or.inr ⟨_, zNw_in q436 rfl⟩, q437, q438, rfl, by decide, by decide⟩
theorem viX0_226 : ZIn RX0 226 yX6_init cX6_init 1 0 := ⟨Or.inr ⟨_, zNw_in q709 rfl⟩, q301, q302, rfl, by decide, by decide⟩
theorem viX0_229 : ZIn RX0 229 yX10_init cX10_init 3 2 := ⟨Or.inl q712, q713, q714, rfl, by decide, by decide⟩
theorem viX0_248 : ZIn RX0 248 yX16_init cX16_init 2 1 := ⟨Or.inl q1051, q1052, q1053, rfl, by decide, by decide⟩
theorem viX10_211 : ZIn RX10 211 yX11_init cX11_init 7 5 := ⟨Or.inl q906, q907, q908, rfl, by decide, by decide⟩
theorem viX10_237 : ZIn RX10 237 yX12_init cX12_init 5 3 := ⟨Or.inl q971, q972, q973, rfl, by decide, by decide⟩
theorem viX10_258 : ZIn RX10 258 yX13_init cX13_init 5 3 := ⟨Or.inl q1011, q1012, q1013, rfl, by decide, by decide⟩
theorem viX10_297 : ZIn RX10 297 yX18_init cX18_init 5 4 := ⟨Or.inl q1137, q1138, q1139, rfl, by decide, by decide⟩
theorem viX10_302 : ZIn RX10 302 yX19_init cX19_init 1 0 := ⟨Or.inr ⟨_, zNw_in q1167 rfl⟩, q1168, q1169, rfl, by decide, by decide⟩
theorem viX10_310 : ZIn RX10 310 yX16_init cX16_init 2 1 := ⟨Or.inl q1126, q1052, q1053, rfl, by decide, by decide⟩
theorem viX10_315 : ZIn RX10 315 yX17_init cX17_init 4 3 := ⟨Or.inl q1104, q1105, q1106, rfl, by decide, by decide⟩
theorem viX15_1 : ZIn RX15 1 yX14_init cX14_init 1 0 := ⟨Or.inr ⟨_, zNw_in q1057 rfl⟩, q1058, q1059, rfl, by decide, by decide⟩
theorem viX16_1 : ZIn RX16 1 yX15_init cX15_init 1 0 := ⟨Or.inr ⟨_, zNw_in q1054 rfl⟩, q1055, q1056, rfl, by decide, by decide⟩
theorem viX17_3 : ZIn RX17 3 yX15_init cX15_init 1 0 := ⟨Or.inr ⟨_, zNw_in q1107 rfl⟩, q1055, q1056, rfl, by decide, by decide⟩
theorem viX18_3 : ZIn RX18 3 yX14_init cX14_init 1 0 := ⟨Or.inr ⟨_, zNw_in q1140 rfl⟩, q1058, q1059, rfl, by decide, by decide⟩
theorem viX19_1 : ZIn RX19 1 yX14_init cX14_init 1 0 := ⟨Or.inr ⟨_, zNw_in q1170 rfl⟩, q1058, q1059, rfl, by decide, by decide⟩
theorem viX4_9 : ZIn RX4 9 yX5_init cX5_init 1 0 := ⟨Or.inr ⟨_, zNw_in q294 rfl⟩, q295, q296, rfl, by decide, by decide⟩
theorem viX5_11 : ZIn RX5 11 yX6_init cX6_init 1 0 := ⟨Or.inr ⟨_, zNw_in q300 rfl⟩, q301, q302, rfl, by decide, by decide⟩
theorem viX8_11 : ZIn RX8 11 yX5_init cX5_init 1 0 := ⟨Or.inr ⟨_, zNw_in q441 rfl⟩, q295, q296, rfl, by decide, by decide⟩
