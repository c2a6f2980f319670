set_option maxRecDepth 100000
noncomputable def f_X9_init (a0 : Nat) (σ : ZT) : Option ZT :=
  bnd2 (nwA 0 (2150 : Int32) σ) fun v1 σ =>
  (pR 9 900 a0 (some v1) σ).bind fun σ =>
  bnd2 (nwA 1 (100 : Int32) σ) fun v2 σ =>
  (pR 9 901 a0 (some v2) σ).bind fun σ =>
  (pL 9 904 a0 (1 : Int64) σ).bind fun σ =>
  bnd2 (nwA 0 (4 : Int32) σ) fun v3 σ =>
  (pR 9 905 a0 (some v3) σ).bind fun σ =>
  bnd2 (nwA 0 (4 : Int32) σ) fun v4 σ =>
  (stI v4 (0 : Int32) (-1 : Int32) σ).bind fun σ =>
  (stI v4 (1 : Int32) (-1 : Int32) σ).bind fun σ =>
  (stI v4 (2 : Int32) (-1 : Int32) σ).bind fun σ =>
  (stI v4 (3 : Int32) (-1 : Int32) σ).bind fun σ =>
  (pR 9 906 a0 (some v4) σ).bind fun σ =>
  bnd2 (nwA 1 (240 : Int32) σ) fun v5 σ =>
  (pR 9 907 a0 (some v5) σ).bind fun σ =>
  bnd2 (nwA 2 (900 : Int32) σ) fun v6 σ =>
  (pR 9 908 a0 (some v6) σ).bind fun σ =>
  bnd2 (nwA 2 (900 : Int32) σ) fun v7 σ =>
  (pR 9 909 a0 (some v7) σ).bind fun σ =>
  (pI 9 916 a0 (-1 : Int32) σ).bind fun σ =>
  (pI 9 917 a0 (-1 : Int32) σ).bind fun σ =>
  bnd2 (nwA 0 (3 : Int32) σ) fun v8 σ =>
  (pR 9 921 a0 (some v8) σ).bind fun σ =>
  bnd2 (nwA 0 (4 : Int32) σ) fun v9 σ =>
  (pR 9 924 a0 (some v9) σ).bind fun σ =>
  bnd2 (nwA 0 (2 : Int32) σ) fun v10 σ =>
  (pR 9 925 a0 (some v10) σ).bind fun σ =>
  (pI 9 926 a0 (-1 : Int32) σ).bind fun σ =>
  bnd2 (nwA 0 (100 : Int32) σ) fun v11 σ =>
  (pR 9 929 a0 (some v11) σ).bind fun σ =>
  bnd2 (nwA 0 (100 : Int32) σ) fun v12 σ =>
  (pR 9 930 a0 (some v12) σ).bind fun σ =>
  bnd2 (nwA 0 (100 : Int32) σ) fun v13 σ =>
  (pR 9 931 a0 (some v13) σ).bind fun σ =>
  bnd2 (nwA 0 (100 : Int32) σ) fun v14 σ =>
  (pR 9 932 a0 (some v14) σ).bind fun σ =>
  bnd2 (nwA 0 (129600 : Int32) σ) fun v15 σ =>
  (pR 9 934 a0 (some v15) σ).bind fun σ =>
  bnd2 (nwA 0 (129600 : Int32) σ) fun v16 σ =>
  (pR 9 935 a0 (some v16) σ).bind fun σ =>
  bnd2 (nwA 4 (129600 : Int32) σ) fun v17 σ =>
  (pR 9 936 a0 (some v17) σ).bind fun σ =>
  (pI 9 939 a0 (-1 : Int32) σ).bind fun σ =>
  bnd2 (nwA 0 (129600 : Int32) σ) fun v18 σ =>
  (pR 9 940 a0 (some v18) σ).bind fun σ =>
  bnd2 (nwA 0 (80 : Int32) σ) fun v19 σ =>
  (pR 9 949 a0 (some v19) σ).bind fun σ =>
  bnd2 (nwA 0 (6 : Int32) σ) fun v20 σ =>
  (pR 9 950 a0 (some v20) σ).bind fun σ =>
  bnd2 (nwA 0 (4 : Int32) σ) fun v21 σ =>
  (pR 9 951 a0 (some v21) σ).bind fun σ =>
  (pI 9 952 a0 (-1 : Int32) σ).bind fun σ =>
  (gR 9 900 a0 σ).bind fun v22 =>
  (stI v22 (4 : Int32) (-1 : Int32) σ).bind fun σ =>
  some σ
set_option maxHeartbeats 4000000 in
theorem m_X9_init {l : Launch} {G : ZG} (a0 : Nat) (σ : ZT) {out : ZT} (hf : f_X9_init a0 σ = some out) : ZM l G yX9_init cX9_init 1 none [] 2 [.ref a0] σ (.returned none) out := by
  refine ZM.of [(0, .ref a0)] rfl (Nat.le_of_ble_eq_true rfl) fun X (C : ZC G RX9 "<init>" cX9_init 1 none [] X 2) => ?_
  unfold f_X9_init at hf
  refine z_aload_n (q := 1) (i := 0) C 0 dX9_init_0 rfl rfl rfl ?_
  refine z_objInit (q := 4) C q1586 dX9_init_1 rfl (by decide) (Nat.le_of_ble_eq_true rfl) ?_
  refine z_aload_n (q := 5) (i := 0) C 0 dX9_init_4 rfl rfl rfl ?_
  refine z_sipush (q := 8) C (2150 : Int32) dX9_init_5 ks_2150 rfl ?_
  refine z_newarr (q := 10) C 0 (by decide) rfl q367 dX9_init_8 hf rfl fun v1 σ hf => ?_
  refine z_putR (q := 13) C puX9_7 rfl dX9_init_10 hf rfl fun σ hf => ?_
  refine z_aload_n (q := 14) (i := 0) C 0 dX9_init_13 rfl rfl rfl ?_
  refine z_bipush (q := 16) C (100 : Int32) dX9_init_14 kb_100 rfl ?_
  refine z_newarr (q := 18) C 1 (by decide) rfl q366 dX9_init_16 hf rfl fun v2 σ hf => ?_
  refine z_putR (q := 21) C puX9_13 rfl dX9_init_18 hf rfl fun σ hf => ?_
  refine z_aload_n (q := 22) (i := 0) C 0 dX9_init_21 rfl rfl rfl ?_
  refine z_lconst (q := 23) C (1 : Int64) dX9_init_22 rfl rfl ?_
  refine z_putL (q := 26) C puX9_17 dX9_init_23 hf rfl fun σ hf => ?_
  refine z_aload_n (q := 27) (i := 0) C 0 dX9_init_26 rfl rfl rfl ?_
  refine z_iconst (q := 28) C (4 : Int32) dX9_init_27 ki_4 rfl ?_
  refine z_newarr (q := 30) C 0 (by decide) rfl q367 dX9_init_28 hf rfl fun v3 σ hf => ?_
  refine z_putR (q := 33) C puX9_21 rfl dX9_init_30 hf rfl fun σ hf => ?_
  refine z_aload_n (q := 34) (i := 0) C 0 dX9_init_33 rfl rfl rfl ?_
  refine z_iconst (q := 35) C (4 : Int32) dX9_init_34 ki_4 rfl ?_
  refine z_newarr (q := 37) C 0 (by decide) rfl q367 dX9_init_35 hf rfl fun v4 σ hf => ?_
  refine z_dup (q := 38) C dX9_init_37 rfl rfl ?_
  refine z_iconst (q := 39) C (0 : Int32) dX9_init_38 ki_0 rfl ?_
  refine z_iconst (q := 40) C (-1 : Int32) dX9_init_39 ki_m1 rfl ?_
  refine z_iast (q := 41) C dX9_init_40 hf rfl fun σ hf => ?_
  refine z_dup (q := 42) C dX9_init_41 rfl rfl ?_
  refine z_iconst (q := 43) C (1 : Int32) dX9_init_42 ki_1 rfl ?_
  refine z_iconst (q := 44) C (-1 : Int32) dX9_init_43 ki_m1 rfl ?_
  refine z_iast (q := 45) C dX9_init_44 hf rfl fun σ hf => ?_
  refine z_dup (q := 46) C dX9_init_45 rfl rfl ?_
  refine z_iconst (q := 47) C (2 : Int32) dX9_init_46 ki_2 rfl ?_
  refine z_iconst (q := 48) C (-1 : Int32) dX9_init_47 ki_m1 rfl ?_
  refine z_iast (q := 49) C dX9_init_48 hf rfl fun σ hf => ?_
  refine z_dup (q := 50) C dX9_init_49 rfl rfl ?_
  refine z_iconst (q := 51) C (3 : Int32) dX9_init_50 ki_3 rfl ?_
  refine z_iconst (q := 52) C (-1 : Int32) dX9_init_51 ki_m1 rfl ?_
  refine z_iast (q := 53) C dX9_init_52 hf rfl fun σ hf => ?_
  refine z_putR (q := 56) C puX9_24 rfl dX9_init_53 hf rfl fun σ hf => ?_
  refine z_aload_n (q := 57) (i := 0) C 0 dX9_init_56 rfl rfl rfl ?_
  refine z_sipush (q := 60) C (240 : Int32) dX9_init_57 ks_240 rfl ?_
  refine z_newarr (q := 62) C 1 (by decide) rfl q366 dX9_init_60 hf rfl fun v5 σ hf => ?_
  refine z_putR (q := 65) C puX9_27 rfl dX9_init_62 hf rfl fun σ hf => ?_
  refine z_aload_n (q := 66) (i := 0) C 0 dX9_init_65 rfl rfl rfl ?_
  refine z_sipush (q := 69) C (900 : Int32) dX9_init_66 ks_900 rfl ?_
  refine z_newarr (q := 71) C 2 (by decide) rfl q266 dX9_init_69 hf rfl fun v6 σ hf => ?_
  refine z_putR (q := 74) C puX9_30 rfl dX9_init_71 hf rfl fun σ hf => ?_
  refine z_aload_n (q := 75) (i := 0) C 0 dX9_init_74 rfl rfl rfl ?_
  refine z_sipush (q := 78) C (900 : Int32) dX9_init_75 ks_900 rfl ?_
  refine z_newarr (q := 80) C 2 (by decide) rfl q266 dX9_init_78 hf rfl fun v7 σ hf => ?_
  refine z_putR (q := 83) C puX9_34 rfl dX9_init_80 hf rfl fun σ hf => ?_
  refine z_aload_n (q := 84) (i := 0) C 0 dX9_init_83 rfl rfl rfl ?_
  refine z_iconst (q := 85) C (-1 : Int32) dX9_init_84 ki_m1 rfl ?_
  refine z_putI (q := 88) C puX9_37 dX9_init_85 hf rfl fun σ hf => ?_
  refine z_aload_n (q := 89) (i := 0) C 0 dX9_init_88 rfl rfl rfl ?_
  refine z_iconst (q := 90) C (-1 : Int32) dX9_init_89 ki_m1 rfl ?_
  refine z_putI (q := 93) C puX9_41 dX9_init_90 hf rfl fun σ hf => ?_
  refine z_aload_n (q := 94) (i := 0) C 0 dX9_init_93 rfl rfl rfl ?_
  refine z_iconst (q := 95) C (3 : Int32) dX9_init_94 ki_3 rfl ?_
  refine z_newarr (q := 97) C 0 (by decide) rfl q367 dX9_init_95 hf rfl fun v8 σ hf => ?_
  refine z_putR (q := 100) C puX9_44 rfl dX9_init_97 hf rfl fun σ hf => ?_
  refine z_aload_n (q := 101) (i := 0) C 0 dX9_init_100 rfl rfl rfl ?_
  refine z_iconst (q := 102) C (4 : Int32) dX9_init_101 ki_4 rfl ?_
  refine z_newarr (q := 104) C 0 (by decide) rfl q367 dX9_init_102 hf rfl fun v9 σ hf => ?_
  refine z_putR (q := 107) C puX9_47 rfl dX9_init_104 hf rfl fun σ hf => ?_
  refine z_aload_n (q := 108) (i := 0) C 0 dX9_init_107 rfl rfl rfl ?_
  refine z_iconst (q := 109) C (2 : Int32) dX9_init_108 ki_2 rfl ?_
  refine z_newarr (q := 111) C 0 (by decide) rfl q367 dX9_init_109 hf rfl fun v10 σ hf => ?_
  refine z_putR (q := 114) C puX9_50 rfl dX9_init_111 hf rfl fun σ hf => ?_
  refine z_aload_n (q := 115) (i := 0) C 0 dX9_init_114 rfl rfl rfl ?_
  refine z_iconst (q := 116) C (-1 : Int32) dX9_init_115 ki_m1 rfl ?_
  refine z_putI (q := 119) C puX9_53 dX9_init_116 hf rfl fun σ hf => ?_
  refine z_aload_n (q := 120) (i := 0) C 0 dX9_init_119 rfl rfl rfl ?_
  refine z_bipush (q := 122) C (100 : Int32) dX9_init_120 kb_100 rfl ?_
  refine z_newarr (q := 124) C 0 (by decide) rfl q367 dX9_init_122 hf rfl fun v11 σ hf => ?_
  refine z_putR (q := 127) C puX9_56 rfl dX9_init_124 hf rfl fun σ hf => ?_
  refine z_aload_n (q := 128) (i := 0) C 0 dX9_init_127 rfl rfl rfl ?_
  refine z_bipush (q := 130) C (100 : Int32) dX9_init_128 kb_100 rfl ?_
  refine z_newarr (q := 132) C 0 (by decide) rfl q367 dX9_init_130 hf rfl fun v12 σ hf => ?_
  refine z_putR (q := 135) C puX9_59 rfl dX9_init_132 hf rfl fun σ hf => ?_
  refine z_aload_n (q := 136) (i := 0) C 0 dX9_init_135 rfl rfl rfl ?_
  refine z_bipush (q := 138) C (100 : Int32) dX9_init_136 kb_100 rfl ?_
  refine z_newarr (q := 140) C 0 (by decide) rfl q367 dX9_init_138 hf rfl fun v13 σ hf => ?_
  refine z_putR (q := 143) C puX9_62 rfl dX9_init_140 hf rfl fun σ hf => ?_
  refine z_aload_n (q := 144) (i := 0) C 0 dX9_init_143 rfl rfl rfl ?_
  refine z_bipush (q := 146) C (100 : Int32) dX9_init_144 kb_100 rfl ?_
  refine z_newarr (q := 148) C 0 (by decide) rfl q367 dX9_init_146 hf rfl fun v14 σ hf => ?_
  refine z_putR (q := 151) C puX9_65 rfl dX9_init_148 hf rfl fun σ hf => ?_
  refine z_aload_n (q := 152) (i := 0) C 0 dX9_init_151 rfl rfl rfl ?_
  refine z_ldc (q := 154) C q1587 dX9_init_152 rfl ?_
  refine z_newarr (q := 156) C 0 (by decide) rfl q367 dX9_init_154 hf rfl fun v15 σ hf => ?_
  refine z_putR (q := 159) C puX9_69 rfl dX9_init_156 hf rfl fun σ hf => ?_
  refine z_aload_n (q := 160) (i := 0) C 0 dX9_init_159 rfl rfl rfl ?_
  refine z_ldc (q := 162) C q1587 dX9_init_160 rfl ?_
  refine z_newarr (q := 164) C 0 (by decide) rfl q367 dX9_init_162 hf rfl fun v16 σ hf => ?_
  refine z_putR (q := 167) C puX9_72 rfl dX9_init_164 hf rfl fun σ hf => ?_
  refine z_aload_n (q := 168) (i := 0) C 0 dX9_init_167 rfl rfl rfl ?_
  refine z_ldc (q := 170) C q1587 dX9_init_168 rfl ?_
  refine z_newarr (q := 172) C 4 (by decide) rfl q486 dX9_init_170 hf rfl fun v17 σ hf => ?_
  refine z_putR (q := 175) C puX9_75 rfl dX9_init_172 hf rfl fun σ hf => ?_
  refine z_aload_n (q := 176) (i := 0) C 0 dX9_init_175 rfl rfl rfl ?_
  refine z_iconst (q := 177) C (-1 : Int32) dX9_init_176 ki_m1 rfl ?_
  refine z_putI (q := 180) C puX9_79 dX9_init_177 hf rfl fun σ hf => ?_
  refine z_aload_n (q := 181) (i := 0) C 0 dX9_init_180 rfl rfl rfl ?_
  refine z_ldc (q := 183) C q1587 dX9_init_181 rfl ?_
  refine z_newarr (q := 185) C 0 (by decide) rfl q367 dX9_init_183 hf rfl fun v18 σ hf => ?_
  refine z_putR (q := 188) C puX9_82 rfl dX9_init_185 hf rfl fun σ hf => ?_
  refine z_aload_n (q := 189) (i := 0) C 0 dX9_init_188 rfl rfl rfl ?_
  refine z_bipush (q := 191) C (80 : Int32) dX9_init_189 kb_80 rfl ?_
  refine z_newarr (q := 193) C 0 (by decide) rfl q367 dX9_init_191 hf rfl fun v19 σ hf => ?_
  refine z_putR (q := 196) C puX9_85 rfl dX9_init_193 hf rfl fun σ hf => ?_
  refine z_aload_n (q := 197) (i := 0) C 0 dX9_init_196 rfl rfl rfl ?_
  refine z_bipush (q := 199) C (6 : Int32) dX9_init_197 kb_6 rfl ?_
  refine z_newarr (q := 201) C 0 (by decide) rfl q367 dX9_init_199 hf rfl fun v20 σ hf => ?_
  refine z_putR (q := 204) C puX9_88 rfl dX9_init_201 hf rfl fun σ hf => ?_
  refine z_aload_n (q := 205) (i := 0) C 0 dX9_init_204 rfl rfl rfl ?_
  refine z_iconst (q := 206) C (4 : Int32) dX9_init_205 ki_4 rfl ?_
  refine z_newarr (q := 208) C 0 (by decide) rfl q367 dX9_init_206 hf rfl fun v21 σ hf => ?_
  refine z_putR (q := 211) C puX9_91 rfl dX9_init_208 hf rfl fun σ hf => ?_
  refine z_aload_n (q := 212) (i := 0) C 0 dX9_init_211 rfl rfl rfl ?_
  refine z_iconst (q := 213) C (-1 : Int32) dX9_init_212 ki_m1 rfl ?_
  refine z_putI (q := 216) C puX9_94 dX9_init_213 hf rfl fun σ hf => ?_
  refine z_aload_n (q := 217) (i := 0) C 0 dX9_init_216 rfl rfl rfl ?_
  refine z_getR (q := 220) C flX9_7 dX9_init_217 hf rfl fun v22 hf => ?_
  refine z_iconst (q := 221) C (4 : Int32) dX9_init_220 ki_4 rfl ?_
  refine z_iconst (q := 222) C (-1 : Int32) dX9_init_221 ki_m1 rfl ?_
  refine z_iast (q := 223) C dX9_init_222 hf rfl fun σ hf => ?_
  exact z_return C rfl dX9_init_223 (Option.some.inj hf)

noncomputable def f_X9_status (a0 : Nat) (σ : ZT) : Option (Int32 × ZT) :=
  (gI 9 902 a0 σ).bind fun v1 =>
  some (v1, σ)
set_option maxHeartbeats 4000000 in
theorem m_X9_status {l : Launch} {G : ZG} (a0 : Nat) (σ : ZT) {out : (Int32 × ZT)} (hf : f_X9_status a0 σ = some out) : ZM l G yX9_status cX9_status 1 (some .int) [] 1 [.ref a0] σ (.returned (some (.int out.1))) out.2 := by
  refine ZM.of [(0, .ref a0)] rfl (Nat.le_of_ble_eq_true rfl) fun X (C : ZC G RX9 "status" cX9_status 1 (some .int) [] X 1) => ?_
  unfold f_X9_status at hf
  refine z_aload_n (q := 1) (i := 0) C 0 dX9_status_0 rfl rfl rfl ?_
  refine z_getI (q := 4) C flX9_97 dX9_status_1 hf rfl fun v1 hf => ?_
  exact z_ireturn C rfl dX9_status_4 (Option.some.inj hf)

noncomputable def f_X9_top (a0 : Nat) (σ : ZT) : Option (Int64 × ZT) :=
  (gL 9 903 a0 σ).bind fun v1 =>
  some (v1, σ)
set_option maxHeartbeats 4000000 in
theorem m_X9_top {l : Launch} {G : ZG} (a0 : Nat) (σ : ZT) {out : (Int64 × ZT)} (hf : f_X9_top a0 σ = some out) : ZM l G yX9_top cX9_top 1 (some .long) [] 1 [.ref a0] σ (.returned (some (.long out.1))) out.2 := by
  refine ZM.of [(0, .ref a0)] rfl (Nat.le_of_ble_eq_true rfl) fun X (C : ZC G RX9 "top" cX9_top 1 (some .long) [] X 1) => ?_
  unfold f_X9_top at hf
  refine z_aload_n (q := 1) (i := 0) C 0 dX9_top_0 rfl rfl rfl ?_
  refine z_getL (q := 4) C flX9_100 dX9_top_1 hf rfl fun v1 hf => ?_
  exact z_lreturn C rfl dX9_top_4 (Option.some.inj hf)

noncomputable def f_X9_bottom (a0 : Nat) (σ : ZT) : Option (Int64 × ZT) :=
  (gL 9 904 a0 σ).bind fun v1 =>
  some (v1, σ)
set_option maxHeartbeats 4000000 in
theorem m_X9_bottom {l : Launch} {G : ZG} (a0 : Nat) (σ : ZT) {out : (Int64 × ZT)} (hf : f_X9_bottom a0 σ = some out) : ZM l G yX9_bottom cX9_bottom 1 (some .long) [] 1 [.ref a0] σ (.returned (some (.long out.1))) out.2 := by
  refine ZM.of [(0, .ref a0)] rfl (Nat.le_of_ble_eq_true rfl) fun X (C : ZC G RX9 "bottom" cX9_bottom 1 (some .long) [] X 1) => ?_
  unfold f_X9_bottom at hf
  refine z_aload_n (q := 1) (i := 0) C 0 dX9_bottom_0 rfl rfl rfl ?_
  refine z_getL (q := 4) C flX9_17 dX9_bottom_1 hf rfl fun v1 hf => ?_
  exact z_lreturn C rfl dX9_bottom_4 (Option.some.inj hf)

noncomputable def f_X9_isTray_J14 (w0_14 : Int32) (σ : ZT) : Option (Int32 × ZT) :=
  (rz w0_14).bind fun z1 =>
  some (z1, σ)
noncomputable def f_X9_isTray_J13  (σ : ZT) : Option (Int32 × ZT) :=
  f_X9_isTray_J14 (0 : Int32) σ
noncomputable def f_X9_isTray (i0 : Int32) (σ : ZT) : Option (Int32 × ZT) :=
  if i0 < 0 then
  (f_X9_isTray_J13  σ)
  else
  (if i0 < (4 : Int32) then
  (f_X9_isTray_J14 (1 : Int32) σ)
  else
  (f_X9_isTray_J13  σ))
set_option maxHeartbeats 4000000 in
theorem m_X9_isTray {l : Launch} {G : ZG} (i0 : Int32) (σ : ZT) {out : (Int32 × ZT)} (hf : f_X9_isTray i0 σ = some out) : ZM l G yX9_isTray cX9_isTray 1 (some .boolean) [] 1 [.int i0] σ (.returned (some (.int out.1))) out.2 := by
  refine ZM.of [(0, .int i0)] rfl (Nat.le_of_ble_eq_true rfl) fun X (C : ZC G RX9 "isTray" cX9_isTray 1 (some .boolean) [] X 1) => ?_
  unfold f_X9_isTray at hf
  have j14_0 : ∀ (w0_14 : Int32) (σ : ZT), f_X9_isTray_J14 w0_14 σ = some out → ZW l G 1 X (ZQ G X (.returned (some (.int out.1))) out.2) σ 14 [] [.int w0_14] := by
    intro w0_14 σ hf
    unfold f_X9_isTray_J14 at hf
    refine z_rz C hf fun hn hf => ?_
    exact z_zreturn C rfl hn dX9_isTray_14 (Option.some.inj hf)
  have j13_0 : ∀  (σ : ZT), f_X9_isTray_J13  σ = some out → ZW l G 1 X (ZQ G X (.returned (some (.int out.1))) out.2) σ 13 [] [] := by
    intro  σ hf
    unfold f_X9_isTray_J13 at hf
    refine z_iconst (q := 14) C (0 : Int32) dX9_isTray_13 ki_0 rfl ?_
    exact j14_0 (0 : Int32) σ hf
  refine z_iload_n (q := 1) (i := 0) C 0 dX9_isTray_0 rfl rfl rfl ?_
  refine z_iflt (q := 4) (tgt := 13) C dX9_isTray_1 (by decide) rfl hf (fun c1 hf => ?_) (fun c1 hf => ?_)
  · refine z_lv [] rfl ?_
    exact j13_0  σ hf
  · refine z_iload_n (q := 5) (i := 0) C 0 dX9_isTray_4 rfl rfl rfl ?_
    refine z_iconst (q := 6) C (4 : Int32) dX9_isTray_5 ki_4 rfl ?_
    refine z_icmpge (q := 9) (tgt := 13) C dX9_isTray_6 (by decide) rfl hf (fun c6 hf => ?_) (fun c6 hf => ?_)
    · refine z_lv [] rfl ?_
      exact j13_0  σ hf
    · refine z_iconst (q := 10) C (1 : Int32) dX9_isTray_9 ki_1 rfl ?_
      refine z_goto (q := 14) C dX9_isTray_10 (by decide) ?_
      refine z_lv [] rfl ?_
      exact j14_0 (1 : Int32) σ hf

noncomputable def f_X9_is_J14 (w0_14 : Int32) (σ : ZT) : Option (Int32 × ZT) :=
  (rz w0_14).bind fun z1 =>
  some (z1, σ)
noncomputable def f_X9_is (a0 : Nat) (i1 : Int32) (σ : ZT) : Option (Int32 × ZT) :=
  (pI 9 902 a0 i1 σ).bind fun σ =>
  if i1 = 0 then
  (f_X9_is_J14 (1 : Int32) σ)
  else
  (f_X9_is_J14 (0 : Int32) σ)
set_option maxHeartbeats 4000000 in
theorem m_X9_is {l : Launch} {G : ZG} (a0 : Nat) (i1 : Int32) (σ : ZT) {out : (Int32 × ZT)} (hf : f_X9_is a0 i1 σ = some out) : ZM l G yX9_is cX9_is 2 (some .boolean) [] 1 [.ref a0, .int i1] σ (.returned (some (.int out.1))) out.2 := by
  refine ZM.of [(0, .ref a0), (1, .int i1)] rfl (Nat.le_of_ble_eq_true rfl) fun X (C : ZC G RX9 "is" cX9_is 2 (some .boolean) [] X 1) => ?_
  unfold f_X9_is at hf
  have j14_0 : ∀ (w0_14 : Int32) (σ : ZT), f_X9_is_J14 w0_14 σ = some out → ZW l G 2 X (ZQ G X (.returned (some (.int out.1))) out.2) σ 14 [] [.int w0_14] := by
    intro w0_14 σ hf
    unfold f_X9_is_J14 at hf
    refine z_rz C hf fun hn hf => ?_
    exact z_zreturn C rfl hn dX9_is_14 (Option.some.inj hf)
  refine z_aload_n (q := 1) (i := 0) C 0 dX9_is_0 rfl rfl rfl ?_
  refine z_iload_n (q := 2) (i := 1) C 1 dX9_is_1 rfl rfl rfl ?_
  refine z_putI (q := 5) C puX9_97 dX9_is_2 hf rfl fun σ hf => ?_
  refine z_iload_n (q := 6) (i := 1) C 1 dX9_is_5 rfl rfl rfl ?_
  refine z_ifne (q := 9) (tgt := 13) C dX9_is_6 (by decide) rfl hf (fun c6 hf => ?_) (fun c6 hf => ?_)
  · refine z_iconst (q := 14) C (0 : Int32) dX9_is_13 ki_0 rfl ?_
    refine z_lv [] rfl ?_
    exact j14_0 (0 : Int32) σ hf
  · refine z_iconst (q := 10) C (1 : Int32) dX9_is_9 ki_1 rfl ?_
    refine z_goto (q := 14) C dX9_is_10 (by decide) ?_
    refine z_lv [] rfl ?_
    exact j14_0 (1 : Int32) σ hf

noncomputable def f_X9_tray_L49 (c0_49 : Nat) (c1_49 : Int32) (c3_49 : Int32) (i_4 : Int32) (σ : ZT) : Option ((Int32 × ZT) ⊕ ZT) :=
  if i_4 < c3_49 then
  ((gR 9 907 c0_49 σ).bind fun v7 =>
  (stL v7 (((60 : Int32) * c1_49) + i_4) (0 : Int64) σ).bind fun σ =>
  some (.inl ((i_4 + (1 : Int32)), σ)))
  else
  (some (.inr σ))
noncomputable def f_X9_tray_J26 (a0_26 : Nat) (σ : ZT) : Option (Int32 × ZT) :=
  bnd2 (vc 9 a0_26 σ (f_X9_is a0_26 (1 : Int32) σ)) fun v10 σ =>
  (rz v10).bind fun z11 =>
  some (z11, σ)
noncomputable def f_X9_tray (a0 : Nat) (i1 : Int32) (i2 : Int32) (i3 : Int32) (σ : ZT) : Option (Int32 × ZT) :=
  bnd2 (f_X9_isTray i1 σ) fun v1 σ =>
  if v1 = 0 then
  (f_X9_tray_J26 a0 σ)
  else
  (if i2 < 0 then
  (f_X9_tray_J26 a0 σ)
  else
  (if (3 : Int32) < i2 then
  (f_X9_tray_J26 a0 σ)
  else
  (if i3 < 0 then
  (f_X9_tray_J26 a0 σ)
  else
  (if (60 : Int32) < i3 then
  (f_X9_tray_J26 a0 σ)
  else
  ((gR 9 905 a0 σ).bind fun v2 =>
  (stI v2 i1 i2 σ).bind fun σ =>
  (gR 9 906 a0 σ).bind fun v3 =>
  (stI v3 i1 i3 σ).bind fun σ =>
  (loopC (fun s : (Int32 × ZT) => f_X9_tray_L49 a0 i1 i3 s.1 s.2) ((0 : Int32), σ)).bind fun σ =>
  bnd2 (vc 9 a0 σ (f_X9_is a0 (0 : Int32) σ)) fun v8 σ =>
  (rz v8).bind fun z9 =>
  some (z9, σ))))))
set_option maxHeartbeats 4000000 in
theorem m_X9_tray {l : Launch} {G : ZG} (a0 : Nat) (i1 : Int32) (i2 : Int32) (i3 : Int32) (σ : ZT) {out : (Int32 × ZT)} (hf : f_X9_tray a0 i1 i2 i3 σ = some out) : ZM l G yX9_tray cX9_tray 5 (some .boolean) [] 2 [.ref a0, .int i1, .int i2, .int i3] σ (.returned (some (.int out.1))) out.2 := by
  refine ZM.of [(0, .ref a0), (1, .int i1), (2, .int i2), (3, .int i3)] rfl (Nat.le_of_ble_eq_true rfl) fun X (C : ZC G RX9 "tray" cX9_tray 5 (some .boolean) [] X 2) => ?_
  unfold f_X9_tray at hf
  have j26_0 : ∀ (a0_26 : Nat) (σ : ZT), f_X9_tray_J26 a0_26 σ = some out → ZW l G 5 X (ZQ G X (.returned (some (.int out.1))) out.2) σ 26 [(0, .ref a0_26)] [] := by
    intro a0_26 σ hf
    unfold f_X9_tray_J26 at hf
    refine z_aload_n (q := 27) (i := 0) C 0 dX9_tray_26 rfl rfl rfl ?_
    refine z_iconst (q := 28) C (1 : Int32) dX9_tray_27 ki_1 rfl ?_
    refine z_callVi (q := 31) (As := [.int (1 : Int32)]) C (fun o ho => m_X9_is _ _ _ ho) zk9 vvX9_110 cdX9_is pnX9 dX9_tray_28 rfl (by decide) (Nat.le_of_ble_eq_true rfl) hf rfl fun v8 σ hf => ?_
    refine z_rz C hf fun hn hf => ?_
    exact z_zreturn C rfl hn dX9_tray_31 (Option.some.inj hf)
  refine z_iload_n (q := 1) (i := 1) C 1 dX9_tray_0 rfl rfl rfl ?_
  refine z_callSi (q := 4) (As := [.int i1]) C (fun o ho => m_X9_isTray _ _ ho) vsX9_114 cdX9_isTray pnX9 dX9_tray_1 rfl (by decide) (Nat.le_of_ble_eq_true rfl) hf rfl fun v1 σ hf => ?_
  refine z_ifeq (q := 7) (tgt := 26) C dX9_tray_4 (by decide) rfl hf (fun c4 hf => ?_) (fun c4 hf => ?_)
  · refine z_lv [0] rfl ?_
    exact j26_0 a0 σ hf
  · refine z_iload_n (q := 8) (i := 2) C 2 dX9_tray_7 rfl rfl rfl ?_
    refine z_iflt (q := 11) (tgt := 26) C dX9_tray_8 (by decide) rfl hf (fun c8 hf => ?_) (fun c8 hf => ?_)
    · refine z_lv [0] rfl ?_
      exact j26_0 a0 σ hf
    · refine z_iload_n (q := 12) (i := 2) C 2 dX9_tray_11 rfl rfl rfl ?_
      refine z_iconst (q := 13) C (3 : Int32) dX9_tray_12 ki_3 rfl ?_
      refine z_icmpgt (q := 16) (tgt := 26) C dX9_tray_13 (by decide) rfl hf (fun c13 hf => ?_) (fun c13 hf => ?_)
      · refine z_lv [0] rfl ?_
        exact j26_0 a0 σ hf
      · refine z_iload_n (q := 17) (i := 3) C 3 dX9_tray_16 rfl rfl rfl ?_
        refine z_iflt (q := 20) (tgt := 26) C dX9_tray_17 (by decide) rfl hf (fun c17 hf => ?_) (fun c17 hf => ?_)
        · refine z_lv [0] rfl ?_
          exact j26_0 a0 σ hf
        · refine z_iload_n (q := 21) (i := 3) C 3 dX9_tray_20 rfl rfl rfl ?_
          refine z_bipush (q := 23) C (60 : Int32) dX9_tray_21 kb_60 rfl ?_
          refine z_icmple (q := 26) (tgt := 32) C dX9_tray_23 (by decide) rfl hf (fun c23 hf => ?_) (fun c23 hf => ?_)
          · refine z_aload_n (q := 33) (i := 0) C 0 dX9_tray_32 rfl rfl rfl ?_
            refine z_getR (q := 36) C flX9_21 dX9_tray_33 hf rfl fun v2 hf => ?_
            refine z_iload_n (q := 37) (i := 1) C 1 dX9_tray_36 rfl rfl rfl ?_
            refine z_iload_n (q := 38) (i := 2) C 2 dX9_tray_37 rfl rfl rfl ?_
            refine z_iast (q := 39) C dX9_tray_38 hf rfl fun σ hf => ?_
            refine z_aload_n (q := 40) (i := 0) C 0 dX9_tray_39 rfl rfl rfl ?_
            refine z_getR (q := 43) C flX9_24 dX9_tray_40 hf rfl fun v3 hf => ?_
            refine z_iload_n (q := 44) (i := 1) C 1 dX9_tray_43 rfl rfl rfl ?_
            refine z_iload_n (q := 45) (i := 3) C 3 dX9_tray_44 rfl rfl rfl ?_
            refine z_iast (q := 46) C dX9_tray_45 hf rfl fun σ hf => ?_
            refine z_iconst (q := 47) C (0 : Int32) dX9_tray_46 ki_0 rfl ?_
            refine z_istore (q := 49) (i := 4) (lv' := [(4, .int (0 : Int32)), (0, .ref a0), (1, .int i1), (2, .int i2), (3, .int i3)]) C dX9_tray_47 (by decide) rfl rfl ?_
            refine z_lv [1, 2, 4, 0] rfl ?_
            obtain ⟨r1, hr1, hk1⟩ := Option.bind_eq_some_iff.mp hf
            refine loopC_ind (P := fun s => ZW l G 5 X (ZQ G X (.returned (some (.int out.1))) out.2) s.2 49 [(0, .ref a0), (1, .int i1), (3, .int i3), (4, .int s.1)] []) (fun s x1 hf hx1 => ?_) hr1
            obtain ⟨i_4, σ⟩ := s
            unfold f_X9_tray_L49 at hf
            try dsimp only at hf
            try dsimp only
            refine z_iload (q := 51) (i := 4) C 3 dX9_tray_49 rfl rfl ?_
            refine z_iload_n (q := 52) (i := 3) C 2 dX9_tray_51 rfl rfl rfl ?_
            refine z_icmpge (q := 55) (tgt := 74) C dX9_tray_52 (by decide) rfl hf (fun c52 hf => ?_) (fun c52 hf => ?_)
            · have e1 := zl_x hf hx1
              have hf := hk1
              rw [← e1] at hf
              try dsimp only at hf
              refine z_aload_n (q := 75) (i := 0) C 0 dX9_tray_74 rfl rfl rfl ?_
              refine z_iconst (q := 76) C (0 : Int32) dX9_tray_75 ki_0 rfl ?_
              refine z_callVi (q := 79) (As := [.int (0 : Int32)]) C (fun o ho => m_X9_is _ _ _ ho) zk9 vvX9_110 cdX9_is pnX9 dX9_tray_76 rfl (by decide) (Nat.le_of_ble_eq_true rfl) hf rfl fun v5 σ hf => ?_
              refine z_rz C hf fun hn hf => ?_
              exact z_zreturn C rfl hn dX9_tray_79 (Option.some.inj hf)
            · refine z_aload_n (q := 56) (i := 0) C 0 dX9_tray_55 rfl rfl rfl ?_
              refine z_getR (q := 59) C flX9_27 dX9_tray_56 hf rfl fun v7 hf => ?_
              refine z_bipush (q := 61) C (60 : Int32) dX9_tray_59 kb_60 rfl ?_
              refine z_iload_n (q := 62) (i := 1) C 1 dX9_tray_61 rfl rfl rfl ?_
              refine z_imul (q := 63) C dX9_tray_62 rfl ?_
              refine z_iload (q := 65) (i := 4) C 3 dX9_tray_63 rfl rfl ?_
              refine z_iadd (q := 66) C dX9_tray_65 rfl ?_
              refine z_lconst (q := 67) C (0 : Int64) dX9_tray_66 rfl rfl ?_
              refine z_last (q := 68) C dX9_tray_67 hf rfl fun σ hf => ?_
              refine z_iinc (q := 71) (i := 4) (lv' := [(4, .int (i_4 + (1 : Int32))), (0, .ref a0), (1, .int i1), (3, .int i3)]) C 3 (i_4 + (1 : Int32)) dX9_tray_68 rfl (kn_1 _) (by decide) rfl rfl ?_
              refine z_goto (q := 49) C dX9_tray_71 (by decide) ?_
              refine z_lv [1, 2, 3, 0] rfl ?_
              have hc1 := zl_c hf hx1
              exact hc1
          · refine z_lv [0] rfl ?_
            exact j26_0 a0 σ hf

noncomputable def f_X9_wrongPlace_J44 (w0_44 : Int32) (σ : ZT) : Option (Int32 × ZT) :=
  some (w0_44, σ)
noncomputable def f_X9_wrongPlace_J39  (σ : ZT) : Option (Int32 × ZT) :=
  f_X9_wrongPlace_J44 (3 : Int32) σ
noncomputable def f_X9_wrongPlace (a0 : Nat) (i1 : Int32) (i2 : Int32) (σ : ZT) : Option (Int32 × ZT) :=
  bnd2 (f_X9_isTray i1 σ) fun v1 σ =>
  if v1 = 0 then
  (f_X9_wrongPlace_J44 (1 : Int32) σ)
  else
  ((gR 9 906 a0 σ).bind fun v2 =>
  (ldI 0 v2 i1 σ).bind fun v3 =>
  if v3 = (-1 : Int32) then
  (f_X9_wrongPlace_J44 (2 : Int32) σ)
  else
  (if i2 < 0 then
  (f_X9_wrongPlace_J39  σ)
  else
  ((gR 9 906 a0 σ).bind fun v4 =>
  (ldI 0 v4 i1 σ).bind fun v5 =>
  if i2 < v5 then
  (f_X9_wrongPlace_J44 (0 : Int32) σ)
  else
  (f_X9_wrongPlace_J39  σ))))
set_option maxHeartbeats 4000000 in
theorem m_X9_wrongPlace {l : Launch} {G : ZG} (a0 : Nat) (i1 : Int32) (i2 : Int32) (σ : ZT) {out : (Int32 × ZT)} (hf : f_X9_wrongPlace a0 i1 i2 σ = some out) : ZM l G yX9_wrongPlace cX9_wrongPlace 3 (some .int) [] 2 [.ref a0, .int i1, .int i2] σ (.returned (some (.int out.1))) out.2 := by
  refine ZM.of [(0, .ref a0), (1, .int i1), (2, .int i2)] rfl (Nat.le_of_ble_eq_true rfl) fun X (C : ZC G RX9 "wrongPlace" cX9_wrongPlace 3 (some .int) [] X 2) => ?_
  unfold f_X9_wrongPlace at hf
  have j44_0 : ∀ (w0_44 : Int32) (σ : ZT), f_X9_wrongPlace_J44 w0_44 σ = some out → ZW l G 3 X (ZQ G X (.returned (some (.int out.1))) out.2) σ 44 [] [.int w0_44] := by
    intro w0_44 σ hf
    unfold f_X9_wrongPlace_J44 at hf
    exact z_ireturn C rfl dX9_wrongPlace_44 (Option.some.inj hf)
  have j39_0 : ∀  (σ : ZT), f_X9_wrongPlace_J39  σ = some out → ZW l G 3 X (ZQ G X (.returned (some (.int out.1))) out.2) σ 39 [] [] := by
    intro  σ hf
    unfold f_X9_wrongPlace_J39 at hf
    refine z_iconst (q := 40) C (3 : Int32) dX9_wrongPlace_39 ki_3 rfl ?_
    refine z_goto (q := 44) C dX9_wrongPlace_40 (by decide) ?_
    exact j44_0 (3 : Int32) σ hf
  refine z_iload_n (q := 1) (i := 1) C 1 dX9_wrongPlace_0 rfl rfl rfl ?_
  refine z_callSi (q := 4) (As := [.int i1]) C (fun o ho => m_X9_isTray _ _ ho) vsX9_114 cdX9_isTray pnX9 dX9_wrongPlace_1 rfl (by decide) (Nat.le_of_ble_eq_true rfl) hf rfl fun v1 σ hf => ?_
  refine z_ifne (q := 7) (tgt := 11) C dX9_wrongPlace_4 (by decide) rfl hf (fun c4 hf => ?_) (fun c4 hf => ?_)
  · refine z_aload_n (q := 12) (i := 0) C 0 dX9_wrongPlace_11 rfl rfl rfl ?_
    refine z_getR (q := 15) C flX9_24 dX9_wrongPlace_12 hf rfl fun v2 hf => ?_
    refine z_iload_n (q := 16) (i := 1) C 1 dX9_wrongPlace_15 rfl rfl rfl ?_
    refine z_iald (q := 17) C dX9_wrongPlace_16 hf rfl fun v3 hf => ?_
    refine z_iconst (q := 18) C (-1 : Int32) dX9_wrongPlace_17 ki_m1 rfl ?_
    refine z_icmpne (q := 21) (tgt := 25) C dX9_wrongPlace_18 (by decide) rfl hf (fun c18 hf => ?_) (fun c18 hf => ?_)
    · refine z_iload_n (q := 26) (i := 2) C 2 dX9_wrongPlace_25 rfl rfl rfl ?_
      refine z_iflt (q := 29) (tgt := 39) C dX9_wrongPlace_26 (by decide) rfl hf (fun c26 hf => ?_) (fun c26 hf => ?_)
      · refine z_lv [] rfl ?_
        exact j39_0  σ hf
      · refine z_iload_n (q := 30) (i := 2) C 2 dX9_wrongPlace_29 rfl rfl rfl ?_
        refine z_aload_n (q := 31) (i := 0) C 0 dX9_wrongPlace_30 rfl rfl rfl ?_
        refine z_getR (q := 34) C flX9_24 dX9_wrongPlace_31 hf rfl fun v4 hf => ?_
        refine z_iload_n (q := 35) (i := 1) C 1 dX9_wrongPlace_34 rfl rfl rfl ?_
        refine z_iald (q := 36) C dX9_wrongPlace_35 hf rfl fun v5 hf => ?_
        refine z_icmplt (q := 39) (tgt := 43) C dX9_wrongPlace_36 (by decide) rfl hf (fun c36 hf => ?_) (fun c36 hf => ?_)
        · refine z_iconst (q := 44) C (0 : Int32) dX9_wrongPlace_43 ki_0 rfl ?_
          refine z_lv [] rfl ?_
          exact j44_0 (0 : Int32) σ hf
        · refine z_lv [] rfl ?_
          exact j39_0  σ hf
    · refine z_iconst (q := 22) C (2 : Int32) dX9_wrongPlace_21 ki_2 rfl ?_
      refine z_goto (q := 44) C dX9_wrongPlace_22 (by decide) ?_
      refine z_lv [] rfl ?_
      exact j44_0 (2 : Int32) σ hf
  · refine z_iconst (q := 8) C (1 : Int32) dX9_wrongPlace_7 ki_1 rfl ?_
    refine z_goto (q := 44) C dX9_wrongPlace_8 (by decide) ?_
    refine z_lv [] rfl ?_
    exact j44_0 (1 : Int32) σ hf

noncomputable def f_X9_cut_J35 (w0_35 : Int64) (σ : ZT) : Option (Int64 × ZT) :=
  some (w0_35, σ)
noncomputable def f_X9_cut (l0 : Int64) (i2 : Int32) (σ : ZT) : Option (Int64 × ZT) :=
  if i2 = 0 then
  (f_X9_cut_J35 (((l0.toInt32).toInt8.toInt32).toInt64) σ)
  else
  (if i2 = (1 : Int32) then
  (f_X9_cut_J35 (((l0.toInt32).toInt16.toInt32).toInt64) σ)
  else
  (if i2 = (2 : Int32) then
  (f_X9_cut_J35 ((l0.toInt32).toInt64) σ)
  else
  (f_X9_cut_J35 l0 σ)))
set_option maxHeartbeats 4000000 in
theorem m_X9_cut {l : Launch} {G : ZG} (l0 : Int64) (i2 : Int32) (σ : ZT) {out : (Int64 × ZT)} (hf : f_X9_cut l0 i2 σ = some out) : ZM l G yX9_cut cX9_cut 3 (some .long) [] 1 [.long l0, .int i2] σ (.returned (some (.long out.1))) out.2 := by
  refine ZM.of [(0, .long l0), (2, .int i2)] rfl (Nat.le_of_ble_eq_true rfl) fun X (C : ZC G RX9 "cut" cX9_cut 3 (some .long) [] X 1) => ?_
  unfold f_X9_cut at hf
  have j35_0 : ∀ (w0_35 : Int64) (σ : ZT), f_X9_cut_J35 w0_35 σ = some out → ZW l G 3 X (ZQ G X (.returned (some (.long out.1))) out.2) σ 35 [] [.long w0_35] := by
    intro w0_35 σ hf
    unfold f_X9_cut_J35 at hf
    exact z_lreturn C rfl dX9_cut_35 (Option.some.inj hf)
  refine z_iload_n (q := 1) (i := 2) C 1 dX9_cut_0 rfl rfl rfl ?_
  refine z_ifne (q := 4) (tgt := 11) C dX9_cut_1 (by decide) rfl hf (fun c1 hf => ?_) (fun c1 hf => ?_)
  · refine z_iload_n (q := 12) (i := 2) C 1 dX9_cut_11 rfl rfl rfl ?_
    refine z_iconst (q := 13) C (1 : Int32) dX9_cut_12 ki_1 rfl ?_
    refine z_icmpne (q := 16) (tgt := 23) C dX9_cut_13 (by decide) rfl hf (fun c13 hf => ?_) (fun c13 hf => ?_)
    · refine z_iload_n (q := 24) (i := 2) C 1 dX9_cut_23 rfl rfl rfl ?_
      refine z_iconst (q := 25) C (2 : Int32) dX9_cut_24 ki_2 rfl ?_
      refine z_icmpne (q := 28) (tgt := 34) C dX9_cut_25 (by decide) rfl hf (fun c25 hf => ?_) (fun c25 hf => ?_)
      · refine z_lload_n (q := 35) (i := 0) C 0 dX9_cut_34 rfl rfl rfl ?_
        refine z_lv [] rfl ?_
        exact j35_0 l0 σ hf
      · refine z_lload_n (q := 29) (i := 0) C 0 dX9_cut_28 rfl rfl rfl ?_
        refine z_l2i (q := 30) C dX9_cut_29 rfl ?_
        refine z_i2l (q := 31) C dX9_cut_30 rfl ?_
        refine z_goto (q := 35) C dX9_cut_31 (by decide) ?_
        refine z_lv [] rfl ?_
        exact j35_0 ((l0.toInt32).toInt64) σ hf
    · refine z_lload_n (q := 17) (i := 0) C 0 dX9_cut_16 rfl rfl rfl ?_
      refine z_l2i (q := 18) C dX9_cut_17 rfl ?_
      refine z_i2s (q := 19) C dX9_cut_18 rfl ?_
      refine z_i2l (q := 20) C dX9_cut_19 rfl ?_
      refine z_goto (q := 35) C dX9_cut_20 (by decide) ?_
      refine z_lv [] rfl ?_
      exact j35_0 (((l0.toInt32).toInt16.toInt32).toInt64) σ hf
  · refine z_lload_n (q := 5) (i := 0) C 0 dX9_cut_4 rfl rfl rfl ?_
    refine z_l2i (q := 6) C dX9_cut_5 rfl ?_
    refine z_i2b (q := 7) C dX9_cut_6 rfl ?_
    refine z_i2l (q := 8) C dX9_cut_7 rfl ?_
    refine z_goto (q := 35) C dX9_cut_8 (by decide) ?_
    refine z_lv [] rfl ?_
    exact j35_0 (((l0.toInt32).toInt8.toInt32).toInt64) σ hf

noncomputable def f_X9_write_J34 (a0_34 : Nat) (i5_34 : Int32) (σ : ZT) : Option (Int32 × ZT) :=
  bnd2 (vc 9 a0_34 σ (f_X9_is a0_34 i5_34 σ)) fun v6 σ =>
  (rz v6).bind fun z7 =>
  some (z7, σ)
noncomputable def f_X9_write (a0 : Nat) (i1 : Int32) (i2 : Int32) (l3 : Int64) (σ : ZT) : Option (Int32 × ZT) :=
  bnd2 (vc 9 a0 σ (f_X9_wrongPlace a0 i1 i2 σ)) fun v1 σ =>
  if v1 = 0 then
  ((gR 9 907 a0 σ).bind fun v2 =>
  (gR 9 905 a0 σ).bind fun v3 =>
  (ldI 0 v3 i1 σ).bind fun v4 =>
  bnd2 (f_X9_cut l3 v4 σ) fun v5 σ =>
  (stL v2 (((60 : Int32) * i1) + i2) v5 σ).bind fun σ =>
  f_X9_write_J34 a0 v1 σ)
  else
  (f_X9_write_J34 a0 v1 σ)
set_option maxHeartbeats 4000000 in
theorem m_X9_write {l : Launch} {G : ZG} (a0 : Nat) (i1 : Int32) (i2 : Int32) (l3 : Int64) (σ : ZT) {out : (Int32 × ZT)} (hf : f_X9_write a0 i1 i2 l3 σ = some out) : ZM l G yX9_write cX9_write 6 (some .boolean) [] 3 [.ref a0, .int i1, .int i2, .long l3] σ (.returned (some (.int out.1))) out.2 := by
  refine ZM.of [(0, .ref a0), (1, .int i1), (2, .int i2), (3, .long l3)] rfl (Nat.le_of_ble_eq_true rfl) fun X (C : ZC G RX9 "write" cX9_write 6 (some .boolean) [] X 3) => ?_
  unfold f_X9_write at hf
  have j34_0 : ∀ (a0_34 : Nat) (i5_34 : Int32) (σ : ZT), f_X9_write_J34 a0_34 i5_34 σ = some out → ZW l G 6 X (ZQ G X (.returned (some (.int out.1))) out.2) σ 34 [(0, .ref a0_34), (5, .int i5_34)] [] := by
    intro a0_34 i5_34 σ hf
    unfold f_X9_write_J34 at hf
    refine z_aload_n (q := 35) (i := 0) C 0 dX9_write_34 rfl rfl rfl ?_
    refine z_iload (q := 37) (i := 5) C 1 dX9_write_35 rfl rfl ?_
    refine z_callVi (q := 40) (As := [.int i5_34]) C (fun o ho => m_X9_is _ _ _ ho) zk9 vvX9_110 cdX9_is pnX9 dX9_write_37 rfl (by decide) (Nat.le_of_ble_eq_true rfl) hf rfl fun v6 σ hf => ?_
    refine z_rz C hf fun hn hf => ?_
    exact z_zreturn C rfl hn dX9_write_40 (Option.some.inj hf)
  refine z_aload_n (q := 1) (i := 0) C 0 dX9_write_0 rfl rfl rfl ?_
  refine z_iload_n (q := 2) (i := 1) C 1 dX9_write_1 rfl rfl rfl ?_
  refine z_iload_n (q := 3) (i := 2) C 2 dX9_write_2 rfl rfl rfl ?_
  refine z_callVi (q := 6) (As := [.int i1, .int i2]) C (fun o ho => m_X9_wrongPlace _ _ _ _ ho) zk9 vvX9_117 cdX9_wrongPlace pnX9 dX9_write_3 rfl (by decide) (Nat.le_of_ble_eq_true rfl) hf rfl fun v1 σ hf => ?_
  refine z_istore (q := 8) (i := 5) (lv' := [(5, .int v1), (0, .ref a0), (1, .int i1), (2, .int i2), (3, .long l3)]) C dX9_write_6 (by decide) rfl rfl ?_
  refine z_iload (q := 10) (i := 5) C 0 dX9_write_8 rfl rfl ?_
  refine z_ifne (q := 13) (tgt := 34) C dX9_write_10 (by decide) rfl hf (fun c10 hf => ?_) (fun c10 hf => ?_)
  · refine z_lv [1, 0] rfl ?_
    exact j34_0 a0 v1 σ hf
  · refine z_aload_n (q := 14) (i := 0) C 1 dX9_write_13 rfl rfl rfl ?_
    refine z_getR (q := 17) C flX9_27 dX9_write_14 hf rfl fun v2 hf => ?_
    refine z_bipush (q := 19) C (60 : Int32) dX9_write_17 kb_60 rfl ?_
    refine z_iload_n (q := 20) (i := 1) C 2 dX9_write_19 rfl rfl rfl ?_
    refine z_imul (q := 21) C dX9_write_20 rfl ?_
    refine z_iload_n (q := 22) (i := 2) C 3 dX9_write_21 rfl rfl rfl ?_
    refine z_iadd (q := 23) C dX9_write_22 rfl ?_
    refine z_lload_n (q := 24) (i := 3) C 4 dX9_write_23 rfl rfl rfl ?_
    refine z_aload_n (q := 25) (i := 0) C 1 dX9_write_24 rfl rfl rfl ?_
    refine z_getR (q := 28) C flX9_21 dX9_write_25 hf rfl fun v3 hf => ?_
    refine z_iload_n (q := 29) (i := 1) C 2 dX9_write_28 rfl rfl rfl ?_
    refine z_iald (q := 30) C dX9_write_29 hf rfl fun v4 hf => ?_
    refine z_callSl (q := 33) (As := [.long l3, .int v4]) C (fun o ho => m_X9_cut _ _ _ ho) vsX9_121 cdX9_cut pnX9 dX9_write_30 rfl (by decide) (Nat.le_of_ble_eq_true rfl) hf rfl fun v5 σ hf => ?_
    refine z_last (q := 34) C dX9_write_33 hf rfl fun σ hf => ?_
    refine z_lv [1, 0] rfl ?_
    exact j34_0 a0 v1 σ hf

noncomputable def f_X9_read_J34 (w0_34 : Int64) (σ : ZT) : Option (Int64 × ZT) :=
  some (w0_34, σ)
noncomputable def f_X9_read (a0 : Nat) (i1 : Int32) (i2 : Int32) (σ : ZT) : Option (Int64 × ZT) :=
  bnd2 (vc 9 a0 σ (f_X9_wrongPlace a0 i1 i2 σ)) fun v1 σ =>
  (pI 9 902 a0 v1 σ).bind fun σ =>
  (gI 9 902 a0 σ).bind fun v2 =>
  if 0 < v2 then
  (f_X9_read_J34 (-1 : Int64) σ)
  else
  ((gR 9 907 a0 σ).bind fun v3 =>
  (ldL v3 (((60 : Int32) * i1) + i2) σ).bind fun v4 =>
  f_X9_read_J34 v4 σ)
set_option maxHeartbeats 4000000 in
theorem m_X9_read {l : Launch} {G : ZG} (a0 : Nat) (i1 : Int32) (i2 : Int32) (σ : ZT) {out : (Int64 × ZT)} (hf : f_X9_read a0 i1 i2 σ = some out) : ZM l G yX9_read cX9_read 3 (some .long) [] 3 [.ref a0, .int i1, .int i2] σ (.returned (some (.long out.1))) out.2 := by
  refine ZM.of [(0, .ref a0), (1, .int i1), (2, .int i2)] rfl (Nat.le_of_ble_eq_true rfl) fun X (C : ZC G RX9 "read" cX9_read 3 (some .long) [] X 3) => ?_
  unfold f_X9_read at hf
  have j34_0 : ∀ (w0_34 : Int64) (σ : ZT), f_X9_read_J34 w0_34 σ = some out → ZW l G 3 X (ZQ G X (.returned (some (.long out.1))) out.2) σ 34 [] [.long w0_34] := by
    intro w0_34 σ hf
    unfold f_X9_read_J34 at hf
    exact z_lreturn C rfl dX9_read_34 (Option.some.inj hf)
  refine z_aload_n (q := 1) (i := 0) C 0 dX9_read_0 rfl rfl rfl ?_
  refine z_aload_n (q := 2) (i := 0) C 0 dX9_read_1 rfl rfl rfl ?_
  refine z_iload_n (q := 3) (i := 1) C 1 dX9_read_2 rfl rfl rfl ?_
  refine z_iload_n (q := 4) (i := 2) C 2 dX9_read_3 rfl rfl rfl ?_
  refine z_callVi (q := 7) (As := [.int i1, .int i2]) C (fun o ho => m_X9_wrongPlace _ _ _ _ ho) zk9 vvX9_117 cdX9_wrongPlace pnX9 dX9_read_4 rfl (by decide) (Nat.le_of_ble_eq_true rfl) hf rfl fun v1 σ hf => ?_
  refine z_putI (q := 10) C puX9_97 dX9_read_7 hf rfl fun σ hf => ?_
  refine z_aload_n (q := 11) (i := 0) C 0 dX9_read_10 rfl rfl rfl ?_
  refine z_getI (q := 14) C flX9_97 dX9_read_11 hf rfl fun v2 hf => ?_
  refine z_ifle (q := 17) (tgt := 23) C dX9_read_14 (by decide) rfl hf (fun c14 hf => ?_) (fun c14 hf => ?_)
  · refine z_aload_n (q := 24) (i := 0) C 0 dX9_read_23 rfl rfl rfl ?_
    refine z_getR (q := 27) C flX9_27 dX9_read_24 hf rfl fun v3 hf => ?_
    refine z_bipush (q := 29) C (60 : Int32) dX9_read_27 kb_60 rfl ?_
    refine z_iload_n (q := 30) (i := 1) C 1 dX9_read_29 rfl rfl rfl ?_
    refine z_imul (q := 31) C dX9_read_30 rfl ?_
    refine z_iload_n (q := 32) (i := 2) C 2 dX9_read_31 rfl rfl rfl ?_
    refine z_iadd (q := 33) C dX9_read_32 rfl ?_
    refine z_lald (q := 34) C dX9_read_33 hf rfl fun v4 hf => ?_
    refine z_lv [] rfl ?_
    exact j34_0 v4 σ hf
  · refine z_ldc2 (q := 20) C q1789 dX9_read_17 rfl ?_
    refine z_goto (q := 34) C dX9_read_20 (by decide) ?_
    refine z_lv [] rfl ?_
    exact j34_0 (-1 : Int64) σ hf

noncomputable def f_X9_pour_J143_118 (a0_143 : Nat) (i1_143 : Int32) (i2_143 : Int32) (i3_143 : Int32) (i4_143 : Int32) (i5_143 : Int32) (i6_143 : Int32) (w0_143 : Int32) (σ : ZT) : Option ((Int32 × ZT) ⊕ ZT) :=
  (gR 9 907 a0_143 σ).bind fun v18 =>
  (gR 9 907 a0_143 σ).bind fun v19 =>
  (ldL v19 ((((60 : Int32) * i1_143) + i2_143) + w0_143) σ).bind fun v20 =>
  (stL v18 ((((60 : Int32) * i3_143) + i4_143) + w0_143) v20 σ).bind fun σ =>
  some (.inl ((i6_143 + (1 : Int32)), σ))
noncomputable def f_X9_pour_L118 (c0_118 : Nat) (c1_118 : Int32) (c2_118 : Int32) (c3_118 : Int32) (c4_118 : Int32) (c5_118 : Int32) (i_15 : Int32) (σ : ZT) : Option ((Int32 × ZT) ⊕ ZT) :=
  if i_15 < c5_118 then
  (if c2_118 < c4_118 then
  (f_X9_pour_J143_118 c0_118 c1_118 c2_118 c3_118 c4_118 c5_118 i_15 ((c5_118 - (1 : Int32)) - i_15) σ)
  else
  (f_X9_pour_J143_118 c0_118 c1_118 c2_118 c3_118 c4_118 c5_118 i_15 i_15 σ))
  else
  (some (.inr σ))
noncomputable def f_X9_pour_J28 (a0_28 : Nat) (σ : ZT) : Option (Int32 × ZT) :=
  bnd2 (vc 9 a0_28 σ (f_X9_is a0_28 (1 : Int32) σ)) fun v25 σ =>
  (rz v25).bind fun z26 =>
  some (z26, σ)
noncomputable def f_X9_pour_J54 (a0_54 : Nat) (σ : ZT) : Option (Int32 × ZT) :=
  bnd2 (vc 9 a0_54 σ (f_X9_is a0_54 (2 : Int32) σ)) fun v27 σ =>
  (rz v27).bind fun z28 =>
  some (z28, σ)
noncomputable def f_X9_pour_J109 (a0_109 : Nat) (σ : ZT) : Option (Int32 × ZT) :=
  bnd2 (vc 9 a0_109 σ (f_X9_is a0_109 (3 : Int32) σ)) fun v29 σ =>
  (rz v29).bind fun z30 =>
  some (z30, σ)
noncomputable def f_X9_pour (a0 : Nat) (i1 : Int32) (i2 : Int32) (i3 : Int32) (i4 : Int32) (i5 : Int32) (σ : ZT) : Option (Int32 × ZT) :=
  bnd2 (f_X9_isTray i1 σ) fun v1 σ =>
  if v1 = 0 then
  (f_X9_pour_J28 a0 σ)
  else
  (bnd2 (f_X9_isTray i3 σ) fun v2 σ =>
  if v2 = 0 then
  (f_X9_pour_J28 a0 σ)
  else
  (if i2 < 0 then
  (f_X9_pour_J28 a0 σ)
  else
  (if i4 < 0 then
  (f_X9_pour_J28 a0 σ)
  else
  (if i5 < 0 then
  (f_X9_pour_J28 a0 σ)
  else
  ((gR 9 906 a0 σ).bind fun v3 =>
  (ldI 0 v3 i1 σ).bind fun v4 =>
  if v4 = (-1 : Int32) then
  (f_X9_pour_J54 a0 σ)
  else
  ((gR 9 906 a0 σ).bind fun v5 =>
  (ldI 0 v5 i3 σ).bind fun v6 =>
  if v6 = (-1 : Int32) then
  (f_X9_pour_J54 a0 σ)
  else
  ((gR 9 905 a0 σ).bind fun v7 =>
  (ldI 0 v7 i1 σ).bind fun v8 =>
  (gR 9 905 a0 σ).bind fun v9 =>
  (ldI 0 v9 i3 σ).bind fun v10 =>
  if v8 = v10 then
  ((gR 9 906 a0 σ).bind fun v11 =>
  (ldI 0 v11 i1 σ).bind fun v12 =>
  if (v12 - i2) < i5 then
  (f_X9_pour_J109 a0 σ)
  else
  ((gR 9 906 a0 σ).bind fun v13 =>
  (ldI 0 v13 i3 σ).bind fun v14 =>
  if (v14 - i4) < i5 then
  (f_X9_pour_J109 a0 σ)
  else
  ((loopC (fun s : (Int32 × ZT) => f_X9_pour_L118 a0 i1 i2 i3 i4 i5 s.1 s.2) ((0 : Int32), σ)).bind fun σ =>
  bnd2 (vc 9 a0 σ (f_X9_is a0 (0 : Int32) σ)) fun v21 σ =>
  (rz v21).bind fun z22 =>
  some (z22, σ))))
  else
  (bnd2 (vc 9 a0 σ (f_X9_is a0 (8 : Int32) σ)) fun v23 σ =>
  (rz v23).bind fun z24 =>
  some (z24, σ)))))))))
set_option maxHeartbeats 4000000 in
theorem m_X9_pour {l : Launch} {G : ZG} (a0 : Nat) (i1 : Int32) (i2 : Int32) (i3 : Int32) (i4 : Int32) (i5 : Int32) (σ : ZT) {out : (Int32 × ZT)} (hf : f_X9_pour a0 i1 i2 i3 i4 i5 σ = some out) : ZM l G yX9_pour cX9_pour 8 (some .boolean) [] 2 [.ref a0, .int i1, .int i2, .int i3, .int i4, .int i5] σ (.returned (some (.int out.1))) out.2 := by
  refine ZM.of [(0, .ref a0), (1, .int i1), (2, .int i2), (3, .int i3), (4, .int i4), (5, .int i5)] rfl (Nat.le_of_ble_eq_true rfl) fun X (C : ZC G RX9 "pour" cX9_pour 8 (some .boolean) [] X 2) => ?_
  unfold f_X9_pour at hf
  have j109_0 : ∀ (a0_109 : Nat) (σ : ZT), f_X9_pour_J109 a0_109 σ = some out → ZW l G 8 X (ZQ G X (.returned (some (.int out.1))) out.2) σ 109 [(0, .ref a0_109)] [] := by
    intro a0_109 σ hf
    unfold f_X9_pour_J109 at hf
    refine z_aload_n (q := 110) (i := 0) C 0 dX9_pour_109 rfl rfl rfl ?_
    refine z_iconst (q := 111) C (3 : Int32) dX9_pour_110 ki_3 rfl ?_
    refine z_callVi (q := 114) (As := [.int (3 : Int32)]) C (fun o ho => m_X9_is _ _ _ ho) zk9 vvX9_110 cdX9_is pnX9 dX9_pour_111 rfl (by decide) (Nat.le_of_ble_eq_true rfl) hf rfl fun v27 σ hf => ?_
    refine z_rz C hf fun hn hf => ?_
    exact z_zreturn C rfl hn dX9_pour_114 (Option.some.inj hf)
  have j54_0 : ∀ (a0_54 : Nat) (σ : ZT), f_X9_pour_J54 a0_54 σ = some out → ZW l G 8 X (ZQ G X (.returned (some (.int out.1))) out.2) σ 54 [(0, .ref a0_54)] [] := by
    intro a0_54 σ hf
    unfold f_X9_pour_J54 at hf
    refine z_aload_n (q := 55) (i := 0) C 0 dX9_pour_54 rfl rfl rfl ?_
    refine z_iconst (q := 56) C (2 : Int32) dX9_pour_55 ki_2 rfl ?_
    refine z_callVi (q := 59) (As := [.int (2 : Int32)]) C (fun o ho => m_X9_is _ _ _ ho) zk9 vvX9_110 cdX9_is pnX9 dX9_pour_56 rfl (by decide) (Nat.le_of_ble_eq_true rfl) hf rfl fun v25 σ hf => ?_
    refine z_rz C hf fun hn hf => ?_
    exact z_zreturn C rfl hn dX9_pour_59 (Option.some.inj hf)
  have j28_0 : ∀ (a0_28 : Nat) (σ : ZT), f_X9_pour_J28 a0_28 σ = some out → ZW l G 8 X (ZQ G X (.returned (some (.int out.1))) out.2) σ 28 [(0, .ref a0_28)] [] := by
    intro a0_28 σ hf
    unfold f_X9_pour_J28 at hf
    refine z_aload_n (q := 29) (i := 0) C 0 dX9_pour_28 rfl rfl rfl ?_
    refine z_iconst (q := 30) C (1 : Int32) dX9_pour_29 ki_1 rfl ?_
    refine z_callVi (q := 33) (As := [.int (1 : Int32)]) C (fun o ho => m_X9_is _ _ _ ho) zk9 vvX9_110 cdX9_is pnX9 dX9_pour_30 rfl (by decide) (Nat.le_of_ble_eq_true rfl) hf rfl fun v23 σ hf => ?_
    refine z_rz C hf fun hn hf => ?_
    exact z_zreturn C rfl hn dX9_pour_33 (Option.some.inj hf)
  refine z_iload_n (q := 1) (i := 1) C 1 dX9_pour_0 rfl rfl rfl ?_
  refine z_callSi (q := 4) (As := [.int i1]) C (fun o ho => m_X9_isTray _ _ ho) vsX9_114 cdX9_isTray pnX9 dX9_pour_1 rfl (by decide) (Nat.le_of_ble_eq_true rfl) hf rfl fun v1 σ hf => ?_
  refine z_ifeq (q := 7) (tgt := 28) C dX9_pour_4 (by decide) rfl hf (fun c4 hf => ?_) (fun c4 hf => ?_)
  · refine z_lv [0] rfl ?_
    exact j28_0 a0 σ hf
  · refine z_iload_n (q := 8) (i := 3) C 3 dX9_pour_7 rfl rfl rfl ?_
    refine z_callSi (q := 11) (As := [.int i3]) C (fun o ho => m_X9_isTray _ _ ho) vsX9_114 cdX9_isTray pnX9 dX9_pour_8 rfl (by decide) (Nat.le_of_ble_eq_true rfl) hf rfl fun v2 σ hf => ?_
    refine z_ifeq (q := 14) (tgt := 28) C dX9_pour_11 (by decide) rfl hf (fun c11 hf => ?_) (fun c11 hf => ?_)
    · refine z_lv [0] rfl ?_
      exact j28_0 a0 σ hf
    · refine z_iload_n (q := 15) (i := 2) C 2 dX9_pour_14 rfl rfl rfl ?_
      refine z_iflt (q := 18) (tgt := 28) C dX9_pour_15 (by decide) rfl hf (fun c15 hf => ?_) (fun c15 hf => ?_)
      · refine z_lv [0] rfl ?_
        exact j28_0 a0 σ hf
      · refine z_iload (q := 20) (i := 4) C 4 dX9_pour_18 rfl rfl ?_
        refine z_iflt (q := 23) (tgt := 28) C dX9_pour_20 (by decide) rfl hf (fun c20 hf => ?_) (fun c20 hf => ?_)
        · refine z_lv [0] rfl ?_
          exact j28_0 a0 σ hf
        · refine z_iload (q := 25) (i := 5) C 5 dX9_pour_23 rfl rfl ?_
          refine z_ifge (q := 28) (tgt := 34) C dX9_pour_25 (by decide) rfl hf (fun c25 hf => ?_) (fun c25 hf => ?_)
          · refine z_aload_n (q := 35) (i := 0) C 0 dX9_pour_34 rfl rfl rfl ?_
            refine z_getR (q := 38) C flX9_24 dX9_pour_35 hf rfl fun v3 hf => ?_
            refine z_iload_n (q := 39) (i := 1) C 1 dX9_pour_38 rfl rfl rfl ?_
            refine z_iald (q := 40) C dX9_pour_39 hf rfl fun v4 hf => ?_
            refine z_iconst (q := 41) C (-1 : Int32) dX9_pour_40 ki_m1 rfl ?_
            refine z_icmpeq (q := 44) (tgt := 54) C dX9_pour_41 (by decide) rfl hf (fun c41 hf => ?_) (fun c41 hf => ?_)
            · refine z_lv [0] rfl ?_
              exact j54_0 a0 σ hf
            · refine z_aload_n (q := 45) (i := 0) C 0 dX9_pour_44 rfl rfl rfl ?_
              refine z_getR (q := 48) C flX9_24 dX9_pour_45 hf rfl fun v5 hf => ?_
              refine z_iload_n (q := 49) (i := 3) C 3 dX9_pour_48 rfl rfl rfl ?_
              refine z_iald (q := 50) C dX9_pour_49 hf rfl fun v6 hf => ?_
              refine z_iconst (q := 51) C (-1 : Int32) dX9_pour_50 ki_m1 rfl ?_
              refine z_icmpne (q := 54) (tgt := 60) C dX9_pour_51 (by decide) rfl hf (fun c51 hf => ?_) (fun c51 hf => ?_)
              · refine z_aload_n (q := 61) (i := 0) C 0 dX9_pour_60 rfl rfl rfl ?_
                refine z_getR (q := 64) C flX9_21 dX9_pour_61 hf rfl fun v7 hf => ?_
                refine z_iload_n (q := 65) (i := 1) C 1 dX9_pour_64 rfl rfl rfl ?_
                refine z_iald (q := 66) C dX9_pour_65 hf rfl fun v8 hf => ?_
                refine z_aload_n (q := 67) (i := 0) C 0 dX9_pour_66 rfl rfl rfl ?_
                refine z_getR (q := 70) C flX9_21 dX9_pour_67 hf rfl fun v9 hf => ?_
                refine z_iload_n (q := 71) (i := 3) C 3 dX9_pour_70 rfl rfl rfl ?_
                refine z_iald (q := 72) C dX9_pour_71 hf rfl fun v10 hf => ?_
                refine z_icmpeq (q := 75) (tgt := 82) C dX9_pour_72 (by decide) rfl hf (fun c72 hf => ?_) (fun c72 hf => ?_)
                · refine z_iload (q := 84) (i := 5) C 5 dX9_pour_82 rfl rfl ?_
                  refine z_aload_n (q := 85) (i := 0) C 0 dX9_pour_84 rfl rfl rfl ?_
                  refine z_getR (q := 88) C flX9_24 dX9_pour_85 hf rfl fun v11 hf => ?_
                  refine z_iload_n (q := 89) (i := 1) C 1 dX9_pour_88 rfl rfl rfl ?_
                  refine z_iald (q := 90) C dX9_pour_89 hf rfl fun v12 hf => ?_
                  refine z_iload_n (q := 91) (i := 2) C 2 dX9_pour_90 rfl rfl rfl ?_
                  refine z_isub (q := 92) C dX9_pour_91 rfl ?_
                  refine z_icmpgt (q := 95) (tgt := 109) C dX9_pour_92 (by decide) rfl hf (fun c92 hf => ?_) (fun c92 hf => ?_)
                  · refine z_lv [0] rfl ?_
                    exact j109_0 a0 σ hf
                  · refine z_iload (q := 97) (i := 5) C 5 dX9_pour_95 rfl rfl ?_
                    refine z_aload_n (q := 98) (i := 0) C 0 dX9_pour_97 rfl rfl rfl ?_
                    refine z_getR (q := 101) C flX9_24 dX9_pour_98 hf rfl fun v13 hf => ?_
                    refine z_iload_n (q := 102) (i := 3) C 3 dX9_pour_101 rfl rfl rfl ?_
                    refine z_iald (q := 103) C dX9_pour_102 hf rfl fun v14 hf => ?_
                    refine z_iload (q := 105) (i := 4) C 4 dX9_pour_103 rfl rfl ?_
                    refine z_isub (q := 106) C dX9_pour_105 rfl ?_
                    refine z_icmple (q := 109) (tgt := 115) C dX9_pour_106 (by decide) rfl hf (fun c106 hf => ?_) (fun c106 hf => ?_)
                    · refine z_iconst (q := 116) C (0 : Int32) dX9_pour_115 ki_0 rfl ?_
                      refine z_istore (q := 118) (i := 6) (lv' := [(6, .int (0 : Int32)), (0, .ref a0), (1, .int i1), (2, .int i2), (3, .int i3), (4, .int i4), (5, .int i5)]) C dX9_pour_116 (by decide) rfl rfl ?_
                      refine z_lv [1, 2, 3, 4, 5, 6, 0] rfl ?_
                      obtain ⟨r1, hr1, hk1⟩ := Option.bind_eq_some_iff.mp hf
                      refine loopC_ind (P := fun s => ZW l G 8 X (ZQ G X (.returned (some (.int out.1))) out.2) s.2 118 [(0, .ref a0), (1, .int i1), (2, .int i2), (3, .int i3), (4, .int i4), (5, .int i5), (6, .int s.1)] []) (fun s x1 hf hx1 => ?_) hr1
                      obtain ⟨i_15, σ⟩ := s
                      unfold f_X9_pour_L118 at hf
                      try dsimp only at hf
                      try dsimp only
                      have j143_1 : ∀ (i6_143 : Int32) (w0_143 : Int32) (σ : ZT), f_X9_pour_J143_118 a0 i1 i2 i3 i4 i5 i6_143 w0_143 σ = some x1 → ZW l G 8 X (ZQ G X (.returned (some (.int out.1))) out.2) σ 143 [(0, .ref a0), (1, .int i1), (2, .int i2), (3, .int i3), (4, .int i4), (5, .int i5), (6, .int i6_143)] [.int w0_143] := by
                        intro i6_143 w0_143 σ hf
                        unfold f_X9_pour_J143_118 at hf
                        refine z_istore (q := 145) (i := 7) (lv' := [(7, .int w0_143), (0, .ref a0), (1, .int i1), (2, .int i2), (3, .int i3), (4, .int i4), (5, .int i5), (6, .int i6_143)]) C dX9_pour_143 (by decide) rfl rfl ?_
                        refine z_aload_n (q := 146) (i := 0) C 1 dX9_pour_145 rfl rfl rfl ?_
                        refine z_getR (q := 149) C flX9_27 dX9_pour_146 hf rfl fun v18 hf => ?_
                        refine z_bipush (q := 151) C (60 : Int32) dX9_pour_149 kb_60 rfl ?_
                        refine z_iload_n (q := 152) (i := 3) C 4 dX9_pour_151 rfl rfl rfl ?_
                        refine z_imul (q := 153) C dX9_pour_152 rfl ?_
                        refine z_iload (q := 155) (i := 4) C 5 dX9_pour_153 rfl rfl ?_
                        refine z_iadd (q := 156) C dX9_pour_155 rfl ?_
                        refine z_iload (q := 158) (i := 7) C 0 dX9_pour_156 rfl rfl ?_
                        refine z_iadd (q := 159) C dX9_pour_158 rfl ?_
                        refine z_aload_n (q := 160) (i := 0) C 1 dX9_pour_159 rfl rfl rfl ?_
                        refine z_getR (q := 163) C flX9_27 dX9_pour_160 hf rfl fun v19 hf => ?_
                        refine z_bipush (q := 165) C (60 : Int32) dX9_pour_163 kb_60 rfl ?_
                        refine z_iload_n (q := 166) (i := 1) C 2 dX9_pour_165 rfl rfl rfl ?_
                        refine z_imul (q := 167) C dX9_pour_166 rfl ?_
                        refine z_iload_n (q := 168) (i := 2) C 3 dX9_pour_167 rfl rfl rfl ?_
                        refine z_iadd (q := 169) C dX9_pour_168 rfl ?_
                        refine z_iload (q := 171) (i := 7) C 0 dX9_pour_169 rfl rfl ?_
                        refine z_iadd (q := 172) C dX9_pour_171 rfl ?_
                        refine z_lald (q := 173) C dX9_pour_172 hf rfl fun v20 hf => ?_
                        refine z_last (q := 174) C dX9_pour_173 hf rfl fun σ hf => ?_
                        refine z_iinc (q := 177) (i := 6) (lv' := [(6, .int (i6_143 + (1 : Int32))), (7, .int w0_143), (0, .ref a0), (1, .int i1), (2, .int i2), (3, .int i3), (4, .int i4), (5, .int i5)]) C 7 (i6_143 + (1 : Int32)) dX9_pour_174 rfl (kn_1 _) (by decide) rfl rfl ?_
                        refine z_goto (q := 118) C dX9_pour_177 (by decide) ?_
                        refine z_lv [2, 3, 4, 5, 6, 7, 0] rfl ?_
                        have hc1 := zl_c hf hx1
                        exact hc1
                      refine z_iload (q := 120) (i := 6) C 6 dX9_pour_118 rfl rfl ?_
                      refine z_iload (q := 122) (i := 5) C 5 dX9_pour_120 rfl rfl ?_
                      refine z_icmpge (q := 125) (tgt := 180) C dX9_pour_122 (by decide) rfl hf (fun c122 hf => ?_) (fun c122 hf => ?_)
                      · have e1 := zl_x hf hx1
                        have hf := hk1
                        rw [← e1] at hf
                        try dsimp only at hf
                        refine z_aload_n (q := 181) (i := 0) C 0 dX9_pour_180 rfl rfl rfl ?_
                        refine z_iconst (q := 182) C (0 : Int32) dX9_pour_181 ki_0 rfl ?_
                        refine z_callVi (q := 185) (As := [.int (0 : Int32)]) C (fun o ho => m_X9_is _ _ _ ho) zk9 vvX9_110 cdX9_is pnX9 dX9_pour_182 rfl (by decide) (Nat.le_of_ble_eq_true rfl) hf rfl fun v16 σ hf => ?_
                        refine z_rz C hf fun hn hf => ?_
                        exact z_zreturn C rfl hn dX9_pour_185 (Option.some.inj hf)
                      · refine z_iload_n (q := 126) (i := 2) C 2 dX9_pour_125 rfl rfl rfl ?_
                        refine z_iload (q := 128) (i := 4) C 4 dX9_pour_126 rfl rfl ?_
                        refine z_icmpge (q := 131) (tgt := 141) C dX9_pour_128 (by decide) rfl hf (fun c128 hf => ?_) (fun c128 hf => ?_)
                        · refine z_iload (q := 143) (i := 6) C 6 dX9_pour_141 rfl rfl ?_
                          exact j143_1 i_15 i_15 σ hf
                        · refine z_iload (q := 133) (i := 5) C 5 dX9_pour_131 rfl rfl ?_
                          refine z_iconst (q := 134) C (1 : Int32) dX9_pour_133 ki_1 rfl ?_
                          refine z_isub (q := 135) C dX9_pour_134 rfl ?_
                          refine z_iload (q := 137) (i := 6) C 6 dX9_pour_135 rfl rfl ?_
                          refine z_isub (q := 138) C dX9_pour_137 rfl ?_
                          refine z_goto (q := 143) C dX9_pour_138 (by decide) ?_
                          exact j143_1 i_15 ((i5 - (1 : Int32)) - i_15) σ hf
                    · refine z_lv [0] rfl ?_
                      exact j109_0 a0 σ hf
                · refine z_aload_n (q := 76) (i := 0) C 0 dX9_pour_75 rfl rfl rfl ?_
                  refine z_bipush (q := 78) C (8 : Int32) dX9_pour_76 kb_8 rfl ?_
                  refine z_callVi (q := 81) (As := [.int (8 : Int32)]) C (fun o ho => m_X9_is _ _ _ ho) zk9 vvX9_110 cdX9_is pnX9 dX9_pour_78 rfl (by decide) (Nat.le_of_ble_eq_true rfl) hf rfl fun v21 σ hf => ?_
                  refine z_rz C hf fun hn hf => ?_
                  exact z_zreturn C rfl hn dX9_pour_81 (Option.some.inj hf)
              · refine z_lv [0] rfl ?_
                exact j54_0 a0 σ hf
          · refine z_lv [0] rfl ?_
            exact j28_0 a0 σ hf

noncomputable def f_X9_four_L3 (c0_3 : Nat) (c1_3 : Int32) (i_1 : Int32) (σ : ZT) : Option ((Int32 × ZT) ⊕ ZT) :=
  if i_1 < 0 then
  (some (.inr σ))
  else
  ((gR 9 908 c0_3 σ).bind fun v2 =>
  (gI 9 910 c0_3 σ).bind fun v3 =>
  (stB v2 v3 ((c1_3 >>> (i_1 &&& 31)).toInt8.toInt32) σ).bind fun σ =>
  (gI 9 910 c0_3 σ).bind fun v4 =>
  (pI 9 910 c0_3 (v4 + (1 : Int32)) σ).bind fun σ =>
  some (.inl ((i_1 + (-8 : Int32)), σ)))
noncomputable def f_X9_four (a0 : Nat) (i1 : Int32) (σ : ZT) : Option ZT :=
  (loopC (fun s : (Int32 × ZT) => f_X9_four_L3 a0 i1 s.1 s.2) ((24 : Int32), σ)).bind fun σ =>
  some σ
set_option maxHeartbeats 4000000 in
theorem m_X9_four {l : Launch} {G : ZG} (a0 : Nat) (i1 : Int32) (σ : ZT) {out : ZT} (hf : f_X9_four a0 i1 σ = some out) : ZM l G yX9_four cX9_four 3 none [] 1 [.ref a0, .int i1] σ (.returned none) out := by
  refine ZM.of [(0, .ref a0), (1, .int i1)] rfl (Nat.le_of_ble_eq_true rfl) fun X (C : ZC G RX9 "four" cX9_four 3 none [] X 1) => ?_
  unfold f_X9_four at hf
  refine z_bipush (q := 2) C (24 : Int32) dX9_four_0 kb_24 rfl ?_
  refine z_istore_n (q := 3) (i := 2) (lv' := [(2, .int (24 : Int32)), (0, .ref a0), (1, .int i1)]) C dX9_four_2 rfl (by decide) rfl rfl ?_
  refine z_lv [1, 2, 0] rfl ?_
  obtain ⟨r1, hr1, hk1⟩ := Option.bind_eq_some_iff.mp hf
  refine loopC_ind (P := fun s => ZW l G 3 X (ZQ G X (.returned none) out) s.2 3 [(0, .ref a0), (1, .int i1), (2, .int s.1)] []) (fun s x1 hf hx1 => ?_) hr1
  obtain ⟨i_1, σ⟩ := s
  unfold f_X9_four_L3 at hf
  try dsimp only at hf
  try dsimp only
  refine z_iload_n (q := 4) (i := 2) C 2 dX9_four_3 rfl rfl rfl ?_
  refine z_iflt (q := 7) (tgt := 36) C dX9_four_4 (by decide) rfl hf (fun c4 hf => ?_) (fun c4 hf => ?_)
  · have e1 := zl_x hf hx1
    have hf := hk1
    rw [← e1] at hf
    try dsimp only at hf
    exact z_return C rfl dX9_four_36 (Option.some.inj hf)
  · refine z_aload_n (q := 8) (i := 0) C 0 dX9_four_7 rfl rfl rfl ?_
    refine z_getR (q := 11) C flX9_30 dX9_four_8 hf rfl fun v2 hf => ?_
    refine z_aload_n (q := 12) (i := 0) C 0 dX9_four_11 rfl rfl rfl ?_
    refine z_getI (q := 15) C flX9_127 dX9_four_12 hf rfl fun v3 hf => ?_
    refine z_iload_n (q := 16) (i := 1) C 1 dX9_four_15 rfl rfl rfl ?_
    refine z_iload_n (q := 17) (i := 2) C 2 dX9_four_16 rfl rfl rfl ?_
    refine z_ishr (q := 18) C dX9_four_17 rfl ?_
    refine z_i2b (q := 19) C dX9_four_18 rfl ?_
    refine z_bast (q := 20) C dX9_four_19 hf rfl fun σ hf => ?_
    refine z_aload_n (q := 21) (i := 0) C 0 dX9_four_20 rfl rfl rfl ?_
    refine z_dup (q := 22) C dX9_four_21 rfl rfl ?_
    refine z_getI (q := 25) C flX9_127 dX9_four_22 hf rfl fun v4 hf => ?_
    refine z_iconst (q := 26) C (1 : Int32) dX9_four_25 ki_1 rfl ?_
    refine z_iadd (q := 27) C dX9_four_26 rfl ?_
    refine z_putI (q := 30) C puX9_127 dX9_four_27 hf rfl fun σ hf => ?_
    refine z_iinc (q := 33) (i := 2) (lv' := [(2, .int (i_1 + (-8 : Int32))), (0, .ref a0), (1, .int i1)]) C 2 (i_1 + (-8 : Int32)) dX9_four_30 rfl (kn_m8 _) (by decide) rfl rfl ?_
    refine z_goto (q := 3) C dX9_four_33 (by decide) ?_
    refine z_lv [1, 2, 0] rfl ?_
    have hc1 := zl_c hf hx1
    exact hc1

noncomputable def f_X9_feed (a0 : Nat) (i1 : Int32) (i2 : Int32) (i3 : Int32) (i4 : Int32) (i5 : Int32) (σ : ZT) : Option (Int32 × ZT) :=
  (gI 9 910 a0 σ).bind fun v1 =>
  if (900 : Int32) < (v1 + (20 : Int32)) then
  (some ((-1 : Int32), σ))
  else
  ((vc 9 a0 σ (f_X9_four a0 i1 σ)).bind fun σ =>
  (vc 9 a0 σ (f_X9_four a0 i2 σ)).bind fun σ =>
  (vc 9 a0 σ (f_X9_four a0 i3 σ)).bind fun σ =>
  (vc 9 a0 σ (f_X9_four a0 i4 σ)).bind fun σ =>
  (vc 9 a0 σ (f_X9_four a0 i5 σ)).bind fun σ =>
  (gI 9 910 a0 σ).bind fun v7 =>
  some (v7, σ))
set_option maxHeartbeats 4000000 in
theorem m_X9_feed {l : Launch} {G : ZG} (a0 : Nat) (i1 : Int32) (i2 : Int32) (i3 : Int32) (i4 : Int32) (i5 : Int32) (σ : ZT) {out : (Int32 × ZT)} (hf : f_X9_feed a0 i1 i2 i3 i4 i5 σ = some out) : ZM l G yX9_feed cX9_feed 6 (some .int) [] 2 [.ref a0, .int i1, .int i2, .int i3, .int i4, .int i5] σ (.returned (some (.int out.1))) out.2 := by
  refine ZM.of [(0, .ref a0), (1, .int i1), (2, .int i2), (3, .int i3), (4, .int i4), (5, .int i5)] rfl (Nat.le_of_ble_eq_true rfl) fun X (C : ZC G RX9 "feed" cX9_feed 6 (some .int) [] X 2) => ?_
  unfold f_X9_feed at hf
  refine z_aload_n (q := 1) (i := 0) C 0 dX9_feed_0 rfl rfl rfl ?_
  refine z_getI (q := 4) C flX9_127 dX9_feed_1 hf rfl fun v1 hf => ?_
  refine z_bipush (q := 6) C (20 : Int32) dX9_feed_4 kb_20 rfl ?_
  refine z_iadd (q := 7) C dX9_feed_6 rfl ?_
  refine z_sipush (q := 10) C (900 : Int32) dX9_feed_7 ks_900 rfl ?_
  refine z_icmple (q := 13) (tgt := 15) C dX9_feed_10 (by decide) rfl hf (fun c10 hf => ?_) (fun c10 hf => ?_)
  · refine z_aload_n (q := 16) (i := 0) C 0 dX9_feed_15 rfl rfl rfl ?_
    refine z_iload_n (q := 17) (i := 1) C 1 dX9_feed_16 rfl rfl rfl ?_
    refine z_callVv (q := 20) (As := [.int i1]) C (fun o ho => m_X9_four _ _ _ ho) zk9 vvX9_130 cdX9_four pnX9 dX9_feed_17 rfl (by decide) (Nat.le_of_ble_eq_true rfl) hf rfl fun σ hf => ?_
    refine z_aload_n (q := 21) (i := 0) C 0 dX9_feed_20 rfl rfl rfl ?_
    refine z_iload_n (q := 22) (i := 2) C 2 dX9_feed_21 rfl rfl rfl ?_
    refine z_callVv (q := 25) (As := [.int i2]) C (fun o ho => m_X9_four _ _ _ ho) zk9 vvX9_130 cdX9_four pnX9 dX9_feed_22 rfl (by decide) (Nat.le_of_ble_eq_true rfl) hf rfl fun σ hf => ?_
    refine z_aload_n (q := 26) (i := 0) C 0 dX9_feed_25 rfl rfl rfl ?_
    refine z_iload_n (q := 27) (i := 3) C 3 dX9_feed_26 rfl rfl rfl ?_
    refine z_callVv (q := 30) (As := [.int i3]) C (fun o ho => m_X9_four _ _ _ ho) zk9 vvX9_130 cdX9_four pnX9 dX9_feed_27 rfl (by decide) (Nat.le_of_ble_eq_true rfl) hf rfl fun σ hf => ?_
    refine z_aload_n (q := 31) (i := 0) C 0 dX9_feed_30 rfl rfl rfl ?_
    refine z_iload (q := 33) (i := 4) C 4 dX9_feed_31 rfl rfl ?_
    refine z_callVv (q := 36) (As := [.int i4]) C (fun o ho => m_X9_four _ _ _ ho) zk9 vvX9_130 cdX9_four pnX9 dX9_feed_33 rfl (by decide) (Nat.le_of_ble_eq_true rfl) hf rfl fun σ hf => ?_
    refine z_aload_n (q := 37) (i := 0) C 0 dX9_feed_36 rfl rfl rfl ?_
    refine z_iload (q := 39) (i := 5) C 5 dX9_feed_37 rfl rfl ?_
    refine z_callVv (q := 42) (As := [.int i5]) C (fun o ho => m_X9_four _ _ _ ho) zk9 vvX9_130 cdX9_four pnX9 dX9_feed_39 rfl (by decide) (Nat.le_of_ble_eq_true rfl) hf rfl fun σ hf => ?_
    refine z_aload_n (q := 43) (i := 0) C 0 dX9_feed_42 rfl rfl rfl ?_
    refine z_getI (q := 46) C flX9_127 dX9_feed_43 hf rfl fun v7 hf => ?_
    exact z_ireturn C rfl dX9_feed_46 (Option.some.inj hf)
  · refine z_iconst (q := 14) C (-1 : Int32) dX9_feed_13 ki_m1 rfl ?_
    exact z_ireturn C rfl dX9_feed_14 (Option.some.inj hf)

noncomputable def f_X9_fault_J24 (w0_24 : Int32) (σ : ZT) : Option (Int32 × ZT) :=
  some (w0_24, σ)
noncomputable def f_X9_fault (a0 : Nat) (i1 : Int32) (σ : ZT) : Option (Int32 × ZT) :=
  if i1 = 0 then
  ((gI 9 916 a0 σ).bind fun v2 =>
  f_X9_fault_J24 v2 σ)
  else
  (if i1 = (1 : Int32) then
  ((gI 9 917 a0 σ).bind fun v1 =>
  f_X9_fault_J24 v1 σ)
  else
  (f_X9_fault_J24 (-1 : Int32) σ))
set_option maxHeartbeats 4000000 in
theorem m_X9_fault {l : Launch} {G : ZG} (a0 : Nat) (i1 : Int32) (σ : ZT) {out : (Int32 × ZT)} (hf : f_X9_fault a0 i1 σ = some out) : ZM l G yX9_fault cX9_fault 2 (some .int) [] 1 [.ref a0, .int i1] σ (.returned (some (.int out.1))) out.2 := by
  refine ZM.of [(0, .ref a0), (1, .int i1)] rfl (Nat.le_of_ble_eq_true rfl) fun X (C : ZC G RX9 "fault" cX9_fault 2 (some .int) [] X 1) => ?_
  unfold f_X9_fault at hf
  have j24_0 : ∀ (w0_24 : Int32) (σ : ZT), f_X9_fault_J24 w0_24 σ = some out → ZW l G 2 X (ZQ G X (.returned (some (.int out.1))) out.2) σ 24 [] [.int w0_24] := by
    intro w0_24 σ hf
    unfold f_X9_fault_J24 at hf
    exact z_ireturn C rfl dX9_fault_24 (Option.some.inj hf)
  refine z_iload_n (q := 1) (i := 1) C 1 dX9_fault_0 rfl rfl rfl ?_
  refine z_ifne (q := 4) (tgt := 11) C dX9_fault_1 (by decide) rfl hf (fun c1 hf => ?_) (fun c1 hf => ?_)
  · refine z_iload_n (q := 12) (i := 1) C 1 dX9_fault_11 rfl rfl rfl ?_
    refine z_iconst (q := 13) C (1 : Int32) dX9_fault_12 ki_1 rfl ?_
    refine z_icmpne (q := 16) (tgt := 23) C dX9_fault_13 (by decide) rfl hf (fun c13 hf => ?_) (fun c13 hf => ?_)
    · refine z_iconst (q := 24) C (-1 : Int32) dX9_fault_23 ki_m1 rfl ?_
      refine z_lv [] rfl ?_
      exact j24_0 (-1 : Int32) σ hf
    · refine z_aload_n (q := 17) (i := 0) C 0 dX9_fault_16 rfl rfl rfl ?_
      refine z_getI (q := 20) C flX9_41 dX9_fault_17 hf rfl fun v1 hf => ?_
      refine z_goto (q := 24) C dX9_fault_20 (by decide) ?_
      refine z_lv [] rfl ?_
      exact j24_0 v1 σ hf
  · refine z_aload_n (q := 5) (i := 0) C 0 dX9_fault_4 rfl rfl rfl ?_
    refine z_getI (q := 8) C flX9_37 dX9_fault_5 hf rfl fun v2 hf => ?_
    refine z_goto (q := 24) C dX9_fault_8 (by decide) ?_
    refine z_lv [] rfl ?_
    exact j24_0 v2 σ hf

noncomputable def f_X9_byteAt_J22 (w0_22 : Int32) (σ : ZT) : Option (Int32 × ZT) :=
  some (w0_22, σ)
noncomputable def f_X9_byteAt (a0 : Nat) (i1 : Int32) (σ : ZT) : Option (Int32 × ZT) :=
  (gI 9 911 a0 σ).bind fun v1 =>
  if i1 < v1 then
  ((gR 9 909 a0 σ).bind fun v2 =>
  (ldI 2 v2 i1 σ).bind fun v3 =>
  f_X9_byteAt_J22 (v3 &&& (255 : Int32)) σ)
  else
  (f_X9_byteAt_J22 (-1 : Int32) σ)
set_option maxHeartbeats 4000000 in
theorem m_X9_byteAt {l : Launch} {G : ZG} (a0 : Nat) (i1 : Int32) (σ : ZT) {out : (Int32 × ZT)} (hf : f_X9_byteAt a0 i1 σ = some out) : ZM l G yX9_byteAt cX9_byteAt 2 (some .int) [] 1 [.ref a0, .int i1] σ (.returned (some (.int out.1))) out.2 := by
  refine ZM.of [(0, .ref a0), (1, .int i1)] rfl (Nat.le_of_ble_eq_true rfl) fun X (C : ZC G RX9 "byteAt" cX9_byteAt 2 (some .int) [] X 1) => ?_
  unfold f_X9_byteAt at hf
  have j22_0 : ∀ (w0_22 : Int32) (σ : ZT), f_X9_byteAt_J22 w0_22 σ = some out → ZW l G 2 X (ZQ G X (.returned (some (.int out.1))) out.2) σ 22 [] [.int w0_22] := by
    intro w0_22 σ hf
    unfold f_X9_byteAt_J22 at hf
    exact z_ireturn C rfl dX9_byteAt_22 (Option.some.inj hf)
  refine z_iload_n (q := 1) (i := 1) C 1 dX9_byteAt_0 rfl rfl rfl ?_
  refine z_aload_n (q := 2) (i := 0) C 0 dX9_byteAt_1 rfl rfl rfl ?_
  refine z_getI (q := 5) C flX9_134 dX9_byteAt_2 hf rfl fun v1 hf => ?_
  refine z_icmpge (q := 8) (tgt := 21) C dX9_byteAt_5 (by decide) rfl hf (fun c5 hf => ?_) (fun c5 hf => ?_)
  · refine z_iconst (q := 22) C (-1 : Int32) dX9_byteAt_21 ki_m1 rfl ?_
    refine z_lv [] rfl ?_
    exact j22_0 (-1 : Int32) σ hf
  · refine z_aload_n (q := 9) (i := 0) C 0 dX9_byteAt_8 rfl rfl rfl ?_
    refine z_getR (q := 12) C flX9_34 dX9_byteAt_9 hf rfl fun v2 hf => ?_
    refine z_iload_n (q := 13) (i := 1) C 1 dX9_byteAt_12 rfl rfl rfl ?_
    refine z_bald (q := 14) C dX9_byteAt_13 hf rfl fun v3 hf => ?_
    refine z_sipush (q := 17) C (255 : Int32) dX9_byteAt_14 ks_255 rfl ?_
    refine z_iand (q := 18) C dX9_byteAt_17 rfl ?_
    refine z_goto (q := 22) C dX9_byteAt_18 (by decide) ?_
    refine z_lv [] rfl ?_
    exact j22_0 (v3 &&& (255 : Int32)) σ hf

noncomputable def f_X9_isSmall_J17 (w0_17 : Int32) (σ : ZT) : Option (Int32 × ZT) :=
  (rz w0_17).bind fun z1 =>
  some (z1, σ)
noncomputable def f_X9_isSmall_J16  (σ : ZT) : Option (Int32 × ZT) :=
  f_X9_isSmall_J17 (0 : Int32) σ
noncomputable def f_X9_isSmall (i0 : Int32) (σ : ZT) : Option (Int32 × ZT) :=
  if i0 < (97 : Int32) then
  (f_X9_isSmall_J16  σ)
  else
  (if (122 : Int32) < i0 then
  (f_X9_isSmall_J16  σ)
  else
  (f_X9_isSmall_J17 (1 : Int32) σ))
set_option maxHeartbeats 4000000 in
theorem m_X9_isSmall {l : Launch} {G : ZG} (i0 : Int32) (σ : ZT) {out : (Int32 × ZT)} (hf : f_X9_isSmall i0 σ = some out) : ZM l G yX9_isSmall cX9_isSmall 1 (some .boolean) [] 1 [.int i0] σ (.returned (some (.int out.1))) out.2 := by
  refine ZM.of [(0, .int i0)] rfl (Nat.le_of_ble_eq_true rfl) fun X (C : ZC G RX9 "isSmall" cX9_isSmall 1 (some .boolean) [] X 1) => ?_
  unfold f_X9_isSmall at hf
  have j17_0 : ∀ (w0_17 : Int32) (σ : ZT), f_X9_isSmall_J17 w0_17 σ = some out → ZW l G 1 X (ZQ G X (.returned (some (.int out.1))) out.2) σ 17 [] [.int w0_17] := by
    intro w0_17 σ hf
    unfold f_X9_isSmall_J17 at hf
    refine z_rz C hf fun hn hf => ?_
    exact z_zreturn C rfl hn dX9_isSmall_17 (Option.some.inj hf)
  have j16_0 : ∀  (σ : ZT), f_X9_isSmall_J16  σ = some out → ZW l G 1 X (ZQ G X (.returned (some (.int out.1))) out.2) σ 16 [] [] := by
    intro  σ hf
    unfold f_X9_isSmall_J16 at hf
    refine z_iconst (q := 17) C (0 : Int32) dX9_isSmall_16 ki_0 rfl ?_
    exact j17_0 (0 : Int32) σ hf
  refine z_iload_n (q := 1) (i := 0) C 0 dX9_isSmall_0 rfl rfl rfl ?_
  refine z_bipush (q := 3) C (97 : Int32) dX9_isSmall_1 kb_97 rfl ?_
  refine z_icmplt (q := 6) (tgt := 16) C dX9_isSmall_3 (by decide) rfl hf (fun c3 hf => ?_) (fun c3 hf => ?_)
  · refine z_lv [] rfl ?_
    exact j16_0  σ hf
  · refine z_iload_n (q := 7) (i := 0) C 0 dX9_isSmall_6 rfl rfl rfl ?_
    refine z_bipush (q := 9) C (122 : Int32) dX9_isSmall_7 kb_122 rfl ?_
    refine z_icmpgt (q := 12) (tgt := 16) C dX9_isSmall_9 (by decide) rfl hf (fun c9 hf => ?_) (fun c9 hf => ?_)
    · refine z_lv [] rfl ?_
      exact j16_0  σ hf
    · refine z_iconst (q := 13) C (1 : Int32) dX9_isSmall_12 ki_1 rfl ?_
      refine z_goto (q := 17) C dX9_isSmall_13 (by decide) ?_
      refine z_lv [] rfl ?_
      exact j17_0 (1 : Int32) σ hf

noncomputable def f_X9_isDigit_J17 (w0_17 : Int32) (σ : ZT) : Option (Int32 × ZT) :=
  (rz w0_17).bind fun z1 =>
  some (z1, σ)
noncomputable def f_X9_isDigit_J16  (σ : ZT) : Option (Int32 × ZT) :=
  f_X9_isDigit_J17 (0 : Int32) σ
noncomputable def f_X9_isDigit (i0 : Int32) (σ : ZT) : Option (Int32 × ZT) :=
  if i0 < (48 : Int32) then
  (f_X9_isDigit_J16  σ)
  else
  (if (57 : Int32) < i0 then
  (f_X9_isDigit_J16  σ)
  else
  (f_X9_isDigit_J17 (1 : Int32) σ))
set_option maxHeartbeats 4000000 in
theorem m_X9_isDigit {l : Launch} {G : ZG} (i0 : Int32) (σ : ZT) {out : (Int32 × ZT)} (hf : f_X9_isDigit i0 σ = some out) : ZM l G yX9_isDigit cX9_isDigit 1 (some .boolean) [] 1 [.int i0] σ (.returned (some (.int out.1))) out.2 := by
  refine ZM.of [(0, .int i0)] rfl (Nat.le_of_ble_eq_true rfl) fun X (C : ZC G RX9 "isDigit" cX9_isDigit 1 (some .boolean) [] X 1) => ?_
  unfold f_X9_isDigit at hf
  have j17_0 : ∀ (w0_17 : Int32) (σ : ZT), f_X9_isDigit_J17 w0_17 σ = some out → ZW l G 1 X (ZQ G X (.returned (some (.int out.1))) out.2) σ 17 [] [.int w0_17] := by
    intro w0_17 σ hf
    unfold f_X9_isDigit_J17 at hf
    refine z_rz C hf fun hn hf => ?_
    exact z_zreturn C rfl hn dX9_isDigit_17 (Option.some.inj hf)
  have j16_0 : ∀  (σ : ZT), f_X9_isDigit_J16  σ = some out → ZW l G 1 X (ZQ G X (.returned (some (.int out.1))) out.2) σ 16 [] [] := by
    intro  σ hf
    unfold f_X9_isDigit_J16 at hf
    refine z_iconst (q := 17) C (0 : Int32) dX9_isDigit_16 ki_0 rfl ?_
    exact j17_0 (0 : Int32) σ hf
  refine z_iload_n (q := 1) (i := 0) C 0 dX9_isDigit_0 rfl rfl rfl ?_
  refine z_bipush (q := 3) C (48 : Int32) dX9_isDigit_1 kb_48 rfl ?_
  refine z_icmplt (q := 6) (tgt := 16) C dX9_isDigit_3 (by decide) rfl hf (fun c3 hf => ?_) (fun c3 hf => ?_)
  · refine z_lv [] rfl ?_
    exact j16_0  σ hf
  · refine z_iload_n (q := 7) (i := 0) C 0 dX9_isDigit_6 rfl rfl rfl ?_
    refine z_bipush (q := 9) C (57 : Int32) dX9_isDigit_7 kb_57 rfl ?_
    refine z_icmpgt (q := 12) (tgt := 16) C dX9_isDigit_9 (by decide) rfl hf (fun c9 hf => ?_) (fun c9 hf => ?_)
    · refine z_lv [] rfl ?_
      exact j16_0  σ hf
    · refine z_iconst (q := 13) C (1 : Int32) dX9_isDigit_12 ki_1 rfl ?_
      refine z_goto (q := 17) C dX9_isDigit_13 (by decide) ?_
      refine z_lv [] rfl ?_
      exact j17_0 (1 : Int32) σ hf

noncomputable def f_X9_ahead_L128 (c0_128 : Nat)  (σ : ZT) : Option (ZT ⊕ ZT) :=
  (gI 9 914 c0_128 σ).bind fun v11 =>
  bnd2 (vc 9 c0_128 σ (f_X9_byteAt c0_128 v11 σ)) fun v12 σ =>
  bnd2 (f_X9_isDigit v12 σ) fun v13 σ =>
  if v13 = 0 then
  (some (.inr σ))
  else
  ((gI 9 915 c0_128 σ).bind fun v16 =>
  (gI 9 914 c0_128 σ).bind fun v17 =>
  bnd2 (vc 9 c0_128 σ (f_X9_byteAt c0_128 v17 σ)) fun v18 σ =>
  (pI 9 915 c0_128 (if ((((10 : Int32) * v16) + v18) - (48 : Int32)) < (100000 : Int32) then ((((10 : Int32) * v16) + v18) - (48 : Int32)) else (100000 : Int32)) σ).bind fun σ =>
  (gI 9 914 c0_128 σ).bind fun v19 =>
  (pI 9 914 c0_128 (v19 + (1 : Int32)) σ).bind fun σ =>
  some (.inl σ))
noncomputable def f_X9_ahead_L81 (c0_81 : Nat)  (σ : ZT) : Option (ZT ⊕ ZT) :=
  (gI 9 914 c0_81 σ).bind fun v22 =>
  bnd2 (vc 9 c0_81 σ (f_X9_byteAt c0_81 v22 σ)) fun v23 σ =>
  bnd2 (f_X9_isSmall v23 σ) fun v24 σ =>
  if v24 = 0 then
  (some (.inr σ))
  else
  ((gI 9 914 c0_81 σ).bind fun v25 =>
  (pI 9 914 c0_81 (v25 + (1 : Int32)) σ).bind fun σ =>
  some (.inl σ))
noncomputable def f_X9_ahead_J26_0 (a0_26 : Nat) (σ : ZT) : Option (ZT ⊕ ZT) :=
  (gI 9 914 a0_26 σ).bind fun v52 =>
  (pI 9 914 a0_26 (v52 + (1 : Int32)) σ).bind fun σ =>
  some (.inl σ)
noncomputable def f_X9_ahead_L0 (c0_0 : Nat)  (σ : ZT) : Option (ZT ⊕ ZT) :=
  (gI 9 914 c0_0 σ).bind fun v27 =>
  bnd2 (vc 9 c0_0 σ (f_X9_byteAt c0_0 v27 σ)) fun v28 σ =>
  if v28 = (32 : Int32) then
  (f_X9_ahead_J26_0 c0_0 σ)
  else
  ((gI 9 914 c0_0 σ).bind fun v29 =>
  bnd2 (vc 9 c0_0 σ (f_X9_byteAt c0_0 v29 σ)) fun v30 σ =>
  if v30 = (10 : Int32) then
  (f_X9_ahead_J26_0 c0_0 σ)
  else
  (some (.inr σ)))
noncomputable def f_X9_ahead_J233  (σ : ZT) : Option ZT :=
  some σ
noncomputable def f_X9_ahead_J202 (w0_202 : Int32) (w1_202 : Nat) (σ : ZT) : Option ZT :=
  (pI 9 912 w1_202 w0_202 σ).bind fun σ =>
  f_X9_ahead_J233  σ
noncomputable def f_X9_ahead_J230 (w0_230 : Int32) (w1_230 : Nat) (σ : ZT) : Option ZT :=
  (pI 9 912 w1_230 w0_230 σ).bind fun σ =>
  f_X9_ahead_J233  σ
noncomputable def f_X9_ahead_J26 (a0_26 : Nat) (σ : ZT) : Option ZT :=
  (gI 9 914 a0_26 σ).bind fun v26 =>
  (pI 9 914 a0_26 (v26 + (1 : Int32)) σ).bind fun σ =>
  (loopC (fun s : ZT => f_X9_ahead_L0 a0_26 s) σ).bind fun σ =>
  (gI 9 914 a0_26 σ).bind fun v53 =>
  (pI 9 913 a0_26 v53 σ).bind fun σ =>
  (gI 9 914 a0_26 σ).bind fun v54 =>
  bnd2 (vc 9 a0_26 σ (f_X9_byteAt a0_26 v54 σ)) fun v55 σ =>
  (pI 9 915 a0_26 v55 σ).bind fun σ =>
  if v55 = (-1 : Int32) then
  ((pI 9 912 a0_26 (0 : Int32) σ).bind fun σ =>
  f_X9_ahead_J233  σ)
  else
  (bnd2 (f_X9_isSmall v55 σ) fun v56 σ =>
  if v56 = 0 then
  (bnd2 (f_X9_isDigit v55 σ) fun v57 σ =>
  if v57 = 0 then
  ((gI 9 914 a0_26 σ).bind fun v58 =>
  (pI 9 914 a0_26 (v58 + (1 : Int32)) σ).bind fun σ =>
  if v55 = (59 : Int32) then
  (f_X9_ahead_J230 (4 : Int32) a0_26 σ)
  else
  (f_X9_ahead_J230 (1 : Int32) a0_26 σ))
  else
  ((pI 9 915 a0_26 (0 : Int32) σ).bind fun σ =>
  (loopC (fun s : ZT => f_X9_ahead_L128 a0_26 s) σ).bind fun σ =>
  (gI 9 914 a0_26 σ).bind fun v68 =>
  (gI 9 913 a0_26 σ).bind fun v69 =>
  if (4 : Int32) < (v68 - v69) then
  (f_X9_ahead_J202 (1 : Int32) a0_26 σ)
  else
  (f_X9_ahead_J202 (3 : Int32) a0_26 σ)))
  else
  ((loopC (fun s : ZT => f_X9_ahead_L81 a0_26 s) σ).bind fun σ =>
  (pI 9 912 a0_26 (2 : Int32) σ).bind fun σ =>
  f_X9_ahead_J233  σ))
noncomputable def f_X9_ahead (a0 : Nat) (σ : ZT) : Option ZT :=
  (gI 9 914 a0 σ).bind fun v1 =>
  bnd2 (vc 9 a0 σ (f_X9_byteAt a0 v1 σ)) fun v2 σ =>
  if v2 = (32 : Int32) then
  (f_X9_ahead_J26 a0 σ)
  else
  ((gI 9 914 a0 σ).bind fun v3 =>
  bnd2 (vc 9 a0 σ (f_X9_byteAt a0 v3 σ)) fun v4 σ =>
  if v4 = (10 : Int32) then
  (f_X9_ahead_J26 a0 σ)
  else
  ((gI 9 914 a0 σ).bind fun v5 =>
  (pI 9 913 a0 v5 σ).bind fun σ =>
  (gI 9 914 a0 σ).bind fun v6 =>
  bnd2 (vc 9 a0 σ (f_X9_byteAt a0 v6 σ)) fun v7 σ =>
  (pI 9 915 a0 v7 σ).bind fun σ =>
  if v7 = (-1 : Int32) then
  ((pI 9 912 a0 (0 : Int32) σ).bind fun σ =>
  f_X9_ahead_J233  σ)
  else
  (bnd2 (f_X9_isSmall v7 σ) fun v8 σ =>
  if v8 = 0 then
  (bnd2 (f_X9_isDigit v7 σ) fun v9 σ =>
  if v9 = 0 then
  ((gI 9 914 a0 σ).bind fun v10 =>
  (pI 9 914 a0 (v10 + (1 : Int32)) σ).bind fun σ =>
  if v7 = (59 : Int32) then
  (f_X9_ahead_J230 (4 : Int32) a0 σ)
  else
  (f_X9_ahead_J230 (1 : Int32) a0 σ))
  else
  ((pI 9 915 a0 (0 : Int32) σ).bind fun σ =>
  (loopC (fun s : ZT => f_X9_ahead_L128 a0 s) σ).bind fun σ =>
  (gI 9 914 a0 σ).bind fun v20 =>
  (gI 9 913 a0 σ).bind fun v21 =>
  if (4 : Int32) < (v20 - v21) then
  (f_X9_ahead_J202 (1 : Int32) a0 σ)
  else
  (f_X9_ahead_J202 (3 : Int32) a0 σ)))
  else
  ((loopC (fun s : ZT => f_X9_ahead_L81 a0 s) σ).bind fun σ =>
  (pI 9 912 a0 (2 : Int32) σ).bind fun σ =>
  f_X9_ahead_J233  σ))))
set_option maxHeartbeats 4000000 in
theorem m_X9_ahead {l : Launch} {G : ZG} (a0 : Nat) (σ : ZT) {out : ZT} (hf : f_X9_ahead a0 σ = some out) : ZM l G yX9_ahead cX9_ahead 2 none [] 6 [.ref a0] σ (.returned none) out := by
  refine ZM.of [(0, .ref a0)] rfl (Nat.le_of_ble_eq_true rfl) fun X (C : ZC G RX9 "ahead" cX9_ahead 2 none [] X 6) => ?_
  unfold f_X9_ahead at hf
  have j233_0 : ∀  (σ : ZT), f_X9_ahead_J233  σ = some out → ZW l G 2 X (ZQ G X (.returned none) out) σ 233 [] [] := by
    intro  σ hf
    unfold f_X9_ahead_J233 at hf
    exact z_return C rfl dX9_ahead_233 (Option.some.inj hf)
  have j230_0 : ∀ (w0_230 : Int32) (w1_230 : Nat) (σ : ZT), f_X9_ahead_J230 w0_230 w1_230 σ = some out → ZW l G 2 X (ZQ G X (.returned none) out) σ 230 [] [.int w0_230, .ref w1_230] := by
    intro w0_230 w1_230 σ hf
    unfold f_X9_ahead_J230 at hf
    refine z_putI (q := 233) C puX9_149 dX9_ahead_230 hf rfl fun σ hf => ?_
    exact j233_0  σ hf
  have j202_0 : ∀ (w0_202 : Int32) (w1_202 : Nat) (σ : ZT), f_X9_ahead_J202 w0_202 w1_202 σ = some out → ZW l G 2 X (ZQ G X (.returned none) out) σ 202 [] [.int w0_202, .ref w1_202] := by
    intro w0_202 w1_202 σ hf
    unfold f_X9_ahead_J202 at hf
    refine z_putI (q := 205) C puX9_149 dX9_ahead_202 hf rfl fun σ hf => ?_
    refine z_goto (q := 233) C dX9_ahead_205 (by decide) ?_
    exact j233_0  σ hf
  have j26_0 : ∀ (a0_26 : Nat) (σ : ZT), f_X9_ahead_J26 a0_26 σ = some out → ZW l G 2 X (ZQ G X (.returned none) out) σ 26 [(0, .ref a0_26)] [] := by
    intro a0_26 σ hf
    unfold f_X9_ahead_J26 at hf
    refine z_aload_n (q := 27) (i := 0) C 0 dX9_ahead_26 rfl rfl rfl ?_
    refine z_dup (q := 28) C dX9_ahead_27 rfl rfl ?_
    refine z_getI (q := 31) C flX9_137 dX9_ahead_28 hf rfl fun v24 hf => ?_
    refine z_iconst (q := 32) C (1 : Int32) dX9_ahead_31 ki_1 rfl ?_
    refine z_iadd (q := 33) C dX9_ahead_32 rfl ?_
    refine z_putI (q := 36) C puX9_137 dX9_ahead_33 hf rfl fun σ hf => ?_
    refine z_goto (q := 0) C dX9_ahead_36 (by decide) ?_
    obtain ⟨r1, hr1, hk1⟩ := Option.bind_eq_some_iff.mp hf
    refine loopC_ind (P := fun s => ZW l G 2 X (ZQ G X (.returned none) out) s 0 [(0, .ref a0_26)] []) (fun σ x1 hf hx1 => ?_) hr1
    unfold f_X9_ahead_L0 at hf
    try dsimp only at hf
    try dsimp only
    have j26_1 : ∀  (σ : ZT), f_X9_ahead_J26_0 a0_26 σ = some x1 → ZW l G 2 X (ZQ G X (.returned none) out) σ 26 [(0, .ref a0_26)] [] := by
      intro  σ hf
      unfold f_X9_ahead_J26_0 at hf
      refine z_aload_n (q := 27) (i := 0) C 0 dX9_ahead_26 rfl rfl rfl ?_
      refine z_dup (q := 28) C dX9_ahead_27 rfl rfl ?_
      refine z_getI (q := 31) C flX9_137 dX9_ahead_28 hf rfl fun v48 hf => ?_
      refine z_iconst (q := 32) C (1 : Int32) dX9_ahead_31 ki_1 rfl ?_
      refine z_iadd (q := 33) C dX9_ahead_32 rfl ?_
      refine z_putI (q := 36) C puX9_137 dX9_ahead_33 hf rfl fun σ hf => ?_
      refine z_goto (q := 0) C dX9_ahead_36 (by decide) ?_
      have hc1 := zl_c hf hx1
      exact hc1
    refine z_aload_n (q := 1) (i := 0) C 0 dX9_ahead_0 rfl rfl rfl ?_
    refine z_aload_n (q := 2) (i := 0) C 0 dX9_ahead_1 rfl rfl rfl ?_
    refine z_getI (q := 5) C flX9_137 dX9_ahead_2 hf rfl fun v25 hf => ?_
    refine z_callVi (q := 8) (As := [.int v25]) C (fun o ho => m_X9_byteAt _ _ _ ho) zk9 vvX9_140 cdX9_byteAt pnX9 dX9_ahead_5 rfl (by decide) (Nat.le_of_ble_eq_true rfl) hf rfl fun v26 σ hf => ?_
    refine z_bipush (q := 10) C (32 : Int32) dX9_ahead_8 kb_32 rfl ?_
    refine z_icmpeq (q := 13) (tgt := 26) C dX9_ahead_10 (by decide) rfl hf (fun c10 hf => ?_) (fun c10 hf => ?_)
    · exact j26_1  σ hf
    · refine z_aload_n (q := 14) (i := 0) C 0 dX9_ahead_13 rfl rfl rfl ?_
      refine z_aload_n (q := 15) (i := 0) C 0 dX9_ahead_14 rfl rfl rfl ?_
      refine z_getI (q := 18) C flX9_137 dX9_ahead_15 hf rfl fun v27 hf => ?_
      refine z_callVi (q := 21) (As := [.int v27]) C (fun o ho => m_X9_byteAt _ _ _ ho) zk9 vvX9_140 cdX9_byteAt pnX9 dX9_ahead_18 rfl (by decide) (Nat.le_of_ble_eq_true rfl) hf rfl fun v28 σ hf => ?_
      refine z_bipush (q := 23) C (10 : Int32) dX9_ahead_21 kb_10 rfl ?_
      refine z_icmpne (q := 26) (tgt := 39) C dX9_ahead_23 (by decide) rfl hf (fun c23 hf => ?_) (fun c23 hf => ?_)
      · have e1 := zl_x hf hx1
        have hf := hk1
        rw [← e1] at hf
        try dsimp only at hf
        refine z_aload_n (q := 40) (i := 0) C 0 dX9_ahead_39 rfl rfl rfl ?_
        refine z_aload_n (q := 41) (i := 0) C 0 dX9_ahead_40 rfl rfl rfl ?_
        refine z_getI (q := 44) C flX9_137 dX9_ahead_41 hf rfl fun v29 hf => ?_
        refine z_putI (q := 47) C puX9_143 dX9_ahead_44 hf rfl fun σ hf => ?_
        refine z_aload_n (q := 48) (i := 0) C 0 dX9_ahead_47 rfl rfl rfl ?_
        refine z_aload_n (q := 49) (i := 0) C 0 dX9_ahead_48 rfl rfl rfl ?_
        refine z_getI (q := 52) C flX9_137 dX9_ahead_49 hf rfl fun v30 hf => ?_
        refine z_callVi (q := 55) (As := [.int v30]) C (fun o ho => m_X9_byteAt _ _ _ ho) zk9 vvX9_140 cdX9_byteAt pnX9 dX9_ahead_52 rfl (by decide) (Nat.le_of_ble_eq_true rfl) hf rfl fun v31 σ hf => ?_
        refine z_istore_n (q := 56) (i := 1) (lv' := [(1, .int v31), (0, .ref a0_26)]) C dX9_ahead_55 rfl (by decide) rfl rfl ?_
        refine z_aload_n (q := 57) (i := 0) C 1 dX9_ahead_56 rfl rfl rfl ?_
        refine z_iload_n (q := 58) (i := 1) C 0 dX9_ahead_57 rfl rfl rfl ?_
        refine z_putI (q := 61) C puX9_146 dX9_ahead_58 hf rfl fun σ hf => ?_
        refine z_iload_n (q := 62) (i := 1) C 0 dX9_ahead_61 rfl rfl rfl ?_
        refine z_iconst (q := 63) C (-1 : Int32) dX9_ahead_62 ki_m1 rfl ?_
        refine z_icmpne (q := 66) (tgt := 74) C dX9_ahead_63 (by decide) rfl hf (fun c63 hf => ?_) (fun c63 hf => ?_)
        · refine z_iload_n (q := 75) (i := 1) C 0 dX9_ahead_74 rfl rfl rfl ?_
          refine z_callSi (q := 78) (As := [.int v31]) C (fun o ho => m_X9_isSmall _ _ ho) vsX9_152 cdX9_isSmall pnX9 dX9_ahead_75 rfl (by decide) (Nat.le_of_ble_eq_true rfl) hf rfl fun v32 σ hf => ?_
          refine z_ifeq (q := 81) (tgt := 116) C dX9_ahead_78 (by decide) rfl hf (fun c78 hf => ?_) (fun c78 hf => ?_)
          · refine z_iload_n (q := 117) (i := 1) C 0 dX9_ahead_116 rfl rfl rfl ?_
            refine z_callSi (q := 120) (As := [.int v31]) C (fun o ho => m_X9_isDigit _ _ ho) vsX9_155 cdX9_isDigit pnX9 dX9_ahead_117 rfl (by decide) (Nat.le_of_ble_eq_true rfl) hf rfl fun v33 σ hf => ?_
            refine z_ifeq (q := 123) (tgt := 208) C dX9_ahead_120 (by decide) rfl hf (fun c120 hf => ?_) (fun c120 hf => ?_)
            · refine z_aload_n (q := 209) (i := 0) C 1 dX9_ahead_208 rfl rfl rfl ?_
              refine z_dup (q := 210) C dX9_ahead_209 rfl rfl ?_
              refine z_getI (q := 213) C flX9_137 dX9_ahead_210 hf rfl fun v34 hf => ?_
              refine z_iconst (q := 214) C (1 : Int32) dX9_ahead_213 ki_1 rfl ?_
              refine z_iadd (q := 215) C dX9_ahead_214 rfl ?_
              refine z_putI (q := 218) C puX9_137 dX9_ahead_215 hf rfl fun σ hf => ?_
              refine z_aload_n (q := 219) (i := 0) C 1 dX9_ahead_218 rfl rfl rfl ?_
              refine z_iload_n (q := 220) (i := 1) C 0 dX9_ahead_219 rfl rfl rfl ?_
              refine z_bipush (q := 222) C (59 : Int32) dX9_ahead_220 kb_59 rfl ?_
              refine z_icmpne (q := 225) (tgt := 229) C dX9_ahead_222 (by decide) rfl hf (fun c222 hf => ?_) (fun c222 hf => ?_)
              · refine z_iconst (q := 230) C (1 : Int32) dX9_ahead_229 ki_1 rfl ?_
                refine z_lv [] rfl ?_
                exact j230_0 (1 : Int32) a0_26 σ hf
              · refine z_iconst (q := 226) C (4 : Int32) dX9_ahead_225 ki_4 rfl ?_
                refine z_goto (q := 230) C dX9_ahead_226 (by decide) ?_
                refine z_lv [] rfl ?_
                exact j230_0 (4 : Int32) a0_26 σ hf
            · refine z_aload_n (q := 124) (i := 0) C 1 dX9_ahead_123 rfl rfl rfl ?_
              refine z_iconst (q := 125) C (0 : Int32) dX9_ahead_124 ki_0 rfl ?_
              refine z_putI (q := 128) C puX9_146 dX9_ahead_125 hf rfl fun σ hf => ?_
              refine z_lv [1] rfl ?_
              obtain ⟨r1, hr1, hk1⟩ := Option.bind_eq_some_iff.mp hf
              refine loopC_ind (P := fun s => ZW l G 2 X (ZQ G X (.returned none) out) s 128 [(0, .ref a0_26)] []) (fun σ x1 hf hx1 => ?_) hr1
              unfold f_X9_ahead_L128 at hf
              try dsimp only at hf
              try dsimp only
              refine z_aload_n (q := 129) (i := 0) C 0 dX9_ahead_128 rfl rfl rfl ?_
              refine z_aload_n (q := 130) (i := 0) C 0 dX9_ahead_129 rfl rfl rfl ?_
              refine z_getI (q := 133) C flX9_137 dX9_ahead_130 hf rfl fun v35 hf => ?_
              refine z_callVi (q := 136) (As := [.int v35]) C (fun o ho => m_X9_byteAt _ _ _ ho) zk9 vvX9_140 cdX9_byteAt pnX9 dX9_ahead_133 rfl (by decide) (Nat.le_of_ble_eq_true rfl) hf rfl fun v36 σ hf => ?_
              refine z_callSi (q := 139) (As := [.int v36]) C (fun o ho => m_X9_isDigit _ _ ho) vsX9_155 cdX9_isDigit pnX9 dX9_ahead_136 rfl (by decide) (Nat.le_of_ble_eq_true rfl) hf rfl fun v37 σ hf => ?_
              refine z_ifeq (q := 142) (tgt := 183) C dX9_ahead_139 (by decide) rfl hf (fun c139 hf => ?_) (fun c139 hf => ?_)
              · have e1 := zl_x hf hx1
                have hf := hk1
                rw [← e1] at hf
                try dsimp only at hf
                refine z_aload_n (q := 184) (i := 0) C 0 dX9_ahead_183 rfl rfl rfl ?_
                refine z_aload_n (q := 185) (i := 0) C 0 dX9_ahead_184 rfl rfl rfl ?_
                refine z_getI (q := 188) C flX9_137 dX9_ahead_185 hf rfl fun v38 hf => ?_
                refine z_aload_n (q := 189) (i := 0) C 0 dX9_ahead_188 rfl rfl rfl ?_
                refine z_getI (q := 192) C flX9_143 dX9_ahead_189 hf rfl fun v39 hf => ?_
                refine z_isub (q := 193) C dX9_ahead_192 rfl ?_
                refine z_iconst (q := 194) C (4 : Int32) dX9_ahead_193 ki_4 rfl ?_
                refine z_icmple (q := 197) (tgt := 201) C dX9_ahead_194 (by decide) rfl hf (fun c194 hf => ?_) (fun c194 hf => ?_)
                · refine z_iconst (q := 202) C (3 : Int32) dX9_ahead_201 ki_3 rfl ?_
                  refine z_lv [] rfl ?_
                  exact j202_0 (3 : Int32) a0_26 σ hf
                · refine z_iconst (q := 198) C (1 : Int32) dX9_ahead_197 ki_1 rfl ?_
                  refine z_goto (q := 202) C dX9_ahead_198 (by decide) ?_
                  refine z_lv [] rfl ?_
                  exact j202_0 (1 : Int32) a0_26 σ hf
              · refine z_aload_n (q := 143) (i := 0) C 0 dX9_ahead_142 rfl rfl rfl ?_
                refine z_ldc (q := 145) C q1828 dX9_ahead_143 rfl ?_
                refine z_bipush (q := 147) C (10 : Int32) dX9_ahead_145 kb_10 rfl ?_
                refine z_aload_n (q := 148) (i := 0) C 0 dX9_ahead_147 rfl rfl rfl ?_
                refine z_getI (q := 151) C flX9_146 dX9_ahead_148 hf rfl fun v40 hf => ?_
                refine z_imul (q := 152) C dX9_ahead_151 rfl ?_
                refine z_aload_n (q := 153) (i := 0) C 0 dX9_ahead_152 rfl rfl rfl ?_
                refine z_aload_n (q := 154) (i := 0) C 0 dX9_ahead_153 rfl rfl rfl ?_
                refine z_getI (q := 157) C flX9_137 dX9_ahead_154 hf rfl fun v41 hf => ?_
                refine z_callVi (q := 160) (As := [.int v41]) C (fun o ho => m_X9_byteAt _ _ _ ho) zk9 vvX9_140 cdX9_byteAt pnX9 dX9_ahead_157 rfl (by decide) (Nat.le_of_ble_eq_true rfl) hf rfl fun v42 σ hf => ?_
                refine z_iadd (q := 161) C dX9_ahead_160 rfl ?_
                refine z_bipush (q := 163) C (48 : Int32) dX9_ahead_161 kb_48 rfl ?_
                refine z_isub (q := 164) C dX9_ahead_163 rfl ?_
                refine z_mmin (q := 167) C q1829 dX9_ahead_164 (by decide) (Nat.le_of_ble_eq_true rfl) rfl ?_
                refine z_putI (q := 170) C puX9_146 dX9_ahead_167 hf rfl fun σ hf => ?_
                refine z_aload_n (q := 171) (i := 0) C 0 dX9_ahead_170 rfl rfl rfl ?_
                refine z_dup (q := 172) C dX9_ahead_171 rfl rfl ?_
                refine z_getI (q := 175) C flX9_137 dX9_ahead_172 hf rfl fun v43 hf => ?_
                refine z_iconst (q := 176) C (1 : Int32) dX9_ahead_175 ki_1 rfl ?_
                refine z_iadd (q := 177) C dX9_ahead_176 rfl ?_
                refine z_putI (q := 180) C puX9_137 dX9_ahead_177 hf rfl fun σ hf => ?_
                refine z_goto (q := 128) C dX9_ahead_180 (by decide) ?_
                have hc1 := zl_c hf hx1
                exact hc1
          · refine z_lv [1] rfl ?_
            obtain ⟨r1, hr1, hk1⟩ := Option.bind_eq_some_iff.mp hf
            refine loopC_ind (P := fun s => ZW l G 2 X (ZQ G X (.returned none) out) s 81 [(0, .ref a0_26)] []) (fun σ x1 hf hx1 => ?_) hr1
            unfold f_X9_ahead_L81 at hf
            try dsimp only at hf
            try dsimp only
            refine z_aload_n (q := 82) (i := 0) C 0 dX9_ahead_81 rfl rfl rfl ?_
            refine z_aload_n (q := 83) (i := 0) C 0 dX9_ahead_82 rfl rfl rfl ?_
            refine z_getI (q := 86) C flX9_137 dX9_ahead_83 hf rfl fun v44 hf => ?_
            refine z_callVi (q := 89) (As := [.int v44]) C (fun o ho => m_X9_byteAt _ _ _ ho) zk9 vvX9_140 cdX9_byteAt pnX9 dX9_ahead_86 rfl (by decide) (Nat.le_of_ble_eq_true rfl) hf rfl fun v45 σ hf => ?_
            refine z_callSi (q := 92) (As := [.int v45]) C (fun o ho => m_X9_isSmall _ _ ho) vsX9_152 cdX9_isSmall pnX9 dX9_ahead_89 rfl (by decide) (Nat.le_of_ble_eq_true rfl) hf rfl fun v46 σ hf => ?_
            refine z_ifeq (q := 95) (tgt := 108) C dX9_ahead_92 (by decide) rfl hf (fun c92 hf => ?_) (fun c92 hf => ?_)
            · have e1 := zl_x hf hx1
              have hf := hk1
              rw [← e1] at hf
              try dsimp only at hf
              refine z_aload_n (q := 109) (i := 0) C 0 dX9_ahead_108 rfl rfl rfl ?_
              refine z_iconst (q := 110) C (2 : Int32) dX9_ahead_109 ki_2 rfl ?_
              refine z_putI (q := 113) C puX9_149 dX9_ahead_110 hf rfl fun σ hf => ?_
              refine z_goto (q := 233) C dX9_ahead_113 (by decide) ?_
              refine z_lv [] rfl ?_
              exact j233_0  σ hf
            · refine z_aload_n (q := 96) (i := 0) C 0 dX9_ahead_95 rfl rfl rfl ?_
              refine z_dup (q := 97) C dX9_ahead_96 rfl rfl ?_
              refine z_getI (q := 100) C flX9_137 dX9_ahead_97 hf rfl fun v47 hf => ?_
              refine z_iconst (q := 101) C (1 : Int32) dX9_ahead_100 ki_1 rfl ?_
              refine z_iadd (q := 102) C dX9_ahead_101 rfl ?_
              refine z_putI (q := 105) C puX9_137 dX9_ahead_102 hf rfl fun σ hf => ?_
              refine z_goto (q := 81) C dX9_ahead_105 (by decide) ?_
              have hc1 := zl_c hf hx1
              exact hc1
        · refine z_aload_n (q := 67) (i := 0) C 1 dX9_ahead_66 rfl rfl rfl ?_
          refine z_iconst (q := 68) C (0 : Int32) dX9_ahead_67 ki_0 rfl ?_
          refine z_putI (q := 71) C puX9_149 dX9_ahead_68 hf rfl fun σ hf => ?_
          refine z_goto (q := 233) C dX9_ahead_71 (by decide) ?_
          refine z_lv [] rfl ?_
          exact j233_0  σ hf
      · exact j26_1  σ hf
  refine z_aload_n (q := 1) (i := 0) C 0 dX9_ahead_0 rfl rfl rfl ?_
  refine z_aload_n (q := 2) (i := 0) C 0 dX9_ahead_1 rfl rfl rfl ?_
  refine z_getI (q := 5) C flX9_137 dX9_ahead_2 hf rfl fun v1 hf => ?_
  refine z_callVi (q := 8) (As := [.int v1]) C (fun o ho => m_X9_byteAt _ _ _ ho) zk9 vvX9_140 cdX9_byteAt pnX9 dX9_ahead_5 rfl (by decide) (Nat.le_of_ble_eq_true rfl) hf rfl fun v2 σ hf => ?_
  refine z_bipush (q := 10) C (32 : Int32) dX9_ahead_8 kb_32 rfl ?_
  refine z_icmpeq (q := 13) (tgt := 26) C dX9_ahead_10 (by decide) rfl hf (fun c10 hf => ?_) (fun c10 hf => ?_)
  · exact j26_0 a0 σ hf
  · refine z_aload_n (q := 14) (i := 0) C 0 dX9_ahead_13 rfl rfl rfl ?_
    refine z_aload_n (q := 15) (i := 0) C 0 dX9_ahead_14 rfl rfl rfl ?_
    refine z_getI (q := 18) C flX9_137 dX9_ahead_15 hf rfl fun v3 hf => ?_
    refine z_callVi (q := 21) (As := [.int v3]) C (fun o ho => m_X9_byteAt _ _ _ ho) zk9 vvX9_140 cdX9_byteAt pnX9 dX9_ahead_18 rfl (by decide) (Nat.le_of_ble_eq_true rfl) hf rfl fun v4 σ hf => ?_
    refine z_bipush (q := 23) C (10 : Int32) dX9_ahead_21 kb_10 rfl ?_
    refine z_icmpne (q := 26) (tgt := 39) C dX9_ahead_23 (by decide) rfl hf (fun c23 hf => ?_) (fun c23 hf => ?_)
    · refine z_aload_n (q := 40) (i := 0) C 0 dX9_ahead_39 rfl rfl rfl ?_
      refine z_aload_n (q := 41) (i := 0) C 0 dX9_ahead_40 rfl rfl rfl ?_
      refine z_getI (q := 44) C flX9_137 dX9_ahead_41 hf rfl fun v5 hf => ?_
      refine z_putI (q := 47) C puX9_143 dX9_ahead_44 hf rfl fun σ hf => ?_
      refine z_aload_n (q := 48) (i := 0) C 0 dX9_ahead_47 rfl rfl rfl ?_
      refine z_aload_n (q := 49) (i := 0) C 0 dX9_ahead_48 rfl rfl rfl ?_
      refine z_getI (q := 52) C flX9_137 dX9_ahead_49 hf rfl fun v6 hf => ?_
      refine z_callVi (q := 55) (As := [.int v6]) C (fun o ho => m_X9_byteAt _ _ _ ho) zk9 vvX9_140 cdX9_byteAt pnX9 dX9_ahead_52 rfl (by decide) (Nat.le_of_ble_eq_true rfl) hf rfl fun v7 σ hf => ?_
      refine z_istore_n (q := 56) (i := 1) (lv' := [(1, .int v7), (0, .ref a0)]) C dX9_ahead_55 rfl (by decide) rfl rfl ?_
      refine z_aload_n (q := 57) (i := 0) C 1 dX9_ahead_56 rfl rfl rfl ?_
      refine z_iload_n (q := 58) (i := 1) C 0 dX9_ahead_57 rfl rfl rfl ?_
      refine z_putI (q := 61) C puX9_146 dX9_ahead_58 hf rfl fun σ hf => ?_
      refine z_iload_n (q := 62) (i := 1) C 0 dX9_ahead_61 rfl rfl rfl ?_
      refine z_iconst (q := 63) C (-1 : Int32) dX9_ahead_62 ki_m1 rfl ?_
      refine z_icmpne (q := 66) (tgt := 74) C dX9_ahead_63 (by decide) rfl hf (fun c63 hf => ?_) (fun c63 hf => ?_)
      · refine z_iload_n (q := 75) (i := 1) C 0 dX9_ahead_74 rfl rfl rfl ?_
        refine z_callSi (q := 78) (As := [.int v7]) C (fun o ho => m_X9_isSmall _ _ ho) vsX9_152 cdX9_isSmall pnX9 dX9_ahead_75 rfl (by decide) (Nat.le_of_ble_eq_true rfl) hf rfl fun v8 σ hf => ?_
        refine z_ifeq (q := 81) (tgt := 116) C dX9_ahead_78 (by decide) rfl hf (fun c78 hf => ?_) (fun c78 hf => ?_)
        · refine z_iload_n (q := 117) (i := 1) C 0 dX9_ahead_116 rfl rfl rfl ?_
          refine z_callSi (q := 120) (As := [.int v7]) C (fun o ho => m_X9_isDigit _ _ ho) vsX9_155 cdX9_isDigit pnX9 dX9_ahead_117 rfl (by decide) (Nat.le_of_ble_eq_true rfl) hf rfl fun v9 σ hf => ?_
          refine z_ifeq (q := 123) (tgt := 208) C dX9_ahead_120 (by decide) rfl hf (fun c120 hf => ?_) (fun c120 hf => ?_)
          · refine z_aload_n (q := 209) (i := 0) C 1 dX9_ahead_208 rfl rfl rfl ?_
            refine z_dup (q := 210) C dX9_ahead_209 rfl rfl ?_
            refine z_getI (q := 213) C flX9_137 dX9_ahead_210 hf rfl fun v10 hf => ?_
            refine z_iconst (q := 214) C (1 : Int32) dX9_ahead_213 ki_1 rfl ?_
            refine z_iadd (q := 215) C dX9_ahead_214 rfl ?_
            refine z_putI (q := 218) C puX9_137 dX9_ahead_215 hf rfl fun σ hf => ?_
            refine z_aload_n (q := 219) (i := 0) C 1 dX9_ahead_218 rfl rfl rfl ?_
            refine z_iload_n (q := 220) (i := 1) C 0 dX9_ahead_219 rfl rfl rfl ?_
            refine z_bipush (q := 222) C (59 : Int32) dX9_ahead_220 kb_59 rfl ?_
            refine z_icmpne (q := 225) (tgt := 229) C dX9_ahead_222 (by decide) rfl hf (fun c222 hf => ?_) (fun c222 hf => ?_)
            · refine z_iconst (q := 230) C (1 : Int32) dX9_ahead_229 ki_1 rfl ?_
              refine z_lv [] rfl ?_
              exact j230_0 (1 : Int32) a0 σ hf
            · refine z_iconst (q := 226) C (4 : Int32) dX9_ahead_225 ki_4 rfl ?_
              refine z_goto (q := 230) C dX9_ahead_226 (by decide) ?_
              refine z_lv [] rfl ?_
              exact j230_0 (4 : Int32) a0 σ hf
          · refine z_aload_n (q := 124) (i := 0) C 1 dX9_ahead_123 rfl rfl rfl ?_
            refine z_iconst (q := 125) C (0 : Int32) dX9_ahead_124 ki_0 rfl ?_
            refine z_putI (q := 128) C puX9_146 dX9_ahead_125 hf rfl fun σ hf => ?_
            refine z_lv [1] rfl ?_
            obtain ⟨r1, hr1, hk1⟩ := Option.bind_eq_some_iff.mp hf
            refine loopC_ind (P := fun s => ZW l G 2 X (ZQ G X (.returned none) out) s 128 [(0, .ref a0)] []) (fun σ x1 hf hx1 => ?_) hr1
            unfold f_X9_ahead_L128 at hf
            try dsimp only at hf
            try dsimp only
            refine z_aload_n (q := 129) (i := 0) C 0 dX9_ahead_128 rfl rfl rfl ?_
            refine z_aload_n (q := 130) (i := 0) C 0 dX9_ahead_129 rfl rfl rfl ?_
            refine z_getI (q := 133) C flX9_137 dX9_ahead_130 hf rfl fun v11 hf => ?_
            refine z_callVi (q := 136) (As := [.int v11]) C (fun o ho => m_X9_byteAt _ _ _ ho) zk9 vvX9_140 cdX9_byteAt pnX9 dX9_ahead_133 rfl (by decide) (Nat.le_of_ble_eq_true rfl) hf rfl fun v12 σ hf => ?_
            refine z_callSi (q := 139) (As := [.int v12]) C (fun o ho => m_X9_isDigit _ _ ho) vsX9_155 cdX9_isDigit pnX9 dX9_ahead_136 rfl (by decide) (Nat.le_of_ble_eq_true rfl) hf rfl fun v13 σ hf => ?_
            refine z_ifeq (q := 142) (tgt := 183) C dX9_ahead_139 (by decide) rfl hf (fun c139 hf => ?_) (fun c139 hf => ?_)
            · have e1 := zl_x hf hx1
              have hf := hk1
              rw [← e1] at hf
              try dsimp only at hf
              refine z_aload_n (q := 184) (i := 0) C 0 dX9_ahead_183 rfl rfl rfl ?_
              refine z_aload_n (q := 185) (i := 0) C 0 dX9_ahead_184 rfl rfl rfl ?_
              refine z_getI (q := 188) C flX9_137 dX9_ahead_185 hf rfl fun v14 hf => ?_
              refine z_aload_n (q := 189) (i := 0) C 0 dX9_ahead_188 rfl rfl rfl ?_
              refine z_getI (q := 192) C flX9_143 dX9_ahead_189 hf rfl fun v15 hf => ?_
              refine z_isub (q := 193) C dX9_ahead_192 rfl ?_
              refine z_iconst (q := 194) C (4 : Int32) dX9_ahead_193 ki_4 rfl ?_
              refine z_icmple (q := 197) (tgt := 201) C dX9_ahead_194 (by decide) rfl hf (fun c194 hf => ?_) (fun c194 hf => ?_)
              · refine z_iconst (q := 202) C (3 : Int32) dX9_ahead_201 ki_3 rfl ?_
                refine z_lv [] rfl ?_
                exact j202_0 (3 : Int32) a0 σ hf
              · refine z_iconst (q := 198) C (1 : Int32) dX9_ahead_197 ki_1 rfl ?_
                refine z_goto (q := 202) C dX9_ahead_198 (by decide) ?_
                refine z_lv [] rfl ?_
                exact j202_0 (1 : Int32) a0 σ hf
            · refine z_aload_n (q := 143) (i := 0) C 0 dX9_ahead_142 rfl rfl rfl ?_
              refine z_ldc (q := 145) C q1828 dX9_ahead_143 rfl ?_
              refine z_bipush (q := 147) C (10 : Int32) dX9_ahead_145 kb_10 rfl ?_
              refine z_aload_n (q := 148) (i := 0) C 0 dX9_ahead_147 rfl rfl rfl ?_
              refine z_getI (q := 151) C flX9_146 dX9_ahead_148 hf rfl fun v16 hf => ?_
              refine z_imul (q := 152) C dX9_ahead_151 rfl ?_
              refine z_aload_n (q := 153) (i := 0) C 0 dX9_ahead_152 rfl rfl rfl ?_
              refine z_aload_n (q := 154) (i := 0) C 0 dX9_ahead_153 rfl rfl rfl ?_
              refine z_getI (q := 157) C flX9_137 dX9_ahead_154 hf rfl fun v17 hf => ?_
              refine z_callVi (q := 160) (As := [.int v17]) C (fun o ho => m_X9_byteAt _ _ _ ho) zk9 vvX9_140 cdX9_byteAt pnX9 dX9_ahead_157 rfl (by decide) (Nat.le_of_ble_eq_true rfl) hf rfl fun v18 σ hf => ?_
              refine z_iadd (q := 161) C dX9_ahead_160 rfl ?_
              refine z_bipush (q := 163) C (48 : Int32) dX9_ahead_161 kb_48 rfl ?_
              refine z_isub (q := 164) C dX9_ahead_163 rfl ?_
              refine z_mmin (q := 167) C q1829 dX9_ahead_164 (by decide) (Nat.le_of_ble_eq_true rfl) rfl ?_
              refine z_putI (q := 170) C puX9_146 dX9_ahead_167 hf rfl fun σ hf => ?_
              refine z_aload_n (q := 171) (i := 0) C 0 dX9_ahead_170 rfl rfl rfl ?_
              refine z_dup (q := 172) C dX9_ahead_171 rfl rfl ?_
              refine z_getI (q := 175) C flX9_137 dX9_ahead_172 hf rfl fun v19 hf => ?_
              refine z_iconst (q := 176) C (1 : Int32) dX9_ahead_175 ki_1 rfl ?_
              refine z_iadd (q := 177) C dX9_ahead_176 rfl ?_
              refine z_putI (q := 180) C puX9_137 dX9_ahead_177 hf rfl fun σ hf => ?_
              refine z_goto (q := 128) C dX9_ahead_180 (by decide) ?_
              have hc1 := zl_c hf hx1
              exact hc1
        · refine z_lv [1] rfl ?_
          obtain ⟨r1, hr1, hk1⟩ := Option.bind_eq_some_iff.mp hf
          refine loopC_ind (P := fun s => ZW l G 2 X (ZQ G X (.returned none) out) s 81 [(0, .ref a0)] []) (fun σ x1 hf hx1 => ?_) hr1
          unfold f_X9_ahead_L81 at hf
          try dsimp only at hf
          try dsimp only
          refine z_aload_n (q := 82) (i := 0) C 0 dX9_ahead_81 rfl rfl rfl ?_
          refine z_aload_n (q := 83) (i := 0) C 0 dX9_ahead_82 rfl rfl rfl ?_
          refine z_getI (q := 86) C flX9_137 dX9_ahead_83 hf rfl fun v20 hf => ?_
          refine z_callVi (q := 89) (As := [.int v20]) C (fun o ho => m_X9_byteAt _ _ _ ho) zk9 vvX9_140 cdX9_byteAt pnX9 dX9_ahead_86 rfl (by decide) (Nat.le_of_ble_eq_true rfl) hf rfl fun v21 σ hf => ?_
          refine z_callSi (q := 92) (As := [.int v21]) C (fun o ho => m_X9_isSmall _ _ ho) vsX9_152 cdX9_isSmall pnX9 dX9_ahead_89 rfl (by decide) (Nat.le_of_ble_eq_true rfl) hf rfl fun v22 σ hf => ?_
          refine z_ifeq (q := 95) (tgt := 108) C dX9_ahead_92 (by decide) rfl hf (fun c92 hf => ?_) (fun c92 hf => ?_)
          · have e1 := zl_x hf hx1
            have hf := hk1
            rw [← e1] at hf
            try dsimp only at hf
            refine z_aload_n (q := 109) (i := 0) C 0 dX9_ahead_108 rfl rfl rfl ?_
            refine z_iconst (q := 110) C (2 : Int32) dX9_ahead_109 ki_2 rfl ?_
            refine z_putI (q := 113) C puX9_149 dX9_ahead_110 hf rfl fun σ hf => ?_
            refine z_goto (q := 233) C dX9_ahead_113 (by decide) ?_
            refine z_lv [] rfl ?_
            exact j233_0  σ hf
          · refine z_aload_n (q := 96) (i := 0) C 0 dX9_ahead_95 rfl rfl rfl ?_
            refine z_dup (q := 97) C dX9_ahead_96 rfl rfl ?_
            refine z_getI (q := 100) C flX9_137 dX9_ahead_97 hf rfl fun v23 hf => ?_
            refine z_iconst (q := 101) C (1 : Int32) dX9_ahead_100 ki_1 rfl ?_
            refine z_iadd (q := 102) C dX9_ahead_101 rfl ?_
            refine z_putI (q := 105) C puX9_137 dX9_ahead_102 hf rfl fun σ hf => ?_
            refine z_goto (q := 81) C dX9_ahead_105 (by decide) ?_
            have hc1 := zl_c hf hx1
            exact hc1
      · refine z_aload_n (q := 67) (i := 0) C 1 dX9_ahead_66 rfl rfl rfl ?_
        refine z_iconst (q := 68) C (0 : Int32) dX9_ahead_67 ki_0 rfl ?_
        refine z_putI (q := 71) C puX9_149 dX9_ahead_68 hf rfl fun σ hf => ?_
        refine z_goto (q := 233) C dX9_ahead_71 (by decide) ?_
        refine z_lv [] rfl ?_
        exact j233_0  σ hf
    · exact j26_0 a0 σ hf

noncomputable def f_X9_begins_L26 (c0_26 : Nat) (c1_26 : Int32) (i_2 : Int32) (σ : ZT) : Option ((Int32 × ZT) ⊕ ZT) :=
  if i_2 < c1_26 then
  ((gR 9 909 c0_26 σ).bind fun v4 =>
  (gR 9 908 c0_26 σ).bind fun v5 =>
  (ldI 2 v5 i_2 σ).bind fun v6 =>
  (stB v4 i_2 v6 σ).bind fun σ =>
  some (.inl ((i_2 + (1 : Int32)), σ)))
  else
  (some (.inr σ))
noncomputable def f_X9_begins_J17  (σ : ZT) : Option (Int32 × ZT) :=
  some ((0 : Int32), σ)
noncomputable def f_X9_begins (a0 : Nat) (i1 : Int32) (i2 : Int32) (σ : ZT) : Option (Int32 × ZT) :=
  if i1 < 0 then
  (f_X9_begins_J17  σ)
  else
  ((gI 9 910 a0 σ).bind fun v1 =>
  if v1 < i1 then
  (f_X9_begins_J17  σ)
  else
  (if i2 < i1 then
  (f_X9_begins_J17  σ)
  else
  ((pI 9 911 a0 i1 σ).bind fun σ =>
  (loopC (fun s : (Int32 × ZT) => f_X9_begins_L26 a0 i1 s.1 s.2) ((0 : Int32), σ)).bind fun σ =>
  (pI 9 910 a0 (0 : Int32) σ).bind fun σ =>
  (pI 9 918 a0 (0 : Int32) σ).bind fun σ =>
  (pI 9 917 a0 (-1 : Int32) σ).bind fun σ =>
  (pI 9 914 a0 (0 : Int32) σ).bind fun σ =>
  (pI 9 919 a0 (0 : Int32) σ).bind fun σ =>
  (vc 9 a0 σ (f_X9_ahead a0 σ)).bind fun σ =>
  some ((1 : Int32), σ))))
set_option maxHeartbeats 4000000 in
theorem m_X9_begins {l : Launch} {G : ZG} (a0 : Nat) (i1 : Int32) (i2 : Int32) (σ : ZT) {out : (Int32 × ZT)} (hf : f_X9_begins a0 i1 i2 σ = some out) : ZM l G yX9_begins cX9_begins 4 (some .boolean) [] 7 [.ref a0, .int i1, .int i2] σ (.returned (some (.int out.1))) out.2 := by
  refine ZM.of [(0, .ref a0), (1, .int i1), (2, .int i2)] rfl (Nat.le_of_ble_eq_true rfl) fun X (C : ZC G RX9 "begins" cX9_begins 4 (some .boolean) [] X 7) => ?_
  unfold f_X9_begins at hf
  have j17_0 : ∀  (σ : ZT), f_X9_begins_J17  σ = some out → ZW l G 4 X (ZQ G X (.returned (some (.int out.1))) out.2) σ 17 [] [] := by
    intro  σ hf
    unfold f_X9_begins_J17 at hf
    refine z_iconst (q := 18) C (0 : Int32) dX9_begins_17 ki_0 rfl ?_
    exact z_zreturn C rfl z_nb0 dX9_begins_18 (Option.some.inj hf)
  refine z_iload_n (q := 1) (i := 1) C 1 dX9_begins_0 rfl rfl rfl ?_
  refine z_iflt (q := 4) (tgt := 17) C dX9_begins_1 (by decide) rfl hf (fun c1 hf => ?_) (fun c1 hf => ?_)
  · refine z_lv [] rfl ?_
    exact j17_0  σ hf
  · refine z_iload_n (q := 5) (i := 1) C 1 dX9_begins_4 rfl rfl rfl ?_
    refine z_aload_n (q := 6) (i := 0) C 0 dX9_begins_5 rfl rfl rfl ?_
    refine z_getI (q := 9) C flX9_127 dX9_begins_6 hf rfl fun v1 hf => ?_
    refine z_icmpgt (q := 12) (tgt := 17) C dX9_begins_9 (by decide) rfl hf (fun c9 hf => ?_) (fun c9 hf => ?_)
    · refine z_lv [] rfl ?_
      exact j17_0  σ hf
    · refine z_iload_n (q := 13) (i := 1) C 1 dX9_begins_12 rfl rfl rfl ?_
      refine z_iload_n (q := 14) (i := 2) C 2 dX9_begins_13 rfl rfl rfl ?_
      refine z_icmple (q := 17) (tgt := 19) C dX9_begins_14 (by decide) rfl hf (fun c14 hf => ?_) (fun c14 hf => ?_)
      · refine z_aload_n (q := 20) (i := 0) C 0 dX9_begins_19 rfl rfl rfl ?_
        refine z_iload_n (q := 21) (i := 1) C 1 dX9_begins_20 rfl rfl rfl ?_
        refine z_putI (q := 24) C puX9_134 dX9_begins_21 hf rfl fun σ hf => ?_
        refine z_iconst (q := 25) C (0 : Int32) dX9_begins_24 ki_0 rfl ?_
        refine z_istore_n (q := 26) (i := 3) (lv' := [(3, .int (0 : Int32)), (0, .ref a0), (1, .int i1), (2, .int i2)]) C dX9_begins_25 rfl (by decide) rfl rfl ?_
        refine z_lv [1, 2, 0] rfl ?_
        obtain ⟨r1, hr1, hk1⟩ := Option.bind_eq_some_iff.mp hf
        refine loopC_ind (P := fun s => ZW l G 4 X (ZQ G X (.returned (some (.int out.1))) out.2) s.2 26 [(0, .ref a0), (1, .int i1), (3, .int s.1)] []) (fun s x1 hf hx1 => ?_) hr1
        obtain ⟨i_2, σ⟩ := s
        unfold f_X9_begins_L26 at hf
        try dsimp only at hf
        try dsimp only
        refine z_iload_n (q := 27) (i := 3) C 2 dX9_begins_26 rfl rfl rfl ?_
        refine z_iload_n (q := 28) (i := 1) C 1 dX9_begins_27 rfl rfl rfl ?_
        refine z_icmpge (q := 31) (tgt := 49) C dX9_begins_28 (by decide) rfl hf (fun c28 hf => ?_) (fun c28 hf => ?_)
        · have e1 := zl_x hf hx1
          have hf := hk1
          rw [← e1] at hf
          try dsimp only at hf
          refine z_aload_n (q := 50) (i := 0) C 0 dX9_begins_49 rfl rfl rfl ?_
          refine z_iconst (q := 51) C (0 : Int32) dX9_begins_50 ki_0 rfl ?_
          refine z_putI (q := 54) C puX9_127 dX9_begins_51 hf rfl fun σ hf => ?_
          refine z_aload_n (q := 55) (i := 0) C 0 dX9_begins_54 rfl rfl rfl ?_
          refine z_iconst (q := 56) C (0 : Int32) dX9_begins_55 ki_0 rfl ?_
          refine z_putI (q := 59) C puX9_174 dX9_begins_56 hf rfl fun σ hf => ?_
          refine z_aload_n (q := 60) (i := 0) C 0 dX9_begins_59 rfl rfl rfl ?_
          refine z_iconst (q := 61) C (-1 : Int32) dX9_begins_60 ki_m1 rfl ?_
          refine z_putI (q := 64) C puX9_41 dX9_begins_61 hf rfl fun σ hf => ?_
          refine z_aload_n (q := 65) (i := 0) C 0 dX9_begins_64 rfl rfl rfl ?_
          refine z_iconst (q := 66) C (0 : Int32) dX9_begins_65 ki_0 rfl ?_
          refine z_putI (q := 69) C puX9_137 dX9_begins_66 hf rfl fun σ hf => ?_
          refine z_aload_n (q := 70) (i := 0) C 0 dX9_begins_69 rfl rfl rfl ?_
          refine z_iconst (q := 71) C (0 : Int32) dX9_begins_70 ki_0 rfl ?_
          refine z_putI (q := 74) C puX9_177 dX9_begins_71 hf rfl fun σ hf => ?_
          refine z_aload_n (q := 75) (i := 0) C 0 dX9_begins_74 rfl rfl rfl ?_
          refine z_callVv (q := 78) (As := []) C (fun o ho => m_X9_ahead _ _ ho) zk9 vvX9_180 cdX9_ahead pnX9 dX9_begins_75 rfl (by decide) (Nat.le_of_ble_eq_true rfl) hf rfl fun σ hf => ?_
          refine z_iconst (q := 79) C (1 : Int32) dX9_begins_78 ki_1 rfl ?_
          exact z_zreturn C rfl z_nb1 dX9_begins_79 (Option.some.inj hf)
        · refine z_aload_n (q := 32) (i := 0) C 0 dX9_begins_31 rfl rfl rfl ?_
          refine z_getR (q := 35) C flX9_34 dX9_begins_32 hf rfl fun v4 hf => ?_
          refine z_iload_n (q := 36) (i := 3) C 2 dX9_begins_35 rfl rfl rfl ?_
          refine z_aload_n (q := 37) (i := 0) C 0 dX9_begins_36 rfl rfl rfl ?_
          refine z_getR (q := 40) C flX9_30 dX9_begins_37 hf rfl fun v5 hf => ?_
          refine z_iload_n (q := 41) (i := 3) C 2 dX9_begins_40 rfl rfl rfl ?_
          refine z_bald (q := 42) C dX9_begins_41 hf rfl fun v6 hf => ?_
          refine z_bast (q := 43) C dX9_begins_42 hf rfl fun σ hf => ?_
          refine z_iinc (q := 46) (i := 3) (lv' := [(3, .int (i_2 + (1 : Int32))), (0, .ref a0), (1, .int i1)]) C 2 (i_2 + (1 : Int32)) dX9_begins_43 rfl (kn_1 _) (by decide) rfl rfl ?_
          refine z_goto (q := 26) C dX9_begins_46 (by decide) ?_
          refine z_lv [1, 2, 0] rfl ?_
          have hc1 := zl_c hf hx1
          exact hc1
      · refine z_lv [] rfl ?_
        exact j17_0  σ hf

noncomputable def f_X9_refuse (a0 : Nat) (i1 : Int32) (σ : ZT) : Option (Int32 × ZT) :=
  (pI 9 902 a0 i1 σ).bind fun σ =>
  some ((-1 : Int32), σ)
set_option maxHeartbeats 4000000 in
theorem m_X9_refuse {l : Launch} {G : ZG} (a0 : Nat) (i1 : Int32) (σ : ZT) {out : (Int32 × ZT)} (hf : f_X9_refuse a0 i1 σ = some out) : ZM l G yX9_refuse cX9_refuse 2 (some .int) [] 1 [.ref a0, .int i1] σ (.returned (some (.int out.1))) out.2 := by
  refine ZM.of [(0, .ref a0), (1, .int i1)] rfl (Nat.le_of_ble_eq_true rfl) fun X (C : ZC G RX9 "refuse" cX9_refuse 2 (some .int) [] X 1) => ?_
  unfold f_X9_refuse at hf
  refine z_aload_n (q := 1) (i := 0) C 0 dX9_refuse_0 rfl rfl rfl ?_
  refine z_iload_n (q := 2) (i := 1) C 1 dX9_refuse_1 rfl rfl rfl ?_
  refine z_putI (q := 5) C puX9_97 dX9_refuse_2 hf rfl fun σ hf => ?_
  refine z_iconst (q := 6) C (-1 : Int32) dX9_refuse_5 ki_m1 rfl ?_
  exact z_ireturn C rfl dX9_refuse_6 (Option.some.inj hf)

noncomputable def f_X9_inWords_L25 (c0_25 : Nat) (c1_25 : Nat) (c2_25 : Int32) (c3_25 : Int32) (i_5 : Int32) (σ : ZT) : Option ((Int32 × ZT) ⊕ (Int32 × ZT)) :=
  (zschr c1_25 i_5).bind fun v6 =>
  if v6 = (32 : Int32) then
  (some (.inr (i_5, σ)))
  else
  (some (.inl ((i_5 + (1 : Int32)), σ)))
noncomputable def f_X9_inWords_J107_68 (a0_107 : Nat) (s1_107 : Nat) (i2_107 : Int32) (i3_107 : Int32) (i4_107 : Int32) (i6_107 : Int32) (w0_107 : Int32) (σ : ZT) : Option ((Int32 × Int32 × ZT) ⊕ (Int32 × ZT)) :=
  some (.inl (w0_107, (i6_107 + (1 : Int32)), σ))
noncomputable def f_X9_inWords_L68 (c0_68 : Nat) (c1_68 : Nat) (c2_68 : Int32) (c3_68 : Int32) (c4_68 : Int32) (i_12 : Int32) (i_13 : Int32) (σ : ZT) : Option ((Int32 × Int32 × ZT) ⊕ (Int32 × ZT)) :=
  if i_13 < c4_68 then
  (if i_12 = 0 then
  (some (.inr (i_12, σ)))
  else
  ((zschr c1_68 i_13).bind fun v14 =>
  (gI 9 913 c0_68 σ).bind fun v15 =>
  bnd2 (vc 9 c0_68 σ (f_X9_byteAt c0_68 ((v15 + i_13) - c3_68) σ)) fun v16 σ =>
  if v14 = v16 then
  (f_X9_inWords_J107_68 c0_68 c1_68 c2_68 c3_68 c4_68 i_13 (1 : Int32) σ)
  else
  (f_X9_inWords_J107_68 c0_68 c1_68 c2_68 c3_68 c4_68 i_13 (0 : Int32) σ)))
  else
  (some (.inr (i_12, σ)))
noncomputable def f_X9_inWords_J115_14 (a0_115 : Nat) (s1_115 : Nat) (i2_115 : Int32) (i4_115 : Int32) (i5_115 : Int32) (σ : ZT) : Option ((Int32 × Int32 × ZT) ⊕ ((Int32 × ZT) ⊕ ZT)) :=
  if i5_115 = 0 then
  (some (.inl ((i2_115 + (1 : Int32)), (i4_115 + (1 : Int32)), σ)))
  else
  (some (.inr (.inl (i2_115, σ))))
noncomputable def f_X9_inWords_J63_14 (a0_63 : Nat) (s1_63 : Nat) (i2_63 : Int32) (i3_63 : Int32) (i4_63 : Int32) (w0_63 : Int32) (σ : ZT) : Option ((Int32 × Int32 × ZT) ⊕ ((Int32 × ZT) ⊕ ZT)) :=
  (loopC (fun s : (Int32 × Int32 × ZT) => f_X9_inWords_L68 a0_63 s1_63 i2_63 i3_63 i4_63 s.1 s.2.1 s.2.2) (w0_63, i3_63, σ)).bind fun x => (match x with
  | (x17, σ) => f_X9_inWords_J115_14 a0_63 s1_63 i2_63 i4_63 x17 σ)
noncomputable def f_X9_inWords_L14 (c0_14 : Nat) (c1_14 : Nat) (i_2 : Int32) (i_3 : Int32) (σ : ZT) : Option ((Int32 × Int32 × ZT) ⊕ ((Int32 × ZT) ⊕ ZT)) :=
  (zslen c1_14).bind fun v4 =>
  if i_3 < v4 then
  ((loopC (fun s : (Int32 × ZT) => f_X9_inWords_L25 c0_14 c1_14 i_2 i_3 s.1 s.2) (i_3, σ)).bind fun x => (match x with
  | (x9, σ) => (gI 9 914 c0_14 σ).bind fun v10 =>
  (gI 9 913 c0_14 σ).bind fun v11 =>
  if (x9 - i_3) = (v10 - v11) then
  (f_X9_inWords_J63_14 c0_14 c1_14 i_2 i_3 x9 (1 : Int32) σ)
  else
  (f_X9_inWords_J63_14 c0_14 c1_14 i_2 i_3 x9 (0 : Int32) σ)))
  else
  (some (.inr (.inr σ)))
noncomputable def f_X9_inWords (a0 : Nat) (s1 : Nat) (σ : ZT) : Option (Int32 × ZT) :=
  (gI 9 912 a0 σ).bind fun v1 =>
  if v1 = (2 : Int32) then
  ((loopC (fun s : (Int32 × Int32 × ZT) => f_X9_inWords_L14 a0 s1 s.1 s.2.1 s.2.2) ((0 : Int32), (1 : Int32), σ)).bind fun x => (match x with
  | .inl o => some o
  | .inr σ => some ((-1 : Int32), σ)))
  else
  (some ((-1 : Int32), σ))
set_option maxHeartbeats 4000000 in
theorem m_X9_inWords {l : Launch} {G : ZG} (a0 : Nat) (s1 : Nat) (σ : ZT) {out : (Int32 × ZT)} (hf : f_X9_inWords a0 s1 σ = some out) : ZM l G yX9_inWords cX9_inWords 7 (some .int) [] 6 [.ref a0, .ref (gS G s1)] σ (.returned (some (.int out.1))) out.2 := by
  refine ZM.of [(0, .ref a0), (1, .ref (gS G s1))] rfl (Nat.le_of_ble_eq_true rfl) fun X (C : ZC G RX9 "inWords" cX9_inWords 7 (some .int) [] X 6) => ?_
  unfold f_X9_inWords at hf
  refine z_aload_n (q := 1) (i := 0) C 0 dX9_inWords_0 rfl rfl rfl ?_
  refine z_getI (q := 4) C flX9_149 dX9_inWords_1 hf rfl fun v1 hf => ?_
  refine z_iconst (q := 5) C (2 : Int32) dX9_inWords_4 ki_2 rfl ?_
  refine z_icmpeq (q := 8) (tgt := 10) C dX9_inWords_5 (by decide) rfl hf (fun c5 hf => ?_) (fun c5 hf => ?_)
  · refine z_iconst (q := 11) C (0 : Int32) dX9_inWords_10 ki_0 rfl ?_
    refine z_istore_n (q := 12) (i := 2) (lv' := [(2, .int (0 : Int32)), (0, .ref a0), (1, .ref (gS G s1))]) C dX9_inWords_11 rfl (by decide) rfl rfl ?_
    refine z_iconst (q := 13) C (1 : Int32) dX9_inWords_12 ki_1 rfl ?_
    refine z_istore_n (q := 14) (i := 3) (lv' := [(3, .int (1 : Int32)), (2, .int (0 : Int32)), (0, .ref a0), (1, .ref (gS G s1))]) C dX9_inWords_13 rfl (by decide) rfl rfl ?_
    refine z_lv [2, 3, 1, 0] rfl ?_
    obtain ⟨r1, hr1, hk1⟩ := Option.bind_eq_some_iff.mp hf
    refine loopC_ind (P := fun s => ZW l G 7 X (ZQ G X (.returned (some (.int out.1))) out.2) s.2.2 14 [(0, .ref a0), (1, .ref (gS G s1)), (2, .int s.1), (3, .int s.2.1)] []) (fun s x1 hf hx1 => ?_) hr1
    obtain ⟨i_2, i_3, σ⟩ := s
    unfold f_X9_inWords_L14 at hf
    try dsimp only at hf
    try dsimp only
    have j115_1 : ∀ (i2_115 : Int32) (i4_115 : Int32) (i5_115 : Int32) (σ : ZT), f_X9_inWords_J115_14 a0 s1 i2_115 i4_115 i5_115 σ = some x1 → ZW l G 7 X (ZQ G X (.returned (some (.int out.1))) out.2) σ 115 [(0, .ref a0), (1, .ref (gS G s1)), (2, .int i2_115), (4, .int i4_115), (5, .int i5_115)] [] := by
      intro i2_115 i4_115 i5_115 σ hf
      unfold f_X9_inWords_J115_14 at hf
      refine z_iload (q := 117) (i := 5) C 4 dX9_inWords_115 rfl rfl ?_
      refine z_ifeq (q := 120) (tgt := 122) C dX9_inWords_117 (by decide) rfl hf (fun c117 hf => ?_) (fun c117 hf => ?_)
      · refine z_iinc (q := 125) (i := 2) (lv' := [(2, .int (i2_115 + (1 : Int32))), (0, .ref a0), (1, .ref (gS G s1)), (4, .int i4_115), (5, .int i5_115)]) C 2 (i2_115 + (1 : Int32)) dX9_inWords_122 rfl (kn_1 _) (by decide) rfl rfl ?_
        refine z_iload (q := 127) (i := 4) C 3 dX9_inWords_125 rfl rfl ?_
        refine z_iconst (q := 128) C (1 : Int32) dX9_inWords_127 ki_1 rfl ?_
        refine z_iadd (q := 129) C dX9_inWords_128 rfl ?_
        refine z_istore_n (q := 130) (i := 3) (lv' := [(3, .int (i4_115 + (1 : Int32))), (2, .int (i2_115 + (1 : Int32))), (0, .ref a0), (1, .ref (gS G s1)), (4, .int i4_115), (5, .int i5_115)]) C dX9_inWords_129 rfl (by decide) rfl rfl ?_
        refine z_goto (q := 14) C dX9_inWords_130 (by decide) ?_
        refine z_lv [2, 3, 1, 0] rfl ?_
        have hc1 := zl_c hf hx1
        exact hc1
      · refine z_iload_n (q := 121) (i := 2) C 2 dX9_inWords_120 rfl rfl rfl ?_
        have e1 := zl_x hf hx1
        have hf := hk1
        rw [← e1] at hf
        try dsimp only at hf
        exact z_ireturn C rfl dX9_inWords_121 (Option.some.inj hf)
    have j63_1 : ∀ (i2_63 : Int32) (i3_63 : Int32) (i4_63 : Int32) (w0_63 : Int32) (σ : ZT), f_X9_inWords_J63_14 a0 s1 i2_63 i3_63 i4_63 w0_63 σ = some x1 → ZW l G 7 X (ZQ G X (.returned (some (.int out.1))) out.2) σ 63 [(0, .ref a0), (1, .ref (gS G s1)), (2, .int i2_63), (3, .int i3_63), (4, .int i4_63)] [.int w0_63] := by
      intro i2_63 i3_63 i4_63 w0_63 σ hf
      unfold f_X9_inWords_J63_14 at hf
      refine z_istore (q := 65) (i := 5) (lv' := [(5, .int w0_63), (0, .ref a0), (1, .ref (gS G s1)), (2, .int i2_63), (3, .int i3_63), (4, .int i4_63)]) C dX9_inWords_63 (by decide) rfl rfl ?_
      refine z_iload_n (q := 66) (i := 3) C 4 dX9_inWords_65 rfl rfl rfl ?_
      refine z_istore (q := 68) (i := 6) (lv' := [(6, .int i3_63), (5, .int w0_63), (0, .ref a0), (1, .ref (gS G s1)), (2, .int i2_63), (3, .int i3_63), (4, .int i4_63)]) C dX9_inWords_66 (by decide) rfl rfl ?_
      refine z_lv [2, 3, 4, 5, 6, 1, 0] rfl ?_
      obtain ⟨r2, hr2, hk2⟩ := Option.bind_eq_some_iff.mp hf
      refine loopC_ind (P := fun s => ZW l G 7 X (ZQ G X (.returned (some (.int out.1))) out.2) s.2.2 68 [(0, .ref a0), (1, .ref (gS G s1)), (2, .int i2_63), (3, .int i3_63), (4, .int i4_63), (5, .int s.1), (6, .int s.2.1)] []) (fun s x2 hf hx2 => ?_) hr2
      obtain ⟨i_9, i_10, σ⟩ := s
      unfold f_X9_inWords_L68 at hf
      try dsimp only at hf
      try dsimp only
      have j107_2 : ∀ (i6_107 : Int32) (w0_107 : Int32) (σ : ZT), f_X9_inWords_J107_68 a0 s1 i2_63 i3_63 i4_63 i6_107 w0_107 σ = some x2 → ZW l G 7 X (ZQ G X (.returned (some (.int out.1))) out.2) σ 107 [(0, .ref a0), (1, .ref (gS G s1)), (2, .int i2_63), (3, .int i3_63), (4, .int i4_63), (6, .int i6_107)] [.int w0_107] := by
        intro i6_107 w0_107 σ hf
        unfold f_X9_inWords_J107_68 at hf
        refine z_istore (q := 109) (i := 5) (lv' := [(5, .int w0_107), (0, .ref a0), (1, .ref (gS G s1)), (2, .int i2_63), (3, .int i3_63), (4, .int i4_63), (6, .int i6_107)]) C dX9_inWords_107 (by decide) rfl rfl ?_
        refine z_iinc (q := 112) (i := 6) (lv' := [(6, .int (i6_107 + (1 : Int32))), (5, .int w0_107), (0, .ref a0), (1, .ref (gS G s1)), (2, .int i2_63), (3, .int i3_63), (4, .int i4_63)]) C 6 (i6_107 + (1 : Int32)) dX9_inWords_109 rfl (kn_1 _) (by decide) rfl rfl ?_
        refine z_goto (q := 68) C dX9_inWords_112 (by decide) ?_
        refine z_lv [2, 3, 4, 5, 6, 1, 0] rfl ?_
        have hc2 := zl_c hf hx2
        exact hc2
      refine z_iload (q := 70) (i := 6) C 6 dX9_inWords_68 rfl rfl ?_
      refine z_iload (q := 72) (i := 4) C 4 dX9_inWords_70 rfl rfl ?_
      refine z_icmpge (q := 75) (tgt := 115) C dX9_inWords_72 (by decide) rfl hf (fun c72 hf => ?_) (fun c72 hf => ?_)
      · have e2 := zl_x hf hx2
        have hf := hk2
        rw [← e2] at hf
        try dsimp only at hf
        refine z_lv [0, 1, 2, 4, 5] rfl ?_
        exact j115_1 i2_63 i4_63 i_9 σ hf
      · refine z_iload (q := 77) (i := 5) C 5 dX9_inWords_75 rfl rfl ?_
        refine z_ifeq (q := 80) (tgt := 115) C dX9_inWords_77 (by decide) rfl hf (fun c77 hf => ?_) (fun c77 hf => ?_)
        · have e2 := zl_x hf hx2
          have hf := hk2
          rw [← e2] at hf
          try dsimp only at hf
          refine z_lv [0, 1, 2, 4, 5] rfl ?_
          exact j115_1 i2_63 i4_63 i_9 σ hf
        · refine z_aload_n (q := 81) (i := 1) C 1 dX9_inWords_80 rfl rfl rfl ?_
          refine z_iload (q := 83) (i := 6) C 6 dX9_inWords_81 rfl rfl ?_
          refine z_strChr (q := 86) C q1844 dX9_inWords_83 (by decide) (Nat.le_of_ble_eq_true rfl) hf rfl fun v11 hf => ?_
          refine z_aload_n (q := 87) (i := 0) C 0 dX9_inWords_86 rfl rfl rfl ?_
          refine z_aload_n (q := 88) (i := 0) C 0 dX9_inWords_87 rfl rfl rfl ?_
          refine z_getI (q := 91) C flX9_143 dX9_inWords_88 hf rfl fun v12 hf => ?_
          refine z_iload (q := 93) (i := 6) C 6 dX9_inWords_91 rfl rfl ?_
          refine z_iadd (q := 94) C dX9_inWords_93 rfl ?_
          refine z_iload_n (q := 95) (i := 3) C 3 dX9_inWords_94 rfl rfl rfl ?_
          refine z_isub (q := 96) C dX9_inWords_95 rfl ?_
          refine z_callVi (q := 99) (As := [.int ((v12 + i_10) - i3_63)]) C (fun o ho => m_X9_byteAt _ _ _ ho) zk9 vvX9_140 cdX9_byteAt pnX9 dX9_inWords_96 rfl (by decide) (Nat.le_of_ble_eq_true rfl) hf rfl fun v13 σ hf => ?_
          refine z_icmpne (q := 102) (tgt := 106) C dX9_inWords_99 (by decide) rfl hf (fun c99 hf => ?_) (fun c99 hf => ?_)
          · refine z_iconst (q := 107) C (0 : Int32) dX9_inWords_106 ki_0 rfl ?_
            refine z_lv [0, 1, 2, 3, 4, 6] rfl ?_
            exact j107_2 i_10 (0 : Int32) σ hf
          · refine z_iconst (q := 103) C (1 : Int32) dX9_inWords_102 ki_1 rfl ?_
            refine z_goto (q := 107) C dX9_inWords_103 (by decide) ?_
            refine z_lv [0, 1, 2, 3, 4, 6] rfl ?_
            exact j107_2 i_10 (1 : Int32) σ hf
    refine z_iload_n (q := 15) (i := 3) C 3 dX9_inWords_14 rfl rfl rfl ?_
    refine z_aload_n (q := 16) (i := 1) C 1 dX9_inWords_15 rfl rfl rfl ?_
    refine z_strLen (q := 19) C q1843 dX9_inWords_16 (by decide) (Nat.le_of_ble_eq_true rfl) hf rfl fun v4 hf => ?_
    refine z_icmpge (q := 22) (tgt := 133) C dX9_inWords_19 (by decide) rfl hf (fun c19 hf => ?_) (fun c19 hf => ?_)
    · have e1 := zl_x hf hx1
      have hf := hk1
      rw [← e1] at hf
      try dsimp only at hf
      refine z_iconst (q := 134) C (-1 : Int32) dX9_inWords_133 ki_m1 rfl ?_
      exact z_ireturn C rfl dX9_inWords_134 (Option.some.inj hf)
    · refine z_iload_n (q := 23) (i := 3) C 3 dX9_inWords_22 rfl rfl rfl ?_
      refine z_istore (q := 25) (i := 4) (lv' := [(4, .int i_3), (0, .ref a0), (1, .ref (gS G s1)), (2, .int i_2), (3, .int i_3)]) C dX9_inWords_23 (by decide) rfl rfl ?_
      refine z_lv [1, 2, 3, 4, 0] rfl ?_
      obtain ⟨r2, hr2, hk2⟩ := Option.bind_eq_some_iff.mp hf
      refine loopC_ind (P := fun s => ZW l G 7 X (ZQ G X (.returned (some (.int out.1))) out.2) s.2 25 [(0, .ref a0), (1, .ref (gS G s1)), (2, .int i_2), (3, .int i_3), (4, .int s.1)] []) (fun s x2 hf hx2 => ?_) hr2
      obtain ⟨i_5, σ⟩ := s
      unfold f_X9_inWords_L25 at hf
      try dsimp only at hf
      try dsimp only
      refine z_aload_n (q := 26) (i := 1) C 1 dX9_inWords_25 rfl rfl rfl ?_
      refine z_iload (q := 28) (i := 4) C 4 dX9_inWords_26 rfl rfl ?_
      refine z_strChr (q := 31) C q1844 dX9_inWords_28 (by decide) (Nat.le_of_ble_eq_true rfl) hf rfl fun v6 hf => ?_
      refine z_bipush (q := 33) C (32 : Int32) dX9_inWords_31 kb_32 rfl ?_
      refine z_icmpeq (q := 36) (tgt := 42) C dX9_inWords_33 (by decide) rfl hf (fun c33 hf => ?_) (fun c33 hf => ?_)
      · have e2 := zl_x hf hx2
        have hf := hk2
        rw [← e2] at hf
        try dsimp only at hf
        refine z_iload (q := 44) (i := 4) C 4 dX9_inWords_42 rfl rfl ?_
        refine z_iload_n (q := 45) (i := 3) C 3 dX9_inWords_44 rfl rfl rfl ?_
        refine z_isub (q := 46) C dX9_inWords_45 rfl ?_
        refine z_aload_n (q := 47) (i := 0) C 0 dX9_inWords_46 rfl rfl rfl ?_
        refine z_getI (q := 50) C flX9_137 dX9_inWords_47 hf rfl fun v7 hf => ?_
        refine z_aload_n (q := 51) (i := 0) C 0 dX9_inWords_50 rfl rfl rfl ?_
        refine z_getI (q := 54) C flX9_143 dX9_inWords_51 hf rfl fun v8 hf => ?_
        refine z_isub (q := 55) C dX9_inWords_54 rfl ?_
        refine z_icmpne (q := 58) (tgt := 62) C dX9_inWords_55 (by decide) rfl hf (fun c55 hf => ?_) (fun c55 hf => ?_)
        · refine z_iconst (q := 63) C (0 : Int32) dX9_inWords_62 ki_0 rfl ?_
          exact j63_1 i_2 i_3 i_5 (0 : Int32) σ hf
        · refine z_iconst (q := 59) C (1 : Int32) dX9_inWords_58 ki_1 rfl ?_
          refine z_goto (q := 63) C dX9_inWords_59 (by decide) ?_
          exact j63_1 i_2 i_3 i_5 (1 : Int32) σ hf
      · refine z_iinc (q := 39) (i := 4) (lv' := [(4, .int (i_5 + (1 : Int32))), (0, .ref a0), (1, .ref (gS G s1)), (2, .int i_2), (3, .int i_3)]) C 4 (i_5 + (1 : Int32)) dX9_inWords_36 rfl (kn_1 _) (by decide) rfl rfl ?_
        refine z_goto (q := 25) C dX9_inWords_39 (by decide) ?_
        refine z_lv [1, 2, 3, 4, 0] rfl ?_
        have hc2 := zl_c hf hx2
        exact hc2
  · refine z_iconst (q := 9) C (-1 : Int32) dX9_inWords_8 ki_m1 rfl ?_
    exact z_ireturn C rfl dX9_inWords_9 (Option.some.inj hf)

noncomputable def f_X9_fails_J32  (σ : ZT) : Option (Int32 × ZT) :=
  some ((0 : Int32), σ)
noncomputable def f_X9_fails_J21 (a0_21 : Nat) (w0_21 : Int32) (w1_21 : Nat) (σ : ZT) : Option (Int32 × ZT) :=
  (pI 9 918 w1_21 w0_21 σ).bind fun σ =>
  (gI 9 913 a0_21 σ).bind fun v3 =>
  (pI 9 917 a0_21 v3 σ).bind fun σ =>
  f_X9_fails_J32  σ
noncomputable def f_X9_fails (a0 : Nat) (i1 : Int32) (σ : ZT) : Option (Int32 × ZT) :=
  (gI 9 918 a0 σ).bind fun v1 =>
  if v1 = 0 then
  ((gI 9 912 a0 σ).bind fun v2 =>
  if v2 = (1 : Int32) then
  (f_X9_fails_J21 a0 (1 : Int32) a0 σ)
  else
  (f_X9_fails_J21 a0 i1 a0 σ))
  else
  (f_X9_fails_J32  σ)
set_option maxHeartbeats 4000000 in
theorem m_X9_fails {l : Launch} {G : ZG} (a0 : Nat) (i1 : Int32) (σ : ZT) {out : (Int32 × ZT)} (hf : f_X9_fails a0 i1 σ = some out) : ZM l G yX9_fails cX9_fails 2 (some .boolean) [] 1 [.ref a0, .int i1] σ (.returned (some (.int out.1))) out.2 := by
  refine ZM.of [(0, .ref a0), (1, .int i1)] rfl (Nat.le_of_ble_eq_true rfl) fun X (C : ZC G RX9 "fails" cX9_fails 2 (some .boolean) [] X 1) => ?_
  unfold f_X9_fails at hf
  have j32_0 : ∀  (σ : ZT), f_X9_fails_J32  σ = some out → ZW l G 2 X (ZQ G X (.returned (some (.int out.1))) out.2) σ 32 [] [] := by
    intro  σ hf
    unfold f_X9_fails_J32 at hf
    refine z_iconst (q := 33) C (0 : Int32) dX9_fails_32 ki_0 rfl ?_
    exact z_zreturn C rfl z_nb0 dX9_fails_33 (Option.some.inj hf)
  have j21_0 : ∀ (a0_21 : Nat) (w0_21 : Int32) (w1_21 : Nat) (σ : ZT), f_X9_fails_J21 a0_21 w0_21 w1_21 σ = some out → ZW l G 2 X (ZQ G X (.returned (some (.int out.1))) out.2) σ 21 [(0, .ref a0_21)] [.int w0_21, .ref w1_21] := by
    intro a0_21 w0_21 w1_21 σ hf
    unfold f_X9_fails_J21 at hf
    refine z_putI (q := 24) C puX9_174 dX9_fails_21 hf rfl fun σ hf => ?_
    refine z_aload_n (q := 25) (i := 0) C 0 dX9_fails_24 rfl rfl rfl ?_
    refine z_aload_n (q := 26) (i := 0) C 0 dX9_fails_25 rfl rfl rfl ?_
    refine z_getI (q := 29) C flX9_143 dX9_fails_26 hf rfl fun v3 hf => ?_
    refine z_putI (q := 32) C puX9_41 dX9_fails_29 hf rfl fun σ hf => ?_
    refine z_lv [] rfl ?_
    exact j32_0  σ hf
  refine z_aload_n (q := 1) (i := 0) C 0 dX9_fails_0 rfl rfl rfl ?_
  refine z_getI (q := 4) C flX9_174 dX9_fails_1 hf rfl fun v1 hf => ?_
  refine z_ifne (q := 7) (tgt := 32) C dX9_fails_4 (by decide) rfl hf (fun c4 hf => ?_) (fun c4 hf => ?_)
  · refine z_lv [] rfl ?_
    exact j32_0  σ hf
  · refine z_aload_n (q := 8) (i := 0) C 0 dX9_fails_7 rfl rfl rfl ?_
    refine z_aload_n (q := 9) (i := 0) C 0 dX9_fails_8 rfl rfl rfl ?_
    refine z_getI (q := 12) C flX9_149 dX9_fails_9 hf rfl fun v2 hf => ?_
    refine z_iconst (q := 13) C (1 : Int32) dX9_fails_12 ki_1 rfl ?_
    refine z_icmpne (q := 16) (tgt := 20) C dX9_fails_13 (by decide) rfl hf (fun c13 hf => ?_) (fun c13 hf => ?_)
    · refine z_iload_n (q := 21) (i := 1) C 1 dX9_fails_20 rfl rfl rfl ?_
      refine z_lv [0] rfl ?_
      exact j21_0 a0 i1 a0 σ hf
    · refine z_iconst (q := 17) C (1 : Int32) dX9_fails_16 ki_1 rfl ?_
      refine z_goto (q := 21) C dX9_fails_17 (by decide) ?_
      refine z_lv [0] rfl ?_
      exact j21_0 a0 (1 : Int32) a0 σ hf

noncomputable def f_X9_isName_J36 (w0_36 : Int32) (σ : ZT) : Option (Int32 × ZT) :=
  (rz w0_36).bind fun z5 =>
  some (z5, σ)
noncomputable def f_X9_isName_J35  (σ : ZT) : Option (Int32 × ZT) :=
  f_X9_isName_J36 (0 : Int32) σ
noncomputable def f_X9_isName (a0 : Nat) (s1 : Nat) (σ : ZT) : Option (Int32 × ZT) :=
  (gI 9 912 a0 σ).bind fun v1 =>
  if v1 = (2 : Int32) then
  ((gI 9 914 a0 σ).bind fun v2 =>
  (gI 9 913 a0 σ).bind fun v3 =>
  if (8 : Int32) < (v2 - v3) then
  (f_X9_isName_J35  σ)
  else
  (bnd2 (vc 9 a0 σ (f_X9_inWords a0 s1 σ)) fun v4 σ =>
  if v4 = (-1 : Int32) then
  (f_X9_isName_J36 (1 : Int32) σ)
  else
  (f_X9_isName_J35  σ)))
  else
  (f_X9_isName_J35  σ)
set_option maxHeartbeats 4000000 in
theorem m_X9_isName {l : Launch} {G : ZG} (a0 : Nat) (s1 : Nat) (σ : ZT) {out : (Int32 × ZT)} (hf : f_X9_isName a0 s1 σ = some out) : ZM l G yX9_isName cX9_isName 2 (some .boolean) [] 7 [.ref a0, .ref (gS G s1)] σ (.returned (some (.int out.1))) out.2 := by
  refine ZM.of [(0, .ref a0), (1, .ref (gS G s1))] rfl (Nat.le_of_ble_eq_true rfl) fun X (C : ZC G RX9 "isName" cX9_isName 2 (some .boolean) [] X 7) => ?_
  unfold f_X9_isName at hf
  have j36_0 : ∀ (w0_36 : Int32) (σ : ZT), f_X9_isName_J36 w0_36 σ = some out → ZW l G 2 X (ZQ G X (.returned (some (.int out.1))) out.2) σ 36 [] [.int w0_36] := by
    intro w0_36 σ hf
    unfold f_X9_isName_J36 at hf
    refine z_rz C hf fun hn hf => ?_
    exact z_zreturn C rfl hn dX9_isName_36 (Option.some.inj hf)
  have j35_0 : ∀  (σ : ZT), f_X9_isName_J35  σ = some out → ZW l G 2 X (ZQ G X (.returned (some (.int out.1))) out.2) σ 35 [] [] := by
    intro  σ hf
    unfold f_X9_isName_J35 at hf
    refine z_iconst (q := 36) C (0 : Int32) dX9_isName_35 ki_0 rfl ?_
    exact j36_0 (0 : Int32) σ hf
  refine z_aload_n (q := 1) (i := 0) C 0 dX9_isName_0 rfl rfl rfl ?_
  refine z_getI (q := 4) C flX9_149 dX9_isName_1 hf rfl fun v1 hf => ?_
  refine z_iconst (q := 5) C (2 : Int32) dX9_isName_4 ki_2 rfl ?_
  refine z_icmpne (q := 8) (tgt := 35) C dX9_isName_5 (by decide) rfl hf (fun c5 hf => ?_) (fun c5 hf => ?_)
  · refine z_lv [] rfl ?_
    exact j35_0  σ hf
  · refine z_aload_n (q := 9) (i := 0) C 0 dX9_isName_8 rfl rfl rfl ?_
    refine z_getI (q := 12) C flX9_137 dX9_isName_9 hf rfl fun v2 hf => ?_
    refine z_aload_n (q := 13) (i := 0) C 0 dX9_isName_12 rfl rfl rfl ?_
    refine z_getI (q := 16) C flX9_143 dX9_isName_13 hf rfl fun v3 hf => ?_
    refine z_isub (q := 17) C dX9_isName_16 rfl ?_
    refine z_bipush (q := 19) C (8 : Int32) dX9_isName_17 kb_8 rfl ?_
    refine z_icmpgt (q := 22) (tgt := 35) C dX9_isName_19 (by decide) rfl hf (fun c19 hf => ?_) (fun c19 hf => ?_)
    · refine z_lv [] rfl ?_
      exact j35_0  σ hf
    · refine z_aload_n (q := 23) (i := 0) C 0 dX9_isName_22 rfl rfl rfl ?_
      refine z_aload_n (q := 24) (i := 1) C 1 dX9_isName_23 rfl rfl rfl ?_
      refine z_callVi (q := 27) (As := [.ref (gS G s1)]) C (fun o ho => m_X9_inWords _ _ _ ho) zk9 vvX9_189 cdX9_inWords pnX9 dX9_isName_24 rfl (by decide) (Nat.le_of_ble_eq_true rfl) hf rfl fun v4 σ hf => ?_
      refine z_iconst (q := 28) C (-1 : Int32) dX9_isName_27 ki_m1 rfl ?_
      refine z_icmpne (q := 31) (tgt := 35) C dX9_isName_28 (by decide) rfl hf (fun c28 hf => ?_) (fun c28 hf => ?_)
      · refine z_lv [] rfl ?_
        exact j35_0  σ hf
      · refine z_iconst (q := 32) C (1 : Int32) dX9_isName_31 ki_1 rfl ?_
        refine z_goto (q := 36) C dX9_isName_32 (by decide) ?_
        refine z_lv [] rfl ?_
        exact j36_0 (1 : Int32) σ hf

noncomputable def f_X9_nameHere_L7 (c0_7 : Nat) (l_2 : Int64) (i_3 : Int32) (σ : ZT) : Option ((Int64 × Int32 × ZT) ⊕ (Int64 × ZT)) :=
  (gI 9 914 c0_7 σ).bind fun v4 =>
  if i_3 < v4 then
  (bnd2 (vc 9 c0_7 σ (f_X9_byteAt c0_7 i_3 σ)) fun v5 σ =>
  some (.inl (((l_2 <<< ((8 : Int32).toInt64 &&& 63)) ||| (v5.toInt64)), (i_3 + (1 : Int32)), σ)))
  else
  (some (.inr (l_2, σ)))
noncomputable def f_X9_nameHere (a0 : Nat) (σ : ZT) : Option (Int64 × ZT) :=
  (gI 9 913 a0 σ).bind fun v1 =>
  (loopC (fun s : (Int64 × Int32 × ZT) => f_X9_nameHere_L7 a0 s.1 s.2.1 s.2.2) ((0 : Int64), v1, σ)).bind fun x => (match x with
  | (x6, σ) => some (x6, σ))
set_option maxHeartbeats 4000000 in
theorem m_X9_nameHere {l : Launch} {G : ZG} (a0 : Nat) (σ : ZT) {out : (Int64 × ZT)} (hf : f_X9_nameHere a0 σ = some out) : ZM l G yX9_nameHere cX9_nameHere 4 (some .long) [] 2 [.ref a0] σ (.returned (some (.long out.1))) out.2 := by
  refine ZM.of [(0, .ref a0)] rfl (Nat.le_of_ble_eq_true rfl) fun X (C : ZC G RX9 "nameHere" cX9_nameHere 4 (some .long) [] X 2) => ?_
  unfold f_X9_nameHere at hf
  refine z_lconst (q := 1) C (0 : Int64) dX9_nameHere_0 rfl rfl ?_
  refine z_lstore_n (q := 2) (i := 1) (lv' := [(1, .long (0 : Int64)), (0, .ref a0)]) C dX9_nameHere_1 rfl (by decide) rfl rfl ?_
  refine z_aload_n (q := 3) (i := 0) C 1 dX9_nameHere_2 rfl rfl rfl ?_
  refine z_getI (q := 6) C flX9_143 dX9_nameHere_3 hf rfl fun v1 hf => ?_
  refine z_istore_n (q := 7) (i := 3) (lv' := [(3, .int v1), (1, .long (0 : Int64)), (0, .ref a0)]) C dX9_nameHere_6 rfl (by decide) rfl rfl ?_
  refine z_lv [2, 1, 0] rfl ?_
  obtain ⟨r1, hr1, hk1⟩ := Option.bind_eq_some_iff.mp hf
  refine loopC_ind (P := fun s => ZW l G 4 X (ZQ G X (.returned (some (.long out.1))) out.2) s.2.2 7 [(0, .ref a0), (1, .long s.1), (3, .int s.2.1)] []) (fun s x1 hf hx1 => ?_) hr1
  obtain ⟨l_2, i_3, σ⟩ := s
  unfold f_X9_nameHere_L7 at hf
  try dsimp only at hf
  try dsimp only
  refine z_iload_n (q := 8) (i := 3) C 2 dX9_nameHere_7 rfl rfl rfl ?_
  refine z_aload_n (q := 9) (i := 0) C 0 dX9_nameHere_8 rfl rfl rfl ?_
  refine z_getI (q := 12) C flX9_137 dX9_nameHere_9 hf rfl fun v4 hf => ?_
  refine z_icmpge (q := 15) (tgt := 33) C dX9_nameHere_12 (by decide) rfl hf (fun c12 hf => ?_) (fun c12 hf => ?_)
  · have e1 := zl_x hf hx1
    have hf := hk1
    rw [← e1] at hf
    try dsimp only at hf
    refine z_lload_n (q := 34) (i := 1) C 1 dX9_nameHere_33 rfl rfl rfl ?_
    exact z_lreturn C rfl dX9_nameHere_34 (Option.some.inj hf)
  · refine z_lload_n (q := 16) (i := 1) C 1 dX9_nameHere_15 rfl rfl rfl ?_
    refine z_bipush (q := 18) C (8 : Int32) dX9_nameHere_16 kb_8 rfl ?_
    refine z_lshl (q := 19) C dX9_nameHere_18 rfl ?_
    refine z_aload_n (q := 20) (i := 0) C 0 dX9_nameHere_19 rfl rfl rfl ?_
    refine z_iload_n (q := 21) (i := 3) C 2 dX9_nameHere_20 rfl rfl rfl ?_
    refine z_callVi (q := 24) (As := [.int i_3]) C (fun o ho => m_X9_byteAt _ _ _ ho) zk9 vvX9_140 cdX9_byteAt pnX9 dX9_nameHere_21 rfl (by decide) (Nat.le_of_ble_eq_true rfl) hf rfl fun v5 σ hf => ?_
    refine z_i2l (q := 25) C dX9_nameHere_24 rfl ?_
    refine z_lor (q := 26) C dX9_nameHere_25 rfl ?_
    refine z_lstore_n (q := 27) (i := 1) (lv' := [(1, .long ((l_2 <<< ((8 : Int32).toInt64 &&& 63)) ||| (v5.toInt64))), (0, .ref a0), (3, .int i_3)]) C dX9_nameHere_26 rfl (by decide) rfl rfl ?_
    refine z_iinc (q := 30) (i := 3) (lv' := [(3, .int (i_3 + (1 : Int32))), (1, .long ((l_2 <<< ((8 : Int32).toInt64 &&& 63)) ||| (v5.toInt64))), (0, .ref a0)]) C 2 (i_3 + (1 : Int32)) dX9_nameHere_27 rfl (kn_1 _) (by decide) rfl rfl ?_
    refine z_goto (q := 7) C dX9_nameHere_30 (by decide) ?_
    refine z_lv [2, 1, 0] rfl ?_
    have hc1 := zl_c hf hx1
    exact hc1

noncomputable def f_X9_findHere_L2 (c0_2 : Nat) (c1_2 : Int32) (c2_2 : Int32) (i_1 : Int32) (σ : ZT) : Option ((Int32 × ZT) ⊕ ((Int32 × ZT) ⊕ ZT)) :=
  if i_1 < c2_2 then
  ((gR 9 901 c0_2 σ).bind fun v2 =>
  (ldL v2 (c1_2 + i_1) σ).bind fun v3 =>
  bnd2 (vc 9 c0_2 σ (f_X9_nameHere c0_2 σ)) fun v4 σ =>
  if (lg_cmp v3 v4) = 0 then
  (some (.inr (.inl (i_1, σ))))
  else
  (some (.inl ((i_1 + (1 : Int32)), σ))))
  else
  (some (.inr (.inr σ)))
noncomputable def f_X9_findHere (a0 : Nat) (i1 : Int32) (i2 : Int32) (σ : ZT) : Option (Int32 × ZT) :=
  (loopC (fun s : (Int32 × ZT) => f_X9_findHere_L2 a0 i1 i2 s.1 s.2) ((0 : Int32), σ)).bind fun x => (match x with
  | .inl o => some o
  | .inr σ => some ((-1 : Int32), σ))
set_option maxHeartbeats 4000000 in
theorem m_X9_findHere {l : Launch} {G : ZG} (a0 : Nat) (i1 : Int32) (i2 : Int32) (σ : ZT) {out : (Int32 × ZT)} (hf : f_X9_findHere a0 i1 i2 σ = some out) : ZM l G yX9_findHere cX9_findHere 4 (some .int) [] 3 [.ref a0, .int i1, .int i2] σ (.returned (some (.int out.1))) out.2 := by
  refine ZM.of [(0, .ref a0), (1, .int i1), (2, .int i2)] rfl (Nat.le_of_ble_eq_true rfl) fun X (C : ZC G RX9 "findHere" cX9_findHere 4 (some .int) [] X 3) => ?_
  unfold f_X9_findHere at hf
  refine z_iconst (q := 1) C (0 : Int32) dX9_findHere_0 ki_0 rfl ?_
  refine z_istore_n (q := 2) (i := 3) (lv' := [(3, .int (0 : Int32)), (0, .ref a0), (1, .int i1), (2, .int i2)]) C dX9_findHere_1 rfl (by decide) rfl rfl ?_
  refine z_lv [1, 2, 3, 0] rfl ?_
  obtain ⟨r1, hr1, hk1⟩ := Option.bind_eq_some_iff.mp hf
  refine loopC_ind (P := fun s => ZW l G 4 X (ZQ G X (.returned (some (.int out.1))) out.2) s.2 2 [(0, .ref a0), (1, .int i1), (2, .int i2), (3, .int s.1)] []) (fun s x1 hf hx1 => ?_) hr1
  obtain ⟨i_1, σ⟩ := s
  unfold f_X9_findHere_L2 at hf
  try dsimp only at hf
  try dsimp only
  refine z_iload_n (q := 3) (i := 3) C 3 dX9_findHere_2 rfl rfl rfl ?_
  refine z_iload_n (q := 4) (i := 2) C 2 dX9_findHere_3 rfl rfl rfl ?_
  refine z_icmpge (q := 7) (tgt := 31) C dX9_findHere_4 (by decide) rfl hf (fun c4 hf => ?_) (fun c4 hf => ?_)
  · have e1 := zl_x hf hx1
    have hf := hk1
    rw [← e1] at hf
    try dsimp only at hf
    refine z_iconst (q := 32) C (-1 : Int32) dX9_findHere_31 ki_m1 rfl ?_
    exact z_ireturn C rfl dX9_findHere_32 (Option.some.inj hf)
  · refine z_aload_n (q := 8) (i := 0) C 0 dX9_findHere_7 rfl rfl rfl ?_
    refine z_getR (q := 11) C flX9_13 dX9_findHere_8 hf rfl fun v2 hf => ?_
    refine z_iload_n (q := 12) (i := 1) C 1 dX9_findHere_11 rfl rfl rfl ?_
    refine z_iload_n (q := 13) (i := 3) C 3 dX9_findHere_12 rfl rfl rfl ?_
    refine z_iadd (q := 14) C dX9_findHere_13 rfl ?_
    refine z_lald (q := 15) C dX9_findHere_14 hf rfl fun v3 hf => ?_
    refine z_aload_n (q := 16) (i := 0) C 0 dX9_findHere_15 rfl rfl rfl ?_
    refine z_callVl (q := 19) (As := []) C (fun o ho => m_X9_nameHere _ _ ho) zk9 vvX9_193 cdX9_nameHere pnX9 dX9_findHere_16 rfl (by decide) (Nat.le_of_ble_eq_true rfl) hf rfl fun v4 σ hf => ?_
    refine z_lcmp (q := 20) C dX9_findHere_19 rfl ?_
    refine z_ifne (q := 23) (tgt := 25) C dX9_findHere_20 (by decide) rfl hf (fun c20 hf => ?_) (fun c20 hf => ?_)
    · refine z_iinc (q := 28) (i := 3) (lv' := [(3, .int (i_1 + (1 : Int32))), (0, .ref a0), (1, .int i1), (2, .int i2)]) C 3 (i_1 + (1 : Int32)) dX9_findHere_25 rfl (kn_1 _) (by decide) rfl rfl ?_
      refine z_goto (q := 2) C dX9_findHere_28 (by decide) ?_
      refine z_lv [1, 2, 3, 0] rfl ?_
      have hc1 := zl_c hf hx1
      exact hc1
    · refine z_iload_n (q := 24) (i := 3) C 3 dX9_findHere_23 rfl rfl rfl ?_
      have e1 := zl_x hf hx1
      have hf := hk1
      rw [← e1] at hf
      try dsimp only at hf
      exact z_ireturn C rfl dX9_findHere_24 (Option.some.inj hf)

noncomputable def f_X9_isFree_J77 (w0_77 : Int32) (σ : ZT) : Option (Int32 × ZT) :=
  (rz w0_77).bind fun z13 =>
  some (z13, σ)
noncomputable def f_X9_isFree_J76  (σ : ZT) : Option (Int32 × ZT) :=
  f_X9_isFree_J77 (0 : Int32) σ
noncomputable def f_X9_isFree (a0 : Nat) (σ : ZT) : Option (Int32 × ZT) :=
  (gR 9 900 a0 σ).bind fun v1 =>
  (ldI 0 v1 (1720 : Int32) σ).bind fun v2 =>
  bnd2 (vc 9 a0 σ (f_X9_findHere a0 (80 : Int32) v2 σ)) fun v3 σ =>
  if v3 = (-1 : Int32) then
  ((gR 9 900 a0 σ).bind fun v4 =>
  (ldI 0 v4 (1721 : Int32) σ).bind fun v5 =>
  bnd2 (vc 9 a0 σ (f_X9_findHere a0 (86 : Int32) v5 σ)) fun v6 σ =>
  if v6 = (-1 : Int32) then
  ((gR 9 900 a0 σ).bind fun v7 =>
  (ldI 0 v7 (1722 : Int32) σ).bind fun v8 =>
  bnd2 (vc 9 a0 σ (f_X9_findHere a0 (94 : Int32) v8 σ)) fun v9 σ =>
  if v9 = (-1 : Int32) then
  ((gR 9 900 a0 σ).bind fun v10 =>
  (ldI 0 v10 (1723 : Int32) σ).bind fun v11 =>
  bnd2 (vc 9 a0 σ (f_X9_findHere a0 (98 : Int32) v11 σ)) fun v12 σ =>
  if v12 = (-1 : Int32) then
  (f_X9_isFree_J77 (1 : Int32) σ)
  else
  (f_X9_isFree_J76  σ))
  else
  (f_X9_isFree_J76  σ))
  else
  (f_X9_isFree_J76  σ))
  else
  (f_X9_isFree_J76  σ)
set_option maxHeartbeats 4000000 in
theorem m_X9_isFree {l : Launch} {G : ZG} (a0 : Nat) (σ : ZT) {out : (Int32 × ZT)} (hf : f_X9_isFree a0 σ = some out) : ZM l G yX9_isFree cX9_isFree 1 (some .boolean) [] 4 [.ref a0] σ (.returned (some (.int out.1))) out.2 := by
  refine ZM.of [(0, .ref a0)] rfl (Nat.le_of_ble_eq_true rfl) fun X (C : ZC G RX9 "isFree" cX9_isFree 1 (some .boolean) [] X 4) => ?_
  unfold f_X9_isFree at hf
  have j77_0 : ∀ (w0_77 : Int32) (σ : ZT), f_X9_isFree_J77 w0_77 σ = some out → ZW l G 1 X (ZQ G X (.returned (some (.int out.1))) out.2) σ 77 [] [.int w0_77] := by
    intro w0_77 σ hf
    unfold f_X9_isFree_J77 at hf
    refine z_rz C hf fun hn hf => ?_
    exact z_zreturn C rfl hn dX9_isFree_77 (Option.some.inj hf)
  have j76_0 : ∀  (σ : ZT), f_X9_isFree_J76  σ = some out → ZW l G 1 X (ZQ G X (.returned (some (.int out.1))) out.2) σ 76 [] [] := by
    intro  σ hf
    unfold f_X9_isFree_J76 at hf
    refine z_iconst (q := 77) C (0 : Int32) dX9_isFree_76 ki_0 rfl ?_
    exact j77_0 (0 : Int32) σ hf
  refine z_aload_n (q := 1) (i := 0) C 0 dX9_isFree_0 rfl rfl rfl ?_
  refine z_bipush (q := 3) C (80 : Int32) dX9_isFree_1 kb_80 rfl ?_
  refine z_aload_n (q := 4) (i := 0) C 0 dX9_isFree_3 rfl rfl rfl ?_
  refine z_getR (q := 7) C flX9_7 dX9_isFree_4 hf rfl fun v1 hf => ?_
  refine z_sipush (q := 10) C (1720 : Int32) dX9_isFree_7 ks_1720 rfl ?_
  refine z_iald (q := 11) C dX9_isFree_10 hf rfl fun v2 hf => ?_
  refine z_callVi (q := 14) (As := [.int (80 : Int32), .int v2]) C (fun o ho => m_X9_findHere _ _ _ _ ho) zk9 vvX9_197 cdX9_findHere pnX9 dX9_isFree_11 rfl (by decide) (Nat.le_of_ble_eq_true rfl) hf rfl fun v3 σ hf => ?_
  refine z_iconst (q := 15) C (-1 : Int32) dX9_isFree_14 ki_m1 rfl ?_
  refine z_icmpne (q := 18) (tgt := 76) C dX9_isFree_15 (by decide) rfl hf (fun c15 hf => ?_) (fun c15 hf => ?_)
  · refine z_lv [] rfl ?_
    exact j76_0  σ hf
  · refine z_aload_n (q := 19) (i := 0) C 0 dX9_isFree_18 rfl rfl rfl ?_
    refine z_bipush (q := 21) C (86 : Int32) dX9_isFree_19 kb_86 rfl ?_
    refine z_aload_n (q := 22) (i := 0) C 0 dX9_isFree_21 rfl rfl rfl ?_
    refine z_getR (q := 25) C flX9_7 dX9_isFree_22 hf rfl fun v4 hf => ?_
    refine z_sipush (q := 28) C (1721 : Int32) dX9_isFree_25 ks_1721 rfl ?_
    refine z_iald (q := 29) C dX9_isFree_28 hf rfl fun v5 hf => ?_
    refine z_callVi (q := 32) (As := [.int (86 : Int32), .int v5]) C (fun o ho => m_X9_findHere _ _ _ _ ho) zk9 vvX9_197 cdX9_findHere pnX9 dX9_isFree_29 rfl (by decide) (Nat.le_of_ble_eq_true rfl) hf rfl fun v6 σ hf => ?_
    refine z_iconst (q := 33) C (-1 : Int32) dX9_isFree_32 ki_m1 rfl ?_
    refine z_icmpne (q := 36) (tgt := 76) C dX9_isFree_33 (by decide) rfl hf (fun c33 hf => ?_) (fun c33 hf => ?_)
    · refine z_lv [] rfl ?_
      exact j76_0  σ hf
    · refine z_aload_n (q := 37) (i := 0) C 0 dX9_isFree_36 rfl rfl rfl ?_
      refine z_bipush (q := 39) C (94 : Int32) dX9_isFree_37 kb_94 rfl ?_
      refine z_aload_n (q := 40) (i := 0) C 0 dX9_isFree_39 rfl rfl rfl ?_
      refine z_getR (q := 43) C flX9_7 dX9_isFree_40 hf rfl fun v7 hf => ?_
      refine z_sipush (q := 46) C (1722 : Int32) dX9_isFree_43 ks_1722 rfl ?_
      refine z_iald (q := 47) C dX9_isFree_46 hf rfl fun v8 hf => ?_
      refine z_callVi (q := 50) (As := [.int (94 : Int32), .int v8]) C (fun o ho => m_X9_findHere _ _ _ _ ho) zk9 vvX9_197 cdX9_findHere pnX9 dX9_isFree_47 rfl (by decide) (Nat.le_of_ble_eq_true rfl) hf rfl fun v9 σ hf => ?_
      refine z_iconst (q := 51) C (-1 : Int32) dX9_isFree_50 ki_m1 rfl ?_
      refine z_icmpne (q := 54) (tgt := 76) C dX9_isFree_51 (by decide) rfl hf (fun c51 hf => ?_) (fun c51 hf => ?_)
      · refine z_lv [] rfl ?_
        exact j76_0  σ hf
      · refine z_aload_n (q := 55) (i := 0) C 0 dX9_isFree_54 rfl rfl rfl ?_
        refine z_bipush (q := 57) C (98 : Int32) dX9_isFree_55 kb_98 rfl ?_
        refine z_aload_n (q := 58) (i := 0) C 0 dX9_isFree_57 rfl rfl rfl ?_
        refine z_getR (q := 61) C flX9_7 dX9_isFree_58 hf rfl fun v10 hf => ?_
        refine z_sipush (q := 64) C (1723 : Int32) dX9_isFree_61 ks_1723 rfl ?_
        refine z_iald (q := 65) C dX9_isFree_64 hf rfl fun v11 hf => ?_
        refine z_callVi (q := 68) (As := [.int (98 : Int32), .int v11]) C (fun o ho => m_X9_findHere _ _ _ _ ho) zk9 vvX9_197 cdX9_findHere pnX9 dX9_isFree_65 rfl (by decide) (Nat.le_of_ble_eq_true rfl) hf rfl fun v12 σ hf => ?_
        refine z_iconst (q := 69) C (-1 : Int32) dX9_isFree_68 ki_m1 rfl ?_
        refine z_icmpne (q := 72) (tgt := 76) C dX9_isFree_69 (by decide) rfl hf (fun c69 hf => ?_) (fun c69 hf => ?_)
        · refine z_lv [] rfl ?_
          exact j76_0  σ hf
        · refine z_iconst (q := 73) C (1 : Int32) dX9_isFree_72 ki_1 rfl ?_
          refine z_goto (q := 77) C dX9_isFree_73 (by decide) ?_
          refine z_lv [] rfl ?_
          exact j77_0 (1 : Int32) σ hf

noncomputable def f_X9_newOne (a0 : Nat) (i1 : Int32) (i2 : Int32) (i3 : Int32) (σ : ZT) : Option (Int32 × ZT) :=
  (gR 9 900 a0 σ).bind fun v1 =>
  (ldI 0 v1 ((1720 : Int32) + i1) σ).bind fun v2 =>
  if v2 = i2 then
  (bnd2 (vc 9 a0 σ (f_X9_fails a0 (6 : Int32) σ)) fun v15 σ =>
  (rz v15).bind fun z16 =>
  some (z16, σ))
  else
  ((vc 9 a0 σ (f_X9_ahead a0 σ)).bind fun σ =>
  bnd2 (vc 9 a0 σ (f_X9_isName a0 30 σ)) fun v4 σ =>
  if v4 = 0 then
  (bnd2 (vc 9 a0 σ (f_X9_fails a0 (2 : Int32) σ)) fun v13 σ =>
  (rz v13).bind fun z14 =>
  some (z14, σ))
  else
  (bnd2 (vc 9 a0 σ (f_X9_isFree a0 σ)) fun v5 σ =>
  if v5 = 0 then
  (bnd2 (vc 9 a0 σ (f_X9_fails a0 (3 : Int32) σ)) fun v11 σ =>
  (rz v11).bind fun z12 =>
  some (z12, σ))
  else
  ((gR 9 901 a0 σ).bind fun v6 =>
  (gR 9 900 a0 σ).bind fun v7 =>
  (ldI 0 v7 ((1720 : Int32) + i1) σ).bind fun v8 =>
  bnd2 (vc 9 a0 σ (f_X9_nameHere a0 σ)) fun v9 σ =>
  (stL v6 (((80 : Int32) + i3) + v8) v9 σ).bind fun σ =>
  (vc 9 a0 σ (f_X9_ahead a0 σ)).bind fun σ =>
  some ((1 : Int32), σ))))
set_option maxHeartbeats 4000000 in
theorem m_X9_newOne {l : Launch} {G : ZG} (a0 : Nat) (i1 : Int32) (i2 : Int32) (i3 : Int32) (σ : ZT) {out : (Int32 × ZT)} (hf : f_X9_newOne a0 i1 i2 i3 σ = some out) : ZM l G yX9_newOne cX9_newOne 4 (some .boolean) [] 8 [.ref a0, .int i1, .int i2, .int i3] σ (.returned (some (.int out.1))) out.2 := by
  refine ZM.of [(0, .ref a0), (1, .int i1), (2, .int i2), (3, .int i3)] rfl (Nat.le_of_ble_eq_true rfl) fun X (C : ZC G RX9 "newOne" cX9_newOne 4 (some .boolean) [] X 8) => ?_
  unfold f_X9_newOne at hf
  refine z_aload_n (q := 1) (i := 0) C 0 dX9_newOne_0 rfl rfl rfl ?_
  refine z_getR (q := 4) C flX9_7 dX9_newOne_1 hf rfl fun v1 hf => ?_
  refine z_sipush (q := 7) C (1720 : Int32) dX9_newOne_4 ks_1720 rfl ?_
  refine z_iload_n (q := 8) (i := 1) C 1 dX9_newOne_7 rfl rfl rfl ?_
  refine z_iadd (q := 9) C dX9_newOne_8 rfl ?_
  refine z_iald (q := 10) C dX9_newOne_9 hf rfl fun v2 hf => ?_
  refine z_iload_n (q := 11) (i := 2) C 2 dX9_newOne_10 rfl rfl rfl ?_
  refine z_icmpne (q := 14) (tgt := 21) C dX9_newOne_11 (by decide) rfl hf (fun c11 hf => ?_) (fun c11 hf => ?_)
  · refine z_aload_n (q := 22) (i := 0) C 0 dX9_newOne_21 rfl rfl rfl ?_
    refine z_callVv (q := 25) (As := []) C (fun o ho => m_X9_ahead _ _ ho) zk9 vvX9_180 cdX9_ahead pnX9 dX9_newOne_22 rfl (by decide) (Nat.le_of_ble_eq_true rfl) hf rfl fun σ hf => ?_
    refine z_aload_n (q := 26) (i := 0) C 0 dX9_newOne_25 rfl rfl rfl ?_
    refine z_ldcS (q := 28) C 30 (by decide) rfl rfl dX9_newOne_26 rfl ?_
    refine z_callVi (q := 31) (As := [.ref (gS G 30)]) C (fun o ho => m_X9_isName _ _ _ ho) zk9 vvX9_202 cdX9_isName pnX9 dX9_newOne_28 rfl (by decide) (Nat.le_of_ble_eq_true rfl) hf rfl fun v4 σ hf => ?_
    refine z_ifne (q := 34) (tgt := 40) C dX9_newOne_31 (by decide) rfl hf (fun c31 hf => ?_) (fun c31 hf => ?_)
    · refine z_aload_n (q := 41) (i := 0) C 0 dX9_newOne_40 rfl rfl rfl ?_
      refine z_callVi (q := 44) (As := []) C (fun o ho => m_X9_isFree _ _ ho) zk9 vvX9_206 cdX9_isFree pnX9 dX9_newOne_41 rfl (by decide) (Nat.le_of_ble_eq_true rfl) hf rfl fun v5 σ hf => ?_
      refine z_ifne (q := 47) (tgt := 53) C dX9_newOne_44 (by decide) rfl hf (fun c44 hf => ?_) (fun c44 hf => ?_)
      · refine z_aload_n (q := 54) (i := 0) C 0 dX9_newOne_53 rfl rfl rfl ?_
        refine z_getR (q := 57) C flX9_13 dX9_newOne_54 hf rfl fun v6 hf => ?_
        refine z_bipush (q := 59) C (80 : Int32) dX9_newOne_57 kb_80 rfl ?_
        refine z_iload_n (q := 60) (i := 3) C 3 dX9_newOne_59 rfl rfl rfl ?_
        refine z_iadd (q := 61) C dX9_newOne_60 rfl ?_
        refine z_aload_n (q := 62) (i := 0) C 0 dX9_newOne_61 rfl rfl rfl ?_
        refine z_getR (q := 65) C flX9_7 dX9_newOne_62 hf rfl fun v7 hf => ?_
        refine z_sipush (q := 68) C (1720 : Int32) dX9_newOne_65 ks_1720 rfl ?_
        refine z_iload_n (q := 69) (i := 1) C 1 dX9_newOne_68 rfl rfl rfl ?_
        refine z_iadd (q := 70) C dX9_newOne_69 rfl ?_
        refine z_iald (q := 71) C dX9_newOne_70 hf rfl fun v8 hf => ?_
        refine z_iadd (q := 72) C dX9_newOne_71 rfl ?_
        refine z_aload_n (q := 73) (i := 0) C 0 dX9_newOne_72 rfl rfl rfl ?_
        refine z_callVl (q := 76) (As := []) C (fun o ho => m_X9_nameHere _ _ ho) zk9 vvX9_193 cdX9_nameHere pnX9 dX9_newOne_73 rfl (by decide) (Nat.le_of_ble_eq_true rfl) hf rfl fun v9 σ hf => ?_
        refine z_last (q := 77) C dX9_newOne_76 hf rfl fun σ hf => ?_
        refine z_aload_n (q := 78) (i := 0) C 0 dX9_newOne_77 rfl rfl rfl ?_
        refine z_callVv (q := 81) (As := []) C (fun o ho => m_X9_ahead _ _ ho) zk9 vvX9_180 cdX9_ahead pnX9 dX9_newOne_78 rfl (by decide) (Nat.le_of_ble_eq_true rfl) hf rfl fun σ hf => ?_
        refine z_iconst (q := 82) C (1 : Int32) dX9_newOne_81 ki_1 rfl ?_
        exact z_zreturn C rfl z_nb1 dX9_newOne_82 (Option.some.inj hf)
      · refine z_aload_n (q := 48) (i := 0) C 0 dX9_newOne_47 rfl rfl rfl ?_
        refine z_iconst (q := 49) C (3 : Int32) dX9_newOne_48 ki_3 rfl ?_
        refine z_callVi (q := 52) (As := [.int (3 : Int32)]) C (fun o ho => m_X9_fails _ _ _ ho) zk9 vvX9_186 cdX9_fails pnX9 dX9_newOne_49 rfl (by decide) (Nat.le_of_ble_eq_true rfl) hf rfl fun v11 σ hf => ?_
        refine z_rz C hf fun hn hf => ?_
        exact z_zreturn C rfl hn dX9_newOne_52 (Option.some.inj hf)
    · refine z_aload_n (q := 35) (i := 0) C 0 dX9_newOne_34 rfl rfl rfl ?_
      refine z_iconst (q := 36) C (2 : Int32) dX9_newOne_35 ki_2 rfl ?_
      refine z_callVi (q := 39) (As := [.int (2 : Int32)]) C (fun o ho => m_X9_fails _ _ _ ho) zk9 vvX9_186 cdX9_fails pnX9 dX9_newOne_36 rfl (by decide) (Nat.le_of_ble_eq_true rfl) hf rfl fun v13 σ hf => ?_
      refine z_rz C hf fun hn hf => ?_
      exact z_zreturn C rfl hn dX9_newOne_39 (Option.some.inj hf)
  · refine z_aload_n (q := 15) (i := 0) C 0 dX9_newOne_14 rfl rfl rfl ?_
    refine z_bipush (q := 17) C (6 : Int32) dX9_newOne_15 kb_6 rfl ?_
    refine z_callVi (q := 20) (As := [.int (6 : Int32)]) C (fun o ho => m_X9_fails _ _ _ ho) zk9 vvX9_186 cdX9_fails pnX9 dX9_newOne_17 rfl (by decide) (Nat.le_of_ble_eq_true rfl) hf rfl fun v15 σ hf => ?_
    refine z_rz C hf fun hn hf => ?_
    exact z_zreturn C rfl hn dX9_newOne_20 (Option.some.inj hf)

noncomputable def f_X9_wantWord (a0 : Nat) (s1 : Nat) (i2 : Int32) (σ : ZT) : Option (Int32 × ZT) :=
  bnd2 (vc 9 a0 σ (f_X9_inWords a0 s1 σ)) fun v1 σ =>
  if v1 = i2 then
  ((vc 9 a0 σ (f_X9_ahead a0 σ)).bind fun σ =>
  some ((1 : Int32), σ))
  else
  (bnd2 (vc 9 a0 σ (f_X9_fails a0 (2 : Int32) σ)) fun v3 σ =>
  (rz v3).bind fun z4 =>
  some (z4, σ))
set_option maxHeartbeats 4000000 in
theorem m_X9_wantWord {l : Launch} {G : ZG} (a0 : Nat) (s1 : Nat) (i2 : Int32) (σ : ZT) {out : (Int32 × ZT)} (hf : f_X9_wantWord a0 s1 i2 σ = some out) : ZM l G yX9_wantWord cX9_wantWord 3 (some .boolean) [] 7 [.ref a0, .ref (gS G s1), .int i2] σ (.returned (some (.int out.1))) out.2 := by
  refine ZM.of [(0, .ref a0), (1, .ref (gS G s1)), (2, .int i2)] rfl (Nat.le_of_ble_eq_true rfl) fun X (C : ZC G RX9 "wantWord" cX9_wantWord 3 (some .boolean) [] X 7) => ?_
  unfold f_X9_wantWord at hf
  refine z_aload_n (q := 1) (i := 0) C 0 dX9_wantWord_0 rfl rfl rfl ?_
  refine z_aload_n (q := 2) (i := 1) C 1 dX9_wantWord_1 rfl rfl rfl ?_
  refine z_callVi (q := 5) (As := [.ref (gS G s1)]) C (fun o ho => m_X9_inWords _ _ _ ho) zk9 vvX9_189 cdX9_inWords pnX9 dX9_wantWord_2 rfl (by decide) (Nat.le_of_ble_eq_true rfl) hf rfl fun v1 σ hf => ?_
  refine z_iload_n (q := 6) (i := 2) C 2 dX9_wantWord_5 rfl rfl rfl ?_
  refine z_icmpeq (q := 9) (tgt := 15) C dX9_wantWord_6 (by decide) rfl hf (fun c6 hf => ?_) (fun c6 hf => ?_)
  · refine z_aload_n (q := 16) (i := 0) C 0 dX9_wantWord_15 rfl rfl rfl ?_
    refine z_callVv (q := 19) (As := []) C (fun o ho => m_X9_ahead _ _ ho) zk9 vvX9_180 cdX9_ahead pnX9 dX9_wantWord_16 rfl (by decide) (Nat.le_of_ble_eq_true rfl) hf rfl fun σ hf => ?_
    refine z_iconst (q := 20) C (1 : Int32) dX9_wantWord_19 ki_1 rfl ?_
    exact z_zreturn C rfl z_nb1 dX9_wantWord_20 (Option.some.inj hf)
  · refine z_aload_n (q := 10) (i := 0) C 0 dX9_wantWord_9 rfl rfl rfl ?_
    refine z_iconst (q := 11) C (2 : Int32) dX9_wantWord_10 ki_2 rfl ?_
    refine z_callVi (q := 14) (As := [.int (2 : Int32)]) C (fun o ho => m_X9_fails _ _ _ ho) zk9 vvX9_186 cdX9_fails pnX9 dX9_wantWord_11 rfl (by decide) (Nat.le_of_ble_eq_true rfl) hf rfl fun v3 σ hf => ?_
    refine z_rz C hf fun hn hf => ?_
    exact z_zreturn C rfl hn dX9_wantWord_14 (Option.some.inj hf)

noncomputable def f_X9_oldOne (a0 : Nat) (i1 : Int32) (i2 : Int32) (i3 : Int32) (σ : ZT) : Option (Int32 × ZT) :=
  bnd2 (vc 9 a0 σ (f_X9_isName a0 30 σ)) fun v1 σ =>
  if v1 = 0 then
  (bnd2 (vc 9 a0 σ (f_X9_fails a0 (2 : Int32) σ)) fun v7 σ =>
  (rz v7).bind fun z8 =>
  some (z8, σ))
  else
  (bnd2 (vc 9 a0 σ (f_X9_findHere a0 (i1 + i3) i2 σ)) fun v2 σ =>
  (pI 9 920 a0 v2 σ).bind fun σ =>
  (gI 9 920 a0 σ).bind fun v3 =>
  if v3 = (-1 : Int32) then
  (bnd2 (vc 9 a0 σ (f_X9_fails a0 (3 : Int32) σ)) fun v5 σ =>
  (rz v5).bind fun z6 =>
  some (z6, σ))
  else
  ((vc 9 a0 σ (f_X9_ahead a0 σ)).bind fun σ =>
  some ((1 : Int32), σ)))
set_option maxHeartbeats 4000000 in
theorem m_X9_oldOne {l : Launch} {G : ZG} (a0 : Nat) (i1 : Int32) (i2 : Int32) (i3 : Int32) (σ : ZT) {out : (Int32 × ZT)} (hf : f_X9_oldOne a0 i1 i2 i3 σ = some out) : ZM l G yX9_oldOne cX9_oldOne 4 (some .boolean) [] 8 [.ref a0, .int i1, .int i2, .int i3] σ (.returned (some (.int out.1))) out.2 := by
  refine ZM.of [(0, .ref a0), (1, .int i1), (2, .int i2), (3, .int i3)] rfl (Nat.le_of_ble_eq_true rfl) fun X (C : ZC G RX9 "oldOne" cX9_oldOne 4 (some .boolean) [] X 8) => ?_
  unfold f_X9_oldOne at hf
  refine z_aload_n (q := 1) (i := 0) C 0 dX9_oldOne_0 rfl rfl rfl ?_
  refine z_ldcS (q := 3) C 30 (by decide) rfl rfl dX9_oldOne_1 rfl ?_
  refine z_callVi (q := 6) (As := [.ref (gS G 30)]) C (fun o ho => m_X9_isName _ _ _ ho) zk9 vvX9_202 cdX9_isName pnX9 dX9_oldOne_3 rfl (by decide) (Nat.le_of_ble_eq_true rfl) hf rfl fun v1 σ hf => ?_
  refine z_ifne (q := 9) (tgt := 15) C dX9_oldOne_6 (by decide) rfl hf (fun c6 hf => ?_) (fun c6 hf => ?_)
  · refine z_aload_n (q := 16) (i := 0) C 0 dX9_oldOne_15 rfl rfl rfl ?_
    refine z_aload_n (q := 17) (i := 0) C 0 dX9_oldOne_16 rfl rfl rfl ?_
    refine z_iload_n (q := 18) (i := 1) C 1 dX9_oldOne_17 rfl rfl rfl ?_
    refine z_iload_n (q := 19) (i := 3) C 3 dX9_oldOne_18 rfl rfl rfl ?_
    refine z_iadd (q := 20) C dX9_oldOne_19 rfl ?_
    refine z_iload_n (q := 21) (i := 2) C 2 dX9_oldOne_20 rfl rfl rfl ?_
    refine z_callVi (q := 24) (As := [.int (i1 + i3), .int i2]) C (fun o ho => m_X9_findHere _ _ _ _ ho) zk9 vvX9_197 cdX9_findHere pnX9 dX9_oldOne_21 rfl (by decide) (Nat.le_of_ble_eq_true rfl) hf rfl fun v2 σ hf => ?_
    refine z_putI (q := 27) C puX9_210 dX9_oldOne_24 hf rfl fun σ hf => ?_
    refine z_aload_n (q := 28) (i := 0) C 0 dX9_oldOne_27 rfl rfl rfl ?_
    refine z_getI (q := 31) C flX9_210 dX9_oldOne_28 hf rfl fun v3 hf => ?_
    refine z_iconst (q := 32) C (-1 : Int32) dX9_oldOne_31 ki_m1 rfl ?_
    refine z_icmpne (q := 35) (tgt := 41) C dX9_oldOne_32 (by decide) rfl hf (fun c32 hf => ?_) (fun c32 hf => ?_)
    · refine z_aload_n (q := 42) (i := 0) C 0 dX9_oldOne_41 rfl rfl rfl ?_
      refine z_callVv (q := 45) (As := []) C (fun o ho => m_X9_ahead _ _ ho) zk9 vvX9_180 cdX9_ahead pnX9 dX9_oldOne_42 rfl (by decide) (Nat.le_of_ble_eq_true rfl) hf rfl fun σ hf => ?_
      refine z_iconst (q := 46) C (1 : Int32) dX9_oldOne_45 ki_1 rfl ?_
      exact z_zreturn C rfl z_nb1 dX9_oldOne_46 (Option.some.inj hf)
    · refine z_aload_n (q := 36) (i := 0) C 0 dX9_oldOne_35 rfl rfl rfl ?_
      refine z_iconst (q := 37) C (3 : Int32) dX9_oldOne_36 ki_3 rfl ?_
      refine z_callVi (q := 40) (As := [.int (3 : Int32)]) C (fun o ho => m_X9_fails _ _ _ ho) zk9 vvX9_186 cdX9_fails pnX9 dX9_oldOne_37 rfl (by decide) (Nat.le_of_ble_eq_true rfl) hf rfl fun v5 σ hf => ?_
      refine z_rz C hf fun hn hf => ?_
      exact z_zreturn C rfl hn dX9_oldOne_40 (Option.some.inj hf)
  · refine z_aload_n (q := 10) (i := 0) C 0 dX9_oldOne_9 rfl rfl rfl ?_
    refine z_iconst (q := 11) C (2 : Int32) dX9_oldOne_10 ki_2 rfl ?_
    refine z_callVi (q := 14) (As := [.int (2 : Int32)]) C (fun o ho => m_X9_fails _ _ _ ho) zk9 vvX9_186 cdX9_fails pnX9 dX9_oldOne_11 rfl (by decide) (Nat.le_of_ble_eq_true rfl) hf rfl fun v7 σ hf => ?_
    refine z_rz C hf fun hn hf => ?_
    exact z_zreturn C rfl hn dX9_oldOne_14 (Option.some.inj hf)

noncomputable def f_X9_aPlaceTo (a0 : Nat) (i1 : Int32) (σ : ZT) : Option (Int32 × ZT) :=
  (gR 9 900 a0 σ).bind fun v1 =>
  (ldI 0 v1 (1720 : Int32) σ).bind fun v2 =>
  bnd2 (vc 9 a0 σ (f_X9_oldOne a0 (80 : Int32) v2 (0 : Int32) σ)) fun v3 σ =>
  if v3 = 0 then
  (some ((0 : Int32), σ))
  else
  ((gR 9 900 a0 σ).bind fun v4 =>
  (gI 9 920 a0 σ).bind fun v5 =>
  (stI v4 i1 v5 σ).bind fun σ =>
  some ((1 : Int32), σ))
set_option maxHeartbeats 4000000 in
theorem m_X9_aPlaceTo {l : Launch} {G : ZG} (a0 : Nat) (i1 : Int32) (σ : ZT) {out : (Int32 × ZT)} (hf : f_X9_aPlaceTo a0 i1 σ = some out) : ZM l G yX9_aPlaceTo cX9_aPlaceTo 2 (some .boolean) [] 9 [.ref a0, .int i1] σ (.returned (some (.int out.1))) out.2 := by
  refine ZM.of [(0, .ref a0), (1, .int i1)] rfl (Nat.le_of_ble_eq_true rfl) fun X (C : ZC G RX9 "aPlaceTo" cX9_aPlaceTo 2 (some .boolean) [] X 9) => ?_
  unfold f_X9_aPlaceTo at hf
  refine z_aload_n (q := 1) (i := 0) C 0 dX9_aPlaceTo_0 rfl rfl rfl ?_
  refine z_bipush (q := 3) C (80 : Int32) dX9_aPlaceTo_1 kb_80 rfl ?_
  refine z_aload_n (q := 4) (i := 0) C 0 dX9_aPlaceTo_3 rfl rfl rfl ?_
  refine z_getR (q := 7) C flX9_7 dX9_aPlaceTo_4 hf rfl fun v1 hf => ?_
  refine z_sipush (q := 10) C (1720 : Int32) dX9_aPlaceTo_7 ks_1720 rfl ?_
  refine z_iald (q := 11) C dX9_aPlaceTo_10 hf rfl fun v2 hf => ?_
  refine z_iconst (q := 12) C (0 : Int32) dX9_aPlaceTo_11 ki_0 rfl ?_
  refine z_callVi (q := 15) (As := [.int (80 : Int32), .int v2, .int (0 : Int32)]) C (fun o ho => m_X9_oldOne _ _ _ _ _ ho) zk9 vvX9_213 cdX9_oldOne pnX9 dX9_aPlaceTo_12 rfl (by decide) (Nat.le_of_ble_eq_true rfl) hf rfl fun v3 σ hf => ?_
  refine z_ifne (q := 18) (tgt := 20) C dX9_aPlaceTo_15 (by decide) rfl hf (fun c15 hf => ?_) (fun c15 hf => ?_)
  · refine z_aload_n (q := 21) (i := 0) C 0 dX9_aPlaceTo_20 rfl rfl rfl ?_
    refine z_getR (q := 24) C flX9_7 dX9_aPlaceTo_21 hf rfl fun v4 hf => ?_
    refine z_iload_n (q := 25) (i := 1) C 1 dX9_aPlaceTo_24 rfl rfl rfl ?_
    refine z_aload_n (q := 26) (i := 0) C 0 dX9_aPlaceTo_25 rfl rfl rfl ?_
    refine z_getI (q := 29) C flX9_210 dX9_aPlaceTo_26 hf rfl fun v5 hf => ?_
    refine z_iast (q := 30) C dX9_aPlaceTo_29 hf rfl fun σ hf => ?_
    refine z_iconst (q := 31) C (1 : Int32) dX9_aPlaceTo_30 ki_1 rfl ?_
    exact z_zreturn C rfl z_nb1 dX9_aPlaceTo_31 (Option.some.inj hf)
  · refine z_iconst (q := 19) C (0 : Int32) dX9_aPlaceTo_18 ki_0 rfl ?_
    exact z_zreturn C rfl z_nb0 dX9_aPlaceTo_19 (Option.some.inj hf)

noncomputable def f_X9_number_J30 (a0_30 : Nat) (σ : ZT) : Option (Int32 × ZT) :=
  bnd2 (vc 9 a0_30 σ (f_X9_fails a0_30 (4 : Int32) σ)) fun v9 σ =>
  (rz v9).bind fun z10 =>
  some (z10, σ)
noncomputable def f_X9_number (a0 : Nat) (i1 : Int32) (i2 : Int32) (i3 : Int32) (σ : ZT) : Option (Int32 × ZT) :=
  (gI 9 912 a0 σ).bind fun v1 =>
  if v1 = (3 : Int32) then
  ((gI 9 915 a0 σ).bind fun v2 =>
  if v2 < i2 then
  (f_X9_number_J30 a0 σ)
  else
  ((gI 9 915 a0 σ).bind fun v3 =>
  if i3 < v3 then
  (f_X9_number_J30 a0 σ)
  else
  ((gR 9 900 a0 σ).bind fun v4 =>
  (gI 9 915 a0 σ).bind fun v5 =>
  (stI v4 i1 v5 σ).bind fun σ =>
  (vc 9 a0 σ (f_X9_ahead a0 σ)).bind fun σ =>
  some ((1 : Int32), σ))))
  else
  (bnd2 (vc 9 a0 σ (f_X9_fails a0 (2 : Int32) σ)) fun v7 σ =>
  (rz v7).bind fun z8 =>
  some (z8, σ))
set_option maxHeartbeats 4000000 in
theorem m_X9_number {l : Launch} {G : ZG} (a0 : Nat) (i1 : Int32) (i2 : Int32) (i3 : Int32) (σ : ZT) {out : (Int32 × ZT)} (hf : f_X9_number a0 i1 i2 i3 σ = some out) : ZM l G yX9_number cX9_number 4 (some .boolean) [] 7 [.ref a0, .int i1, .int i2, .int i3] σ (.returned (some (.int out.1))) out.2 := by
  refine ZM.of [(0, .ref a0), (1, .int i1), (2, .int i2), (3, .int i3)] rfl (Nat.le_of_ble_eq_true rfl) fun X (C : ZC G RX9 "number" cX9_number 4 (some .boolean) [] X 7) => ?_
  unfold f_X9_number at hf
  have j30_0 : ∀ (a0_30 : Nat) (σ : ZT), f_X9_number_J30 a0_30 σ = some out → ZW l G 4 X (ZQ G X (.returned (some (.int out.1))) out.2) σ 30 [(0, .ref a0_30)] [] := by
    intro a0_30 σ hf
    unfold f_X9_number_J30 at hf
    refine z_aload_n (q := 31) (i := 0) C 0 dX9_number_30 rfl rfl rfl ?_
    refine z_iconst (q := 32) C (4 : Int32) dX9_number_31 ki_4 rfl ?_
    refine z_callVi (q := 35) (As := [.int (4 : Int32)]) C (fun o ho => m_X9_fails _ _ _ ho) zk9 vvX9_186 cdX9_fails pnX9 dX9_number_32 rfl (by decide) (Nat.le_of_ble_eq_true rfl) hf rfl fun v9 σ hf => ?_
    refine z_rz C hf fun hn hf => ?_
    exact z_zreturn C rfl hn dX9_number_35 (Option.some.inj hf)
  refine z_aload_n (q := 1) (i := 0) C 0 dX9_number_0 rfl rfl rfl ?_
  refine z_getI (q := 4) C flX9_149 dX9_number_1 hf rfl fun v1 hf => ?_
  refine z_iconst (q := 5) C (3 : Int32) dX9_number_4 ki_3 rfl ?_
  refine z_icmpeq (q := 8) (tgt := 14) C dX9_number_5 (by decide) rfl hf (fun c5 hf => ?_) (fun c5 hf => ?_)
  · refine z_aload_n (q := 15) (i := 0) C 0 dX9_number_14 rfl rfl rfl ?_
    refine z_getI (q := 18) C flX9_146 dX9_number_15 hf rfl fun v2 hf => ?_
    refine z_iload_n (q := 19) (i := 2) C 2 dX9_number_18 rfl rfl rfl ?_
    refine z_icmplt (q := 22) (tgt := 30) C dX9_number_19 (by decide) rfl hf (fun c19 hf => ?_) (fun c19 hf => ?_)
    · refine z_lv [0] rfl ?_
      exact j30_0 a0 σ hf
    · refine z_aload_n (q := 23) (i := 0) C 0 dX9_number_22 rfl rfl rfl ?_
      refine z_getI (q := 26) C flX9_146 dX9_number_23 hf rfl fun v3 hf => ?_
      refine z_iload_n (q := 27) (i := 3) C 3 dX9_number_26 rfl rfl rfl ?_
      refine z_icmple (q := 30) (tgt := 36) C dX9_number_27 (by decide) rfl hf (fun c27 hf => ?_) (fun c27 hf => ?_)
      · refine z_aload_n (q := 37) (i := 0) C 0 dX9_number_36 rfl rfl rfl ?_
        refine z_getR (q := 40) C flX9_7 dX9_number_37 hf rfl fun v4 hf => ?_
        refine z_iload_n (q := 41) (i := 1) C 1 dX9_number_40 rfl rfl rfl ?_
        refine z_aload_n (q := 42) (i := 0) C 0 dX9_number_41 rfl rfl rfl ?_
        refine z_getI (q := 45) C flX9_146 dX9_number_42 hf rfl fun v5 hf => ?_
        refine z_iast (q := 46) C dX9_number_45 hf rfl fun σ hf => ?_
        refine z_aload_n (q := 47) (i := 0) C 0 dX9_number_46 rfl rfl rfl ?_
        refine z_callVv (q := 50) (As := []) C (fun o ho => m_X9_ahead _ _ ho) zk9 vvX9_180 cdX9_ahead pnX9 dX9_number_47 rfl (by decide) (Nat.le_of_ble_eq_true rfl) hf rfl fun σ hf => ?_
        refine z_iconst (q := 51) C (1 : Int32) dX9_number_50 ki_1 rfl ?_
        exact z_zreturn C rfl z_nb1 dX9_number_51 (Option.some.inj hf)
      · refine z_lv [0] rfl ?_
        exact j30_0 a0 σ hf
  · refine z_aload_n (q := 9) (i := 0) C 0 dX9_number_8 rfl rfl rfl ?_
    refine z_iconst (q := 10) C (2 : Int32) dX9_number_9 ki_2 rfl ?_
    refine z_callVi (q := 13) (As := [.int (2 : Int32)]) C (fun o ho => m_X9_fails _ _ _ ho) zk9 vvX9_186 cdX9_fails pnX9 dX9_number_10 rfl (by decide) (Nat.le_of_ble_eq_true rfl) hf rfl fun v7 σ hf => ?_
    refine z_rz C hf fun hn hf => ?_
    exact z_zreturn C rfl hn dX9_number_13 (Option.some.inj hf)

noncomputable def f_X9_aBridge_J324_227 (a0_324 : Nat) (i1_324 : Int32) (i3_324 : Int32) (σ : ZT) : Option ((Int32 × ZT) ⊕ ((Int32 × ZT) ⊕ ZT)) :=
  some (.inl ((i3_324 + (1 : Int32)), σ))
noncomputable def f_X9_aBridge_J306_227 (a0_306 : Nat) (i1_306 : Int32) (i3_306 : Int32) (i4_306 : Int32) (w0_306 : Int32) (σ : ZT) : Option ((Int32 × ZT) ⊕ ((Int32 × ZT) ⊕ ZT)) :=
  bnd2 (vc 9 a0_306 σ (f_X9_number a0_306 (i1_306 + i3_306) i4_306 w0_306 σ)) fun v24 σ =>
  if v24 = 0 then
  (some (.inr (.inl ((0 : Int32), σ))))
  else
  (f_X9_aBridge_J324_227 a0_306 i1_306 i3_306 σ)
noncomputable def f_X9_aBridge_J271_227 (a0_271 : Nat) (i1_271 : Int32) (i3_271 : Int32) (w0_271 : Int32) (σ : ZT) : Option ((Int32 × ZT) ⊕ ((Int32 × ZT) ⊕ ZT)) :=
  if i3_271 = (4 : Int32) then
  (f_X9_aBridge_J306_227 a0_271 i1_271 i3_271 w0_271 (3 : Int32) σ)
  else
  (if i3_271 = (5 : Int32) then
  (f_X9_aBridge_J306_227 a0_271 i1_271 i3_271 w0_271 (9999 : Int32) σ)
  else
  (if i3_271 = (8 : Int32) then
  (f_X9_aBridge_J306_227 a0_271 i1_271 i3_271 w0_271 (15 : Int32) σ)
  else
  (f_X9_aBridge_J306_227 a0_271 i1_271 i3_271 w0_271 (99 : Int32) σ)))
noncomputable def f_X9_aBridge_J266_227 (a0_266 : Nat) (i1_266 : Int32) (i3_266 : Int32) (σ : ZT) : Option ((Int32 × ZT) ⊕ ((Int32 × ZT) ⊕ ZT)) :=
  f_X9_aBridge_J271_227 a0_266 i1_266 i3_266 (1 : Int32) σ
noncomputable def f_X9_aBridge_L227 (c0_227 : Nat) (c1_227 : Int32) (i_19 : Int32) (σ : ZT) : Option ((Int32 × ZT) ⊕ ((Int32 × ZT) ⊕ ZT)) :=
  if (8 : Int32) < i_19 then
  (some (.inr (.inr σ)))
  else
  (bnd2 (vc 9 c0_227 σ (f_X9_inWords c0_227 30 σ)) fun v22 σ =>
  if v22 = (((9 : Int32) + i_19) - (4 : Int32)) then
  ((vc 9 c0_227 σ (f_X9_ahead c0_227 σ)).bind fun σ =>
  if i_19 = (4 : Int32) then
  (f_X9_aBridge_J266_227 c0_227 c1_227 i_19 σ)
  else
  (if i_19 = (7 : Int32) then
  (f_X9_aBridge_J266_227 c0_227 c1_227 i_19 σ)
  else
  (f_X9_aBridge_J271_227 c0_227 c1_227 i_19 (0 : Int32) σ)))
  else
  (f_X9_aBridge_J324_227 c0_227 c1_227 i_19 σ))
noncomputable def f_X9_aBridge_J72_32 (a0_72 : Nat) (i1_72 : Int32) (i2_72 : Int32) (w0_72 : Int32) (w1_72 : Int32) (w2_72 : Nat) (σ : ZT) : Option ((Int32 × ZT) ⊕ ZT) :=
  (stI w2_72 w1_72 w0_72 σ).bind fun σ =>
  some (.inl ((i2_72 + (1 : Int32)), σ))
noncomputable def f_X9_aBridge_J67_32 (a0_67 : Nat) (i1_67 : Int32) (i2_67 : Int32) (w0_67 : Int32) (w1_67 : Nat) (σ : ZT) : Option ((Int32 × ZT) ⊕ ZT) :=
  f_X9_aBridge_J72_32 a0_67 i1_67 i2_67 (1 : Int32) w0_67 w1_67 σ
noncomputable def f_X9_aBridge_L32 (c0_32 : Nat) (c1_32 : Int32) (i_4 : Int32) (σ : ZT) : Option ((Int32 × ZT) ⊕ ZT) :=
  if i_4 < (9 : Int32) then
  ((gR 9 900 c0_32 σ).bind fun v33 =>
  if i_4 = (5 : Int32) then
  (f_X9_aBridge_J72_32 c0_32 c1_32 i_4 (9999 : Int32) (c1_32 + i_4) v33 σ)
  else
  (if i_4 = (4 : Int32) then
  (f_X9_aBridge_J67_32 c0_32 c1_32 i_4 (c1_32 + i_4) v33 σ)
  else
  (if i_4 = (7 : Int32) then
  (f_X9_aBridge_J67_32 c0_32 c1_32 i_4 (c1_32 + i_4) v33 σ)
  else
  (f_X9_aBridge_J72_32 c0_32 c1_32 i_4 (0 : Int32) (c1_32 + i_4) v33 σ))))
  else
  (some (.inr σ))
noncomputable def f_X9_aBridge_J108  (σ : ZT) : Option (Int32 × ZT) :=
  some ((0 : Int32), σ)
noncomputable def f_X9_aBridge_J223  (σ : ZT) : Option (Int32 × ZT) :=
  some ((0 : Int32), σ)
noncomputable def f_X9_aBridge (a0 : Nat) (σ : ZT) : Option (Int32 × ZT) :=
  (gR 9 900 a0 σ).bind fun v1 =>
  (ldI 0 v1 (1721 : Int32) σ).bind fun v2 =>
  bnd2 (vc 9 a0 σ (f_X9_newOne a0 (1 : Int32) (8 : Int32) (6 : Int32) σ)) fun v3 σ =>
  if v3 = 0 then
  (some ((0 : Int32), σ))
  else
  ((loopC (fun s : (Int32 × ZT) => f_X9_aBridge_L32 a0 ((1734 : Int32) + ((9 : Int32) * v2)) s.1 s.2) ((0 : Int32), σ)).bind fun σ =>
  bnd2 (vc 9 a0 σ (f_X9_wantWord a0 30 (5 : Int32) σ)) fun v34 σ =>
  if v34 = 0 then
  (f_X9_aBridge_J108  σ)
  else
  (bnd2 (vc 9 a0 σ (f_X9_aPlaceTo a0 ((1734 : Int32) + ((9 : Int32) * v2)) σ)) fun v35 σ =>
  if v35 = 0 then
  (f_X9_aBridge_J108  σ)
  else
  (bnd2 (vc 9 a0 σ (f_X9_wantWord a0 30 (6 : Int32) σ)) fun v36 σ =>
  if v36 = 0 then
  (f_X9_aBridge_J108  σ)
  else
  (bnd2 (vc 9 a0 σ (f_X9_isName a0 30 σ)) fun v37 σ =>
  if v37 = 0 then
  (bnd2 (vc 9 a0 σ (f_X9_fails a0 (2 : Int32) σ)) fun v60 σ =>
  (rz v60).bind fun z61 =>
  some (z61, σ))
  else
  ((gR 9 900 a0 σ).bind fun v38 =>
  (ldI 0 v38 (1720 : Int32) σ).bind fun v39 =>
  bnd2 (vc 9 a0 σ (f_X9_findHere a0 (80 : Int32) v39 σ)) fun v40 σ =>
  if v40 = (-1 : Int32) then
  (bnd2 (vc 9 a0 σ (f_X9_fails a0 (3 : Int32) σ)) fun v58 σ =>
  (rz v58).bind fun z59 =>
  some (z59, σ))
  else
  ((gR 9 900 a0 σ).bind fun v41 =>
  (ldI 0 v41 ((1734 : Int32) + ((9 : Int32) * v2)) σ).bind fun v42 =>
  if v40 = v42 then
  (bnd2 (vc 9 a0 σ (f_X9_fails a0 (5 : Int32) σ)) fun v56 σ =>
  (rz v56).bind fun z57 =>
  some (z57, σ))
  else
  (bnd2 (vc 9 a0 σ (f_X9_aPlaceTo a0 (((1734 : Int32) + ((9 : Int32) * v2)) + (1 : Int32)) σ)) fun v43 σ =>
  if v43 = 0 then
  (f_X9_aBridge_J223  σ)
  else
  (bnd2 (vc 9 a0 σ (f_X9_wantWord a0 30 (7 : Int32) σ)) fun v44 σ =>
  if v44 = 0 then
  (f_X9_aBridge_J223  σ)
  else
  (bnd2 (vc 9 a0 σ (f_X9_aPlaceTo a0 (((1734 : Int32) + ((9 : Int32) * v2)) + (2 : Int32)) σ)) fun v45 σ =>
  if v45 = 0 then
  (f_X9_aBridge_J223  σ)
  else
  (bnd2 (vc 9 a0 σ (f_X9_wantWord a0 30 (8 : Int32) σ)) fun v46 σ =>
  if v46 = 0 then
  (f_X9_aBridge_J223  σ)
  else
  (bnd2 (vc 9 a0 σ (f_X9_number a0 (((1734 : Int32) + ((9 : Int32) * v2)) + (3 : Int32)) (0 : Int32) (999 : Int32) σ)) fun v47 σ =>
  if v47 = 0 then
  (f_X9_aBridge_J223  σ)
  else
  ((loopC (fun s : (Int32 × ZT) => f_X9_aBridge_L227 a0 ((1734 : Int32) + ((9 : Int32) * v2)) s.1 s.2) ((4 : Int32), σ)).bind fun x => (match x with
  | .inl o => some o
  | .inr σ => (gR 9 900 a0 σ).bind fun v54 =>
  (ldI 0 v54 (1721 : Int32) σ).bind fun v55 =>
  (stI v54 (1721 : Int32) (v55 + (1 : Int32)) σ).bind fun σ =>
  some ((1 : Int32), σ))))))))))))))
set_option maxHeartbeats 4000000 in
theorem m_X9_aBridge {l : Launch} {G : ZG} (a0 : Nat) (σ : ZT) {out : (Int32 × ZT)} (hf : f_X9_aBridge a0 σ = some out) : ZM l G yX9_aBridge cX9_aBridge 6 (some .boolean) [] 10 [.ref a0] σ (.returned (some (.int out.1))) out.2 := by
  refine ZM.of [(0, .ref a0)] rfl (Nat.le_of_ble_eq_true rfl) fun X (C : ZC G RX9 "aBridge" cX9_aBridge 6 (some .boolean) [] X 10) => ?_
  unfold f_X9_aBridge at hf
  have j223_0 : ∀  (σ : ZT), f_X9_aBridge_J223  σ = some out → ZW l G 6 X (ZQ G X (.returned (some (.int out.1))) out.2) σ 223 [] [] := by
    intro  σ hf
    unfold f_X9_aBridge_J223 at hf
    refine z_iconst (q := 224) C (0 : Int32) dX9_aBridge_223 ki_0 rfl ?_
    exact z_zreturn C rfl z_nb0 dX9_aBridge_224 (Option.some.inj hf)
  have j108_0 : ∀  (σ : ZT), f_X9_aBridge_J108  σ = some out → ZW l G 6 X (ZQ G X (.returned (some (.int out.1))) out.2) σ 108 [] [] := by
    intro  σ hf
    unfold f_X9_aBridge_J108 at hf
    refine z_iconst (q := 109) C (0 : Int32) dX9_aBridge_108 ki_0 rfl ?_
    exact z_zreturn C rfl z_nb0 dX9_aBridge_109 (Option.some.inj hf)
  refine z_sipush (q := 3) C (1734 : Int32) dX9_aBridge_0 ks_1734 rfl ?_
  refine z_bipush (q := 5) C (9 : Int32) dX9_aBridge_3 kb_9 rfl ?_
  refine z_aload_n (q := 6) (i := 0) C 0 dX9_aBridge_5 rfl rfl rfl ?_
  refine z_getR (q := 9) C flX9_7 dX9_aBridge_6 hf rfl fun v1 hf => ?_
  refine z_sipush (q := 12) C (1721 : Int32) dX9_aBridge_9 ks_1721 rfl ?_
  refine z_iald (q := 13) C dX9_aBridge_12 hf rfl fun v2 hf => ?_
  refine z_imul (q := 14) C dX9_aBridge_13 rfl ?_
  refine z_iadd (q := 15) C dX9_aBridge_14 rfl ?_
  refine z_istore_n (q := 16) (i := 1) (lv' := [(1, .int ((1734 : Int32) + ((9 : Int32) * v2))), (0, .ref a0)]) C dX9_aBridge_15 rfl (by decide) rfl rfl ?_
  refine z_aload_n (q := 17) (i := 0) C 1 dX9_aBridge_16 rfl rfl rfl ?_
  refine z_iconst (q := 18) C (1 : Int32) dX9_aBridge_17 ki_1 rfl ?_
  refine z_bipush (q := 20) C (8 : Int32) dX9_aBridge_18 kb_8 rfl ?_
  refine z_bipush (q := 22) C (6 : Int32) dX9_aBridge_20 kb_6 rfl ?_
  refine z_callVi (q := 25) (As := [.int (1 : Int32), .int (8 : Int32), .int (6 : Int32)]) C (fun o ho => m_X9_newOne _ _ _ _ _ ho) zk9 vvX9_217 cdX9_newOne pnX9 dX9_aBridge_22 rfl (by decide) (Nat.le_of_ble_eq_true rfl) hf rfl fun v3 σ hf => ?_
  refine z_ifne (q := 28) (tgt := 30) C dX9_aBridge_25 (by decide) rfl hf (fun c25 hf => ?_) (fun c25 hf => ?_)
  · refine z_iconst (q := 31) C (0 : Int32) dX9_aBridge_30 ki_0 rfl ?_
    refine z_istore_n (q := 32) (i := 2) (lv' := [(2, .int (0 : Int32)), (1, .int ((1734 : Int32) + ((9 : Int32) * v2))), (0, .ref a0)]) C dX9_aBridge_31 rfl (by decide) rfl rfl ?_
    refine z_lv [2, 1, 0] rfl ?_
    obtain ⟨r1, hr1, hk1⟩ := Option.bind_eq_some_iff.mp hf
    refine loopC_ind (P := fun s => ZW l G 6 X (ZQ G X (.returned (some (.int out.1))) out.2) s.2 32 [(0, .ref a0), (1, .int ((1734 : Int32) + ((9 : Int32) * v2))), (2, .int s.1)] []) (fun s x1 hf hx1 => ?_) hr1
    obtain ⟨i_4, σ⟩ := s
    unfold f_X9_aBridge_L32 at hf
    try dsimp only at hf
    try dsimp only
    have j72_1 : ∀ (i2_72 : Int32) (w0_72 : Int32) (w1_72 : Int32) (w2_72 : Nat) (σ : ZT), f_X9_aBridge_J72_32 a0 ((1734 : Int32) + ((9 : Int32) * v2)) i2_72 w0_72 w1_72 w2_72 σ = some x1 → ZW l G 6 X (ZQ G X (.returned (some (.int out.1))) out.2) σ 72 [(0, .ref a0), (1, .int ((1734 : Int32) + ((9 : Int32) * v2))), (2, .int i2_72)] [.int w0_72, .int w1_72, .ref w2_72] := by
      intro i2_72 w0_72 w1_72 w2_72 σ hf
      unfold f_X9_aBridge_J72_32 at hf
      refine z_iast (q := 73) C dX9_aBridge_72 hf rfl fun σ hf => ?_
      refine z_iinc (q := 76) (i := 2) (lv' := [(2, .int (i2_72 + (1 : Int32))), (0, .ref a0), (1, .int ((1734 : Int32) + ((9 : Int32) * v2)))]) C 2 (i2_72 + (1 : Int32)) dX9_aBridge_73 rfl (kn_1 _) (by decide) rfl rfl ?_
      refine z_goto (q := 32) C dX9_aBridge_76 (by decide) ?_
      refine z_lv [1, 2, 0] rfl ?_
      have hc1 := zl_c hf hx1
      exact hc1
    have j67_1 : ∀ (i2_67 : Int32) (w0_67 : Int32) (w1_67 : Nat) (σ : ZT), f_X9_aBridge_J67_32 a0 ((1734 : Int32) + ((9 : Int32) * v2)) i2_67 w0_67 w1_67 σ = some x1 → ZW l G 6 X (ZQ G X (.returned (some (.int out.1))) out.2) σ 67 [(0, .ref a0), (1, .int ((1734 : Int32) + ((9 : Int32) * v2))), (2, .int i2_67)] [.int w0_67, .ref w1_67] := by
      intro i2_67 w0_67 w1_67 σ hf
      unfold f_X9_aBridge_J67_32 at hf
      refine z_iconst (q := 68) C (1 : Int32) dX9_aBridge_67 ki_1 rfl ?_
      refine z_goto (q := 72) C dX9_aBridge_68 (by decide) ?_
      exact j72_1 i2_67 (1 : Int32) w0_67 w1_67 σ hf
    refine z_iload_n (q := 33) (i := 2) C 2 dX9_aBridge_32 rfl rfl rfl ?_
    refine z_bipush (q := 35) C (9 : Int32) dX9_aBridge_33 kb_9 rfl ?_
    refine z_icmpge (q := 38) (tgt := 79) C dX9_aBridge_35 (by decide) rfl hf (fun c35 hf => ?_) (fun c35 hf => ?_)
    · have e1 := zl_x hf hx1
      have hf := hk1
      rw [← e1] at hf
      try dsimp only at hf
      refine z_aload_n (q := 80) (i := 0) C 0 dX9_aBridge_79 rfl rfl rfl ?_
      refine z_ldcS (q := 82) C 30 (by decide) rfl rfl dX9_aBridge_80 rfl ?_
      refine z_iconst (q := 83) C (5 : Int32) dX9_aBridge_82 ki_5 rfl ?_
      refine z_callVi (q := 86) (As := [.ref (gS G 30), .int (5 : Int32)]) C (fun o ho => m_X9_wantWord _ _ _ _ ho) zk9 vvX9_220 cdX9_wantWord pnX9 dX9_aBridge_83 rfl (by decide) (Nat.le_of_ble_eq_true rfl) hf rfl fun v5 σ hf => ?_
      refine z_ifeq (q := 89) (tgt := 108) C dX9_aBridge_86 (by decide) rfl hf (fun c86 hf => ?_) (fun c86 hf => ?_)
      · refine z_lv [] rfl ?_
        exact j108_0  σ hf
      · refine z_aload_n (q := 90) (i := 0) C 0 dX9_aBridge_89 rfl rfl rfl ?_
        refine z_iload_n (q := 91) (i := 1) C 1 dX9_aBridge_90 rfl rfl rfl ?_
        refine z_callVi (q := 94) (As := [.int ((1734 : Int32) + ((9 : Int32) * v2))]) C (fun o ho => m_X9_aPlaceTo _ _ _ ho) zk9 vvX9_224 cdX9_aPlaceTo pnX9 dX9_aBridge_91 rfl (by decide) (Nat.le_of_ble_eq_true rfl) hf rfl fun v6 σ hf => ?_
        refine z_ifeq (q := 97) (tgt := 108) C dX9_aBridge_94 (by decide) rfl hf (fun c94 hf => ?_) (fun c94 hf => ?_)
        · refine z_lv [] rfl ?_
          exact j108_0  σ hf
        · refine z_aload_n (q := 98) (i := 0) C 0 dX9_aBridge_97 rfl rfl rfl ?_
          refine z_ldcS (q := 100) C 30 (by decide) rfl rfl dX9_aBridge_98 rfl ?_
          refine z_bipush (q := 102) C (6 : Int32) dX9_aBridge_100 kb_6 rfl ?_
          refine z_callVi (q := 105) (As := [.ref (gS G 30), .int (6 : Int32)]) C (fun o ho => m_X9_wantWord _ _ _ _ ho) zk9 vvX9_220 cdX9_wantWord pnX9 dX9_aBridge_102 rfl (by decide) (Nat.le_of_ble_eq_true rfl) hf rfl fun v7 σ hf => ?_
          refine z_ifne (q := 108) (tgt := 110) C dX9_aBridge_105 (by decide) rfl hf (fun c105 hf => ?_) (fun c105 hf => ?_)
          · refine z_aload_n (q := 111) (i := 0) C 0 dX9_aBridge_110 rfl rfl rfl ?_
            refine z_ldcS (q := 113) C 30 (by decide) rfl rfl dX9_aBridge_111 rfl ?_
            refine z_callVi (q := 116) (As := [.ref (gS G 30)]) C (fun o ho => m_X9_isName _ _ _ ho) zk9 vvX9_202 cdX9_isName pnX9 dX9_aBridge_113 rfl (by decide) (Nat.le_of_ble_eq_true rfl) hf rfl fun v8 σ hf => ?_
            refine z_ifne (q := 119) (tgt := 125) C dX9_aBridge_116 (by decide) rfl hf (fun c116 hf => ?_) (fun c116 hf => ?_)
            · refine z_aload_n (q := 126) (i := 0) C 0 dX9_aBridge_125 rfl rfl rfl ?_
              refine z_bipush (q := 128) C (80 : Int32) dX9_aBridge_126 kb_80 rfl ?_
              refine z_aload_n (q := 129) (i := 0) C 0 dX9_aBridge_128 rfl rfl rfl ?_
              refine z_getR (q := 132) C flX9_7 dX9_aBridge_129 hf rfl fun v9 hf => ?_
              refine z_sipush (q := 135) C (1720 : Int32) dX9_aBridge_132 ks_1720 rfl ?_
              refine z_iald (q := 136) C dX9_aBridge_135 hf rfl fun v10 hf => ?_
              refine z_callVi (q := 139) (As := [.int (80 : Int32), .int v10]) C (fun o ho => m_X9_findHere _ _ _ _ ho) zk9 vvX9_197 cdX9_findHere pnX9 dX9_aBridge_136 rfl (by decide) (Nat.le_of_ble_eq_true rfl) hf rfl fun v11 σ hf => ?_
              refine z_istore_n (q := 140) (i := 2) (lv' := [(2, .int v11), (0, .ref a0), (1, .int ((1734 : Int32) + ((9 : Int32) * v2)))]) C dX9_aBridge_139 rfl (by decide) rfl rfl ?_
              refine z_iload_n (q := 141) (i := 2) C 0 dX9_aBridge_140 rfl rfl rfl ?_
              refine z_iconst (q := 142) C (-1 : Int32) dX9_aBridge_141 ki_m1 rfl ?_
              refine z_icmpne (q := 145) (tgt := 151) C dX9_aBridge_142 (by decide) rfl hf (fun c142 hf => ?_) (fun c142 hf => ?_)
              · refine z_iload_n (q := 152) (i := 2) C 0 dX9_aBridge_151 rfl rfl rfl ?_
                refine z_aload_n (q := 153) (i := 0) C 1 dX9_aBridge_152 rfl rfl rfl ?_
                refine z_getR (q := 156) C flX9_7 dX9_aBridge_153 hf rfl fun v12 hf => ?_
                refine z_iload_n (q := 157) (i := 1) C 2 dX9_aBridge_156 rfl rfl rfl ?_
                refine z_iald (q := 158) C dX9_aBridge_157 hf rfl fun v13 hf => ?_
                refine z_icmpne (q := 161) (tgt := 167) C dX9_aBridge_158 (by decide) rfl hf (fun c158 hf => ?_) (fun c158 hf => ?_)
                · refine z_aload_n (q := 168) (i := 0) C 1 dX9_aBridge_167 rfl rfl rfl ?_
                  refine z_iload_n (q := 169) (i := 1) C 2 dX9_aBridge_168 rfl rfl rfl ?_
                  refine z_iconst (q := 170) C (1 : Int32) dX9_aBridge_169 ki_1 rfl ?_
                  refine z_iadd (q := 171) C dX9_aBridge_170 rfl ?_
                  refine z_callVi (q := 174) (As := [.int (((1734 : Int32) + ((9 : Int32) * v2)) + (1 : Int32))]) C (fun o ho => m_X9_aPlaceTo _ _ _ ho) zk9 vvX9_224 cdX9_aPlaceTo pnX9 dX9_aBridge_171 rfl (by decide) (Nat.le_of_ble_eq_true rfl) hf rfl fun v14 σ hf => ?_
                  refine z_ifeq (q := 177) (tgt := 223) C dX9_aBridge_174 (by decide) rfl hf (fun c174 hf => ?_) (fun c174 hf => ?_)
                  · refine z_lv [] rfl ?_
                    exact j223_0  σ hf
                  · refine z_aload_n (q := 178) (i := 0) C 1 dX9_aBridge_177 rfl rfl rfl ?_
                    refine z_ldcS (q := 180) C 30 (by decide) rfl rfl dX9_aBridge_178 rfl ?_
                    refine z_bipush (q := 182) C (7 : Int32) dX9_aBridge_180 kb_7 rfl ?_
                    refine z_callVi (q := 185) (As := [.ref (gS G 30), .int (7 : Int32)]) C (fun o ho => m_X9_wantWord _ _ _ _ ho) zk9 vvX9_220 cdX9_wantWord pnX9 dX9_aBridge_182 rfl (by decide) (Nat.le_of_ble_eq_true rfl) hf rfl fun v15 σ hf => ?_
                    refine z_ifeq (q := 188) (tgt := 223) C dX9_aBridge_185 (by decide) rfl hf (fun c185 hf => ?_) (fun c185 hf => ?_)
                    · refine z_lv [] rfl ?_
                      exact j223_0  σ hf
                    · refine z_aload_n (q := 189) (i := 0) C 1 dX9_aBridge_188 rfl rfl rfl ?_
                      refine z_iload_n (q := 190) (i := 1) C 2 dX9_aBridge_189 rfl rfl rfl ?_
                      refine z_iconst (q := 191) C (2 : Int32) dX9_aBridge_190 ki_2 rfl ?_
                      refine z_iadd (q := 192) C dX9_aBridge_191 rfl ?_
                      refine z_callVi (q := 195) (As := [.int (((1734 : Int32) + ((9 : Int32) * v2)) + (2 : Int32))]) C (fun o ho => m_X9_aPlaceTo _ _ _ ho) zk9 vvX9_224 cdX9_aPlaceTo pnX9 dX9_aBridge_192 rfl (by decide) (Nat.le_of_ble_eq_true rfl) hf rfl fun v16 σ hf => ?_
                      refine z_ifeq (q := 198) (tgt := 223) C dX9_aBridge_195 (by decide) rfl hf (fun c195 hf => ?_) (fun c195 hf => ?_)
                      · refine z_lv [] rfl ?_
                        exact j223_0  σ hf
                      · refine z_aload_n (q := 199) (i := 0) C 1 dX9_aBridge_198 rfl rfl rfl ?_
                        refine z_ldcS (q := 201) C 30 (by decide) rfl rfl dX9_aBridge_199 rfl ?_
                        refine z_bipush (q := 203) C (8 : Int32) dX9_aBridge_201 kb_8 rfl ?_
                        refine z_callVi (q := 206) (As := [.ref (gS G 30), .int (8 : Int32)]) C (fun o ho => m_X9_wantWord _ _ _ _ ho) zk9 vvX9_220 cdX9_wantWord pnX9 dX9_aBridge_203 rfl (by decide) (Nat.le_of_ble_eq_true rfl) hf rfl fun v17 σ hf => ?_
                        refine z_ifeq (q := 209) (tgt := 223) C dX9_aBridge_206 (by decide) rfl hf (fun c206 hf => ?_) (fun c206 hf => ?_)
                        · refine z_lv [] rfl ?_
                          exact j223_0  σ hf
                        · refine z_aload_n (q := 210) (i := 0) C 1 dX9_aBridge_209 rfl rfl rfl ?_
                          refine z_iload_n (q := 211) (i := 1) C 2 dX9_aBridge_210 rfl rfl rfl ?_
                          refine z_iconst (q := 212) C (3 : Int32) dX9_aBridge_211 ki_3 rfl ?_
                          refine z_iadd (q := 213) C dX9_aBridge_212 rfl ?_
                          refine z_iconst (q := 214) C (0 : Int32) dX9_aBridge_213 ki_0 rfl ?_
                          refine z_sipush (q := 217) C (999 : Int32) dX9_aBridge_214 ks_999 rfl ?_
                          refine z_callVi (q := 220) (As := [.int (((1734 : Int32) + ((9 : Int32) * v2)) + (3 : Int32)), .int (0 : Int32), .int (999 : Int32)]) C (fun o ho => m_X9_number _ _ _ _ _ ho) zk9 vvX9_227 cdX9_number pnX9 dX9_aBridge_217 rfl (by decide) (Nat.le_of_ble_eq_true rfl) hf rfl fun v18 σ hf => ?_
                          refine z_ifne (q := 223) (tgt := 225) C dX9_aBridge_220 (by decide) rfl hf (fun c220 hf => ?_) (fun c220 hf => ?_)
                          · refine z_iconst (q := 226) C (4 : Int32) dX9_aBridge_225 ki_4 rfl ?_
                            refine z_istore_n (q := 227) (i := 3) (lv' := [(3, .int (4 : Int32)), (2, .int v11), (0, .ref a0), (1, .int ((1734 : Int32) + ((9 : Int32) * v2)))]) C dX9_aBridge_226 rfl (by decide) rfl rfl ?_
                            refine z_lv [2, 3, 0] rfl ?_
                            obtain ⟨r1, hr1, hk1⟩ := Option.bind_eq_some_iff.mp hf
                            refine loopC_ind (P := fun s => ZW l G 6 X (ZQ G X (.returned (some (.int out.1))) out.2) s.2 227 [(0, .ref a0), (1, .int ((1734 : Int32) + ((9 : Int32) * v2))), (3, .int s.1)] []) (fun s x1 hf hx1 => ?_) hr1
                            obtain ⟨i_19, σ⟩ := s
                            unfold f_X9_aBridge_L227 at hf
                            try dsimp only at hf
                            try dsimp only
                            have j324_1 : ∀ (i3_324 : Int32) (σ : ZT), f_X9_aBridge_J324_227 a0 ((1734 : Int32) + ((9 : Int32) * v2)) i3_324 σ = some x1 → ZW l G 6 X (ZQ G X (.returned (some (.int out.1))) out.2) σ 324 [(0, .ref a0), (1, .int ((1734 : Int32) + ((9 : Int32) * v2))), (3, .int i3_324)] [] := by
                              intro i3_324 σ hf
                              unfold f_X9_aBridge_J324_227 at hf
                              refine z_iinc (q := 327) (i := 3) (lv' := [(3, .int (i3_324 + (1 : Int32))), (0, .ref a0), (1, .int ((1734 : Int32) + ((9 : Int32) * v2)))]) C 2 (i3_324 + (1 : Int32)) dX9_aBridge_324 rfl (kn_1 _) (by decide) rfl rfl ?_
                              refine z_goto (q := 227) C dX9_aBridge_327 (by decide) ?_
                              refine z_lv [1, 2, 0] rfl ?_
                              have hc1 := zl_c hf hx1
                              exact hc1
                            have j306_1 : ∀ (i3_306 : Int32) (i4_306 : Int32) (w0_306 : Int32) (σ : ZT), f_X9_aBridge_J306_227 a0 ((1734 : Int32) + ((9 : Int32) * v2)) i3_306 i4_306 w0_306 σ = some x1 → ZW l G 6 X (ZQ G X (.returned (some (.int out.1))) out.2) σ 306 [(0, .ref a0), (1, .int ((1734 : Int32) + ((9 : Int32) * v2))), (3, .int i3_306), (4, .int i4_306)] [.int w0_306] := by
                              intro i3_306 i4_306 w0_306 σ hf
                              unfold f_X9_aBridge_J306_227 at hf
                              refine z_istore (q := 308) (i := 5) (lv' := [(5, .int w0_306), (0, .ref a0), (1, .int ((1734 : Int32) + ((9 : Int32) * v2))), (3, .int i3_306), (4, .int i4_306)]) C dX9_aBridge_306 (by decide) rfl rfl ?_
                              refine z_aload_n (q := 309) (i := 0) C 1 dX9_aBridge_308 rfl rfl rfl ?_
                              refine z_iload_n (q := 310) (i := 1) C 2 dX9_aBridge_309 rfl rfl rfl ?_
                              refine z_iload_n (q := 311) (i := 3) C 3 dX9_aBridge_310 rfl rfl rfl ?_
                              refine z_iadd (q := 312) C dX9_aBridge_311 rfl ?_
                              refine z_iload (q := 314) (i := 4) C 4 dX9_aBridge_312 rfl rfl ?_
                              refine z_iload (q := 316) (i := 5) C 0 dX9_aBridge_314 rfl rfl ?_
                              refine z_callVi (q := 319) (As := [.int (((1734 : Int32) + ((9 : Int32) * v2)) + i3_306), .int i4_306, .int w0_306]) C (fun o ho => m_X9_number _ _ _ _ _ ho) zk9 vvX9_227 cdX9_number pnX9 dX9_aBridge_316 rfl (by decide) (Nat.le_of_ble_eq_true rfl) hf rfl fun v24 σ hf => ?_
                              refine z_ifne (q := 322) (tgt := 324) C dX9_aBridge_319 (by decide) rfl hf (fun c319 hf => ?_) (fun c319 hf => ?_)
                              · refine z_lv [1, 2, 3] rfl ?_
                                exact j324_1 i3_306 σ hf
                              · refine z_iconst (q := 323) C (0 : Int32) dX9_aBridge_322 ki_0 rfl ?_
                                have e1 := zl_x hf hx1
                                have hf := hk1
                                rw [← e1] at hf
                                try dsimp only at hf
                                exact z_zreturn C rfl z_nb0 dX9_aBridge_323 (Option.some.inj hf)
                            have j271_1 : ∀ (i3_271 : Int32) (w0_271 : Int32) (σ : ZT), f_X9_aBridge_J271_227 a0 ((1734 : Int32) + ((9 : Int32) * v2)) i3_271 w0_271 σ = some x1 → ZW l G 6 X (ZQ G X (.returned (some (.int out.1))) out.2) σ 271 [(0, .ref a0), (1, .int ((1734 : Int32) + ((9 : Int32) * v2))), (3, .int i3_271)] [.int w0_271] := by
                              intro i3_271 w0_271 σ hf
                              unfold f_X9_aBridge_J271_227 at hf
                              refine z_istore (q := 273) (i := 4) (lv' := [(4, .int w0_271), (0, .ref a0), (1, .int ((1734 : Int32) + ((9 : Int32) * v2))), (3, .int i3_271)]) C dX9_aBridge_271 (by decide) rfl rfl ?_
                              refine z_iload_n (q := 274) (i := 3) C 3 dX9_aBridge_273 rfl rfl rfl ?_
                              refine z_iconst (q := 275) C (4 : Int32) dX9_aBridge_274 ki_4 rfl ?_
                              refine z_icmpne (q := 278) (tgt := 282) C dX9_aBridge_275 (by decide) rfl hf (fun c275 hf => ?_) (fun c275 hf => ?_)
                              · refine z_iload_n (q := 283) (i := 3) C 3 dX9_aBridge_282 rfl rfl rfl ?_
                                refine z_iconst (q := 284) C (5 : Int32) dX9_aBridge_283 ki_5 rfl ?_
                                refine z_icmpne (q := 287) (tgt := 293) C dX9_aBridge_284 (by decide) rfl hf (fun c284 hf => ?_) (fun c284 hf => ?_)
                                · refine z_iload_n (q := 294) (i := 3) C 3 dX9_aBridge_293 rfl rfl rfl ?_
                                  refine z_bipush (q := 296) C (8 : Int32) dX9_aBridge_294 kb_8 rfl ?_
                                  refine z_icmpne (q := 299) (tgt := 304) C dX9_aBridge_296 (by decide) rfl hf (fun c296 hf => ?_) (fun c296 hf => ?_)
                                  · refine z_bipush (q := 306) C (99 : Int32) dX9_aBridge_304 kb_99 rfl ?_
                                    refine z_lv [1, 2, 3, 0] rfl ?_
                                    exact j306_1 i3_271 w0_271 (99 : Int32) σ hf
                                  · refine z_bipush (q := 301) C (15 : Int32) dX9_aBridge_299 kb_15 rfl ?_
                                    refine z_goto (q := 306) C dX9_aBridge_301 (by decide) ?_
                                    refine z_lv [1, 2, 3, 0] rfl ?_
                                    exact j306_1 i3_271 w0_271 (15 : Int32) σ hf
                                · refine z_sipush (q := 290) C (9999 : Int32) dX9_aBridge_287 ks_9999 rfl ?_
                                  refine z_goto (q := 306) C dX9_aBridge_290 (by decide) ?_
                                  refine z_lv [1, 2, 3, 0] rfl ?_
                                  exact j306_1 i3_271 w0_271 (9999 : Int32) σ hf
                              · refine z_iconst (q := 279) C (3 : Int32) dX9_aBridge_278 ki_3 rfl ?_
                                refine z_goto (q := 306) C dX9_aBridge_279 (by decide) ?_
                                refine z_lv [1, 2, 3, 0] rfl ?_
                                exact j306_1 i3_271 w0_271 (3 : Int32) σ hf
                            have j266_1 : ∀ (i3_266 : Int32) (σ : ZT), f_X9_aBridge_J266_227 a0 ((1734 : Int32) + ((9 : Int32) * v2)) i3_266 σ = some x1 → ZW l G 6 X (ZQ G X (.returned (some (.int out.1))) out.2) σ 266 [(0, .ref a0), (1, .int ((1734 : Int32) + ((9 : Int32) * v2))), (3, .int i3_266)] [] := by
                              intro i3_266 σ hf
                              unfold f_X9_aBridge_J266_227 at hf
                              refine z_iconst (q := 267) C (1 : Int32) dX9_aBridge_266 ki_1 rfl ?_
                              refine z_goto (q := 271) C dX9_aBridge_267 (by decide) ?_
                              exact j271_1 i3_266 (1 : Int32) σ hf
                            refine z_iload_n (q := 228) (i := 3) C 2 dX9_aBridge_227 rfl rfl rfl ?_
                            refine z_bipush (q := 230) C (8 : Int32) dX9_aBridge_228 kb_8 rfl ?_
                            refine z_icmpgt (q := 233) (tgt := 330) C dX9_aBridge_230 (by decide) rfl hf (fun c230 hf => ?_) (fun c230 hf => ?_)
                            · have e1 := zl_x hf hx1
                              have hf := hk1
                              rw [← e1] at hf
                              try dsimp only at hf
                              refine z_aload_n (q := 331) (i := 0) C 0 dX9_aBridge_330 rfl rfl rfl ?_
                              refine z_getR (q := 334) C flX9_7 dX9_aBridge_331 hf rfl fun v20 hf => ?_
                              refine z_sipush (q := 337) C (1721 : Int32) dX9_aBridge_334 ks_1721 rfl ?_
                              refine z_dup2 (q := 338) C dX9_aBridge_337 rfl rfl rfl ?_
                              refine z_iald (q := 339) C dX9_aBridge_338 hf rfl fun v21 hf => ?_
                              refine z_iconst (q := 340) C (1 : Int32) dX9_aBridge_339 ki_1 rfl ?_
                              refine z_iadd (q := 341) C dX9_aBridge_340 rfl ?_
                              refine z_iast (q := 342) C dX9_aBridge_341 hf rfl fun σ hf => ?_
                              refine z_iconst (q := 343) C (1 : Int32) dX9_aBridge_342 ki_1 rfl ?_
                              exact z_zreturn C rfl z_nb1 dX9_aBridge_343 (Option.some.inj hf)
                            · refine z_aload_n (q := 234) (i := 0) C 0 dX9_aBridge_233 rfl rfl rfl ?_
                              refine z_ldcS (q := 236) C 30 (by decide) rfl rfl dX9_aBridge_234 rfl ?_
                              refine z_callVi (q := 239) (As := [.ref (gS G 30)]) C (fun o ho => m_X9_inWords _ _ _ ho) zk9 vvX9_189 cdX9_inWords pnX9 dX9_aBridge_236 rfl (by decide) (Nat.le_of_ble_eq_true rfl) hf rfl fun v22 σ hf => ?_
                              refine z_bipush (q := 241) C (9 : Int32) dX9_aBridge_239 kb_9 rfl ?_
                              refine z_iload_n (q := 242) (i := 3) C 2 dX9_aBridge_241 rfl rfl rfl ?_
                              refine z_iadd (q := 243) C dX9_aBridge_242 rfl ?_
                              refine z_iconst (q := 244) C (4 : Int32) dX9_aBridge_243 ki_4 rfl ?_
                              refine z_isub (q := 245) C dX9_aBridge_244 rfl ?_
                              refine z_icmpeq (q := 248) (tgt := 251) C dX9_aBridge_245 (by decide) rfl hf (fun c245 hf => ?_) (fun c245 hf => ?_)
                              · refine z_aload_n (q := 252) (i := 0) C 0 dX9_aBridge_251 rfl rfl rfl ?_
                                refine z_callVv (q := 255) (As := []) C (fun o ho => m_X9_ahead _ _ ho) zk9 vvX9_180 cdX9_ahead pnX9 dX9_aBridge_252 rfl (by decide) (Nat.le_of_ble_eq_true rfl) hf rfl fun σ hf => ?_
                                refine z_iload_n (q := 256) (i := 3) C 2 dX9_aBridge_255 rfl rfl rfl ?_
                                refine z_iconst (q := 257) C (4 : Int32) dX9_aBridge_256 ki_4 rfl ?_
                                refine z_icmpeq (q := 260) (tgt := 266) C dX9_aBridge_257 (by decide) rfl hf (fun c257 hf => ?_) (fun c257 hf => ?_)
                                · exact j266_1 i_19 σ hf
                                · refine z_iload_n (q := 261) (i := 3) C 2 dX9_aBridge_260 rfl rfl rfl ?_
                                  refine z_bipush (q := 263) C (7 : Int32) dX9_aBridge_261 kb_7 rfl ?_
                                  refine z_icmpne (q := 266) (tgt := 270) C dX9_aBridge_263 (by decide) rfl hf (fun c263 hf => ?_) (fun c263 hf => ?_)
                                  · refine z_iconst (q := 271) C (0 : Int32) dX9_aBridge_270 ki_0 rfl ?_
                                    exact j271_1 i_19 (0 : Int32) σ hf
                                  · exact j266_1 i_19 σ hf
                              · refine z_goto (q := 324) C dX9_aBridge_248 (by decide) ?_
                                exact j324_1 i_19 σ hf
                          · refine z_lv [] rfl ?_
                            exact j223_0  σ hf
                · refine z_aload_n (q := 162) (i := 0) C 1 dX9_aBridge_161 rfl rfl rfl ?_
                  refine z_iconst (q := 163) C (5 : Int32) dX9_aBridge_162 ki_5 rfl ?_
                  refine z_callVi (q := 166) (As := [.int (5 : Int32)]) C (fun o ho => m_X9_fails _ _ _ ho) zk9 vvX9_186 cdX9_fails pnX9 dX9_aBridge_163 rfl (by decide) (Nat.le_of_ble_eq_true rfl) hf rfl fun v25 σ hf => ?_
                  refine z_rz C hf fun hn hf => ?_
                  exact z_zreturn C rfl hn dX9_aBridge_166 (Option.some.inj hf)
              · refine z_aload_n (q := 146) (i := 0) C 1 dX9_aBridge_145 rfl rfl rfl ?_
                refine z_iconst (q := 147) C (3 : Int32) dX9_aBridge_146 ki_3 rfl ?_
                refine z_callVi (q := 150) (As := [.int (3 : Int32)]) C (fun o ho => m_X9_fails _ _ _ ho) zk9 vvX9_186 cdX9_fails pnX9 dX9_aBridge_147 rfl (by decide) (Nat.le_of_ble_eq_true rfl) hf rfl fun v27 σ hf => ?_
                refine z_rz C hf fun hn hf => ?_
                exact z_zreturn C rfl hn dX9_aBridge_150 (Option.some.inj hf)
            · refine z_aload_n (q := 120) (i := 0) C 0 dX9_aBridge_119 rfl rfl rfl ?_
              refine z_iconst (q := 121) C (2 : Int32) dX9_aBridge_120 ki_2 rfl ?_
              refine z_callVi (q := 124) (As := [.int (2 : Int32)]) C (fun o ho => m_X9_fails _ _ _ ho) zk9 vvX9_186 cdX9_fails pnX9 dX9_aBridge_121 rfl (by decide) (Nat.le_of_ble_eq_true rfl) hf rfl fun v29 σ hf => ?_
              refine z_rz C hf fun hn hf => ?_
              exact z_zreturn C rfl hn dX9_aBridge_124 (Option.some.inj hf)
          · refine z_lv [] rfl ?_
            exact j108_0  σ hf
    · refine z_aload_n (q := 39) (i := 0) C 0 dX9_aBridge_38 rfl rfl rfl ?_
      refine z_getR (q := 42) C flX9_7 dX9_aBridge_39 hf rfl fun v31 hf => ?_
      refine z_iload_n (q := 43) (i := 1) C 1 dX9_aBridge_42 rfl rfl rfl ?_
      refine z_iload_n (q := 44) (i := 2) C 2 dX9_aBridge_43 rfl rfl rfl ?_
      refine z_iadd (q := 45) C dX9_aBridge_44 rfl ?_
      refine z_iload_n (q := 46) (i := 2) C 2 dX9_aBridge_45 rfl rfl rfl ?_
      refine z_iconst (q := 47) C (5 : Int32) dX9_aBridge_46 ki_5 rfl ?_
      refine z_icmpne (q := 50) (tgt := 56) C dX9_aBridge_47 (by decide) rfl hf (fun c47 hf => ?_) (fun c47 hf => ?_)
      · refine z_iload_n (q := 57) (i := 2) C 2 dX9_aBridge_56 rfl rfl rfl ?_
        refine z_iconst (q := 58) C (4 : Int32) dX9_aBridge_57 ki_4 rfl ?_
        refine z_icmpeq (q := 61) (tgt := 67) C dX9_aBridge_58 (by decide) rfl hf (fun c58 hf => ?_) (fun c58 hf => ?_)
        · exact j67_1 i_4 (((1734 : Int32) + ((9 : Int32) * v2)) + i_4) v31 σ hf
        · refine z_iload_n (q := 62) (i := 2) C 2 dX9_aBridge_61 rfl rfl rfl ?_
          refine z_bipush (q := 64) C (7 : Int32) dX9_aBridge_62 kb_7 rfl ?_
          refine z_icmpne (q := 67) (tgt := 71) C dX9_aBridge_64 (by decide) rfl hf (fun c64 hf => ?_) (fun c64 hf => ?_)
          · refine z_iconst (q := 72) C (0 : Int32) dX9_aBridge_71 ki_0 rfl ?_
            exact j72_1 i_4 (0 : Int32) (((1734 : Int32) + ((9 : Int32) * v2)) + i_4) v31 σ hf
          · exact j67_1 i_4 (((1734 : Int32) + ((9 : Int32) * v2)) + i_4) v31 σ hf
      · refine z_sipush (q := 53) C (9999 : Int32) dX9_aBridge_50 ks_9999 rfl ?_
        refine z_goto (q := 72) C dX9_aBridge_53 (by decide) ?_
        exact j72_1 i_4 (9999 : Int32) (((1734 : Int32) + ((9 : Int32) * v2)) + i_4) v31 σ hf
  · refine z_iconst (q := 29) C (0 : Int32) dX9_aBridge_28 ki_0 rfl ?_
    exact z_zreturn C rfl z_nb0 dX9_aBridge_29 (Option.some.inj hf)

noncomputable def f_X9_aPerson_J99  (σ : ZT) : Option (Int32 × ZT) :=
  some ((0 : Int32), σ)
noncomputable def f_X9_aPerson_J183 (a0_183 : Nat) (σ : ZT) : Option (Int32 × ZT) :=
  (gR 9 900 a0_183 σ).bind fun v20 =>
  (ldI 0 v20 (1722 : Int32) σ).bind fun v21 =>
  (stI v20 (1722 : Int32) (v21 + (1 : Int32)) σ).bind fun σ =>
  some ((1 : Int32), σ)
noncomputable def f_X9_aPerson_J159 (a0_159 : Nat) (i1_159 : Int32) (σ : ZT) : Option (Int32 × ZT) :=
  bnd2 (vc 9 a0_159 σ (f_X9_inWords a0_159 30 σ)) fun v17 σ =>
  if v17 = (18 : Int32) then
  ((gR 9 900 a0_159 σ).bind fun v18 =>
  (stI v18 (i1_159 + (4 : Int32)) (1 : Int32) σ).bind fun σ =>
  (vc 9 a0_159 σ (f_X9_ahead a0_159 σ)).bind fun σ =>
  f_X9_aPerson_J183 a0_159 σ)
  else
  (f_X9_aPerson_J183 a0_159 σ)
noncomputable def f_X9_aPerson_J128 (a0_128 : Nat) (i1_128 : Int32) (σ : ZT) : Option (Int32 × ZT) :=
  bnd2 (vc 9 a0_128 σ (f_X9_inWords a0_128 30 σ)) fun v14 σ =>
  if v14 = (17 : Int32) then
  ((vc 9 a0_128 σ (f_X9_ahead a0_128 σ)).bind fun σ =>
  bnd2 (vc 9 a0_128 σ (f_X9_number a0_128 (i1_128 + (3 : Int32)) (0 : Int32) (999 : Int32) σ)) fun v16 σ =>
  if v16 = 0 then
  (some ((0 : Int32), σ))
  else
  (f_X9_aPerson_J159 a0_128 i1_128 σ))
  else
  (f_X9_aPerson_J159 a0_128 i1_128 σ)
noncomputable def f_X9_aPerson (a0 : Nat) (σ : ZT) : Option (Int32 × ZT) :=
  (gR 9 900 a0 σ).bind fun v1 =>
  (ldI 0 v1 (1722 : Int32) σ).bind fun v2 =>
  bnd2 (vc 9 a0 σ (f_X9_newOne a0 (2 : Int32) (4 : Int32) (14 : Int32) σ)) fun v3 σ =>
  if v3 = 0 then
  (some ((0 : Int32), σ))
  else
  ((gR 9 900 a0 σ).bind fun v4 =>
  (stI v4 (((1806 : Int32) + ((5 : Int32) * v2)) + (2 : Int32)) (-1 : Int32) σ).bind fun σ =>
  (gR 9 900 a0 σ).bind fun v5 =>
  (stI v5 (((1806 : Int32) + ((5 : Int32) * v2)) + (3 : Int32)) (0 : Int32) σ).bind fun σ =>
  (gR 9 900 a0 σ).bind fun v6 =>
  (stI v6 (((1806 : Int32) + ((5 : Int32) * v2)) + (4 : Int32)) (0 : Int32) σ).bind fun σ =>
  bnd2 (vc 9 a0 σ (f_X9_wantWord a0 30 (14 : Int32) σ)) fun v7 σ =>
  if v7 = 0 then
  (f_X9_aPerson_J99  σ)
  else
  (bnd2 (vc 9 a0 σ (f_X9_number a0 ((1806 : Int32) + ((5 : Int32) * v2)) (1 : Int32) (999 : Int32) σ)) fun v8 σ =>
  if v8 = 0 then
  (f_X9_aPerson_J99  σ)
  else
  (bnd2 (vc 9 a0 σ (f_X9_wantWord a0 30 (15 : Int32) σ)) fun v9 σ =>
  if v9 = 0 then
  (f_X9_aPerson_J99  σ)
  else
  (bnd2 (vc 9 a0 σ (f_X9_aPlaceTo a0 (((1806 : Int32) + ((5 : Int32) * v2)) + (1 : Int32)) σ)) fun v10 σ =>
  if v10 = 0 then
  (f_X9_aPerson_J99  σ)
  else
  (bnd2 (vc 9 a0 σ (f_X9_inWords a0 30 σ)) fun v11 σ =>
  if v11 = (16 : Int32) then
  ((vc 9 a0 σ (f_X9_ahead a0 σ)).bind fun σ =>
  bnd2 (vc 9 a0 σ (f_X9_aPlaceTo a0 (((1806 : Int32) + ((5 : Int32) * v2)) + (2 : Int32)) σ)) fun v13 σ =>
  if v13 = 0 then
  (some ((0 : Int32), σ))
  else
  (f_X9_aPerson_J128 a0 ((1806 : Int32) + ((5 : Int32) * v2)) σ))
  else
  (f_X9_aPerson_J128 a0 ((1806 : Int32) + ((5 : Int32) * v2)) σ))))))
set_option maxHeartbeats 4000000 in
theorem m_X9_aPerson {l : Launch} {G : ZG} (a0 : Nat) (σ : ZT) {out : (Int32 × ZT)} (hf : f_X9_aPerson a0 σ = some out) : ZM l G yX9_aPerson cX9_aPerson 2 (some .boolean) [] 10 [.ref a0] σ (.returned (some (.int out.1))) out.2 := by
  refine ZM.of [(0, .ref a0)] rfl (Nat.le_of_ble_eq_true rfl) fun X (C : ZC G RX9 "aPerson" cX9_aPerson 2 (some .boolean) [] X 10) => ?_
  unfold f_X9_aPerson at hf
  have j183_0 : ∀ (a0_183 : Nat) (σ : ZT), f_X9_aPerson_J183 a0_183 σ = some out → ZW l G 2 X (ZQ G X (.returned (some (.int out.1))) out.2) σ 183 [(0, .ref a0_183)] [] := by
    intro a0_183 σ hf
    unfold f_X9_aPerson_J183 at hf
    refine z_aload_n (q := 184) (i := 0) C 0 dX9_aPerson_183 rfl rfl rfl ?_
    refine z_getR (q := 187) C flX9_7 dX9_aPerson_184 hf rfl fun v20 hf => ?_
    refine z_sipush (q := 190) C (1722 : Int32) dX9_aPerson_187 ks_1722 rfl ?_
    refine z_dup2 (q := 191) C dX9_aPerson_190 rfl rfl rfl ?_
    refine z_iald (q := 192) C dX9_aPerson_191 hf rfl fun v21 hf => ?_
    refine z_iconst (q := 193) C (1 : Int32) dX9_aPerson_192 ki_1 rfl ?_
    refine z_iadd (q := 194) C dX9_aPerson_193 rfl ?_
    refine z_iast (q := 195) C dX9_aPerson_194 hf rfl fun σ hf => ?_
    refine z_iconst (q := 196) C (1 : Int32) dX9_aPerson_195 ki_1 rfl ?_
    exact z_zreturn C rfl z_nb1 dX9_aPerson_196 (Option.some.inj hf)
  have j159_0 : ∀ (a0_159 : Nat) (i1_159 : Int32) (σ : ZT), f_X9_aPerson_J159 a0_159 i1_159 σ = some out → ZW l G 2 X (ZQ G X (.returned (some (.int out.1))) out.2) σ 159 [(0, .ref a0_159), (1, .int i1_159)] [] := by
    intro a0_159 i1_159 σ hf
    unfold f_X9_aPerson_J159 at hf
    refine z_aload_n (q := 160) (i := 0) C 0 dX9_aPerson_159 rfl rfl rfl ?_
    refine z_ldcS (q := 162) C 30 (by decide) rfl rfl dX9_aPerson_160 rfl ?_
    refine z_callVi (q := 165) (As := [.ref (gS G 30)]) C (fun o ho => m_X9_inWords _ _ _ ho) zk9 vvX9_189 cdX9_inWords pnX9 dX9_aPerson_162 rfl (by decide) (Nat.le_of_ble_eq_true rfl) hf rfl fun v17 σ hf => ?_
    refine z_bipush (q := 167) C (18 : Int32) dX9_aPerson_165 kb_18 rfl ?_
    refine z_icmpne (q := 170) (tgt := 183) C dX9_aPerson_167 (by decide) rfl hf (fun c167 hf => ?_) (fun c167 hf => ?_)
    · refine z_lv [0] rfl ?_
      exact j183_0 a0_159 σ hf
    · refine z_aload_n (q := 171) (i := 0) C 0 dX9_aPerson_170 rfl rfl rfl ?_
      refine z_getR (q := 174) C flX9_7 dX9_aPerson_171 hf rfl fun v18 hf => ?_
      refine z_iload_n (q := 175) (i := 1) C 1 dX9_aPerson_174 rfl rfl rfl ?_
      refine z_iconst (q := 176) C (4 : Int32) dX9_aPerson_175 ki_4 rfl ?_
      refine z_iadd (q := 177) C dX9_aPerson_176 rfl ?_
      refine z_iconst (q := 178) C (1 : Int32) dX9_aPerson_177 ki_1 rfl ?_
      refine z_iast (q := 179) C dX9_aPerson_178 hf rfl fun σ hf => ?_
      refine z_aload_n (q := 180) (i := 0) C 0 dX9_aPerson_179 rfl rfl rfl ?_
      refine z_callVv (q := 183) (As := []) C (fun o ho => m_X9_ahead _ _ ho) zk9 vvX9_180 cdX9_ahead pnX9 dX9_aPerson_180 rfl (by decide) (Nat.le_of_ble_eq_true rfl) hf rfl fun σ hf => ?_
      refine z_lv [0] rfl ?_
      exact j183_0 a0_159 σ hf
  have j128_0 : ∀ (a0_128 : Nat) (i1_128 : Int32) (σ : ZT), f_X9_aPerson_J128 a0_128 i1_128 σ = some out → ZW l G 2 X (ZQ G X (.returned (some (.int out.1))) out.2) σ 128 [(0, .ref a0_128), (1, .int i1_128)] [] := by
    intro a0_128 i1_128 σ hf
    unfold f_X9_aPerson_J128 at hf
    refine z_aload_n (q := 129) (i := 0) C 0 dX9_aPerson_128 rfl rfl rfl ?_
    refine z_ldcS (q := 131) C 30 (by decide) rfl rfl dX9_aPerson_129 rfl ?_
    refine z_callVi (q := 134) (As := [.ref (gS G 30)]) C (fun o ho => m_X9_inWords _ _ _ ho) zk9 vvX9_189 cdX9_inWords pnX9 dX9_aPerson_131 rfl (by decide) (Nat.le_of_ble_eq_true rfl) hf rfl fun v14 σ hf => ?_
    refine z_bipush (q := 136) C (17 : Int32) dX9_aPerson_134 kb_17 rfl ?_
    refine z_icmpne (q := 139) (tgt := 159) C dX9_aPerson_136 (by decide) rfl hf (fun c136 hf => ?_) (fun c136 hf => ?_)
    · exact j159_0 a0_128 i1_128 σ hf
    · refine z_aload_n (q := 140) (i := 0) C 0 dX9_aPerson_139 rfl rfl rfl ?_
      refine z_callVv (q := 143) (As := []) C (fun o ho => m_X9_ahead _ _ ho) zk9 vvX9_180 cdX9_ahead pnX9 dX9_aPerson_140 rfl (by decide) (Nat.le_of_ble_eq_true rfl) hf rfl fun σ hf => ?_
      refine z_aload_n (q := 144) (i := 0) C 0 dX9_aPerson_143 rfl rfl rfl ?_
      refine z_iload_n (q := 145) (i := 1) C 1 dX9_aPerson_144 rfl rfl rfl ?_
      refine z_iconst (q := 146) C (3 : Int32) dX9_aPerson_145 ki_3 rfl ?_
      refine z_iadd (q := 147) C dX9_aPerson_146 rfl ?_
      refine z_iconst (q := 148) C (0 : Int32) dX9_aPerson_147 ki_0 rfl ?_
      refine z_sipush (q := 151) C (999 : Int32) dX9_aPerson_148 ks_999 rfl ?_
      refine z_callVi (q := 154) (As := [.int (i1_128 + (3 : Int32)), .int (0 : Int32), .int (999 : Int32)]) C (fun o ho => m_X9_number _ _ _ _ _ ho) zk9 vvX9_227 cdX9_number pnX9 dX9_aPerson_151 rfl (by decide) (Nat.le_of_ble_eq_true rfl) hf rfl fun v16 σ hf => ?_
      refine z_ifne (q := 157) (tgt := 159) C dX9_aPerson_154 (by decide) rfl hf (fun c154 hf => ?_) (fun c154 hf => ?_)
      · exact j159_0 a0_128 i1_128 σ hf
      · refine z_iconst (q := 158) C (0 : Int32) dX9_aPerson_157 ki_0 rfl ?_
        exact z_zreturn C rfl z_nb0 dX9_aPerson_158 (Option.some.inj hf)
  have j99_0 : ∀  (σ : ZT), f_X9_aPerson_J99  σ = some out → ZW l G 2 X (ZQ G X (.returned (some (.int out.1))) out.2) σ 99 [] [] := by
    intro  σ hf
    unfold f_X9_aPerson_J99 at hf
    refine z_iconst (q := 100) C (0 : Int32) dX9_aPerson_99 ki_0 rfl ?_
    exact z_zreturn C rfl z_nb0 dX9_aPerson_100 (Option.some.inj hf)
  refine z_sipush (q := 3) C (1806 : Int32) dX9_aPerson_0 ks_1806 rfl ?_
  refine z_iconst (q := 4) C (5 : Int32) dX9_aPerson_3 ki_5 rfl ?_
  refine z_aload_n (q := 5) (i := 0) C 0 dX9_aPerson_4 rfl rfl rfl ?_
  refine z_getR (q := 8) C flX9_7 dX9_aPerson_5 hf rfl fun v1 hf => ?_
  refine z_sipush (q := 11) C (1722 : Int32) dX9_aPerson_8 ks_1722 rfl ?_
  refine z_iald (q := 12) C dX9_aPerson_11 hf rfl fun v2 hf => ?_
  refine z_imul (q := 13) C dX9_aPerson_12 rfl ?_
  refine z_iadd (q := 14) C dX9_aPerson_13 rfl ?_
  refine z_istore_n (q := 15) (i := 1) (lv' := [(1, .int ((1806 : Int32) + ((5 : Int32) * v2))), (0, .ref a0)]) C dX9_aPerson_14 rfl (by decide) rfl rfl ?_
  refine z_aload_n (q := 16) (i := 0) C 1 dX9_aPerson_15 rfl rfl rfl ?_
  refine z_iconst (q := 17) C (2 : Int32) dX9_aPerson_16 ki_2 rfl ?_
  refine z_iconst (q := 18) C (4 : Int32) dX9_aPerson_17 ki_4 rfl ?_
  refine z_bipush (q := 20) C (14 : Int32) dX9_aPerson_18 kb_14 rfl ?_
  refine z_callVi (q := 23) (As := [.int (2 : Int32), .int (4 : Int32), .int (14 : Int32)]) C (fun o ho => m_X9_newOne _ _ _ _ _ ho) zk9 vvX9_217 cdX9_newOne pnX9 dX9_aPerson_20 rfl (by decide) (Nat.le_of_ble_eq_true rfl) hf rfl fun v3 σ hf => ?_
  refine z_ifne (q := 26) (tgt := 28) C dX9_aPerson_23 (by decide) rfl hf (fun c23 hf => ?_) (fun c23 hf => ?_)
  · refine z_aload_n (q := 29) (i := 0) C 1 dX9_aPerson_28 rfl rfl rfl ?_
    refine z_getR (q := 32) C flX9_7 dX9_aPerson_29 hf rfl fun v4 hf => ?_
    refine z_iload_n (q := 33) (i := 1) C 0 dX9_aPerson_32 rfl rfl rfl ?_
    refine z_iconst (q := 34) C (2 : Int32) dX9_aPerson_33 ki_2 rfl ?_
    refine z_iadd (q := 35) C dX9_aPerson_34 rfl ?_
    refine z_iconst (q := 36) C (-1 : Int32) dX9_aPerson_35 ki_m1 rfl ?_
    refine z_iast (q := 37) C dX9_aPerson_36 hf rfl fun σ hf => ?_
    refine z_aload_n (q := 38) (i := 0) C 1 dX9_aPerson_37 rfl rfl rfl ?_
    refine z_getR (q := 41) C flX9_7 dX9_aPerson_38 hf rfl fun v5 hf => ?_
    refine z_iload_n (q := 42) (i := 1) C 0 dX9_aPerson_41 rfl rfl rfl ?_
    refine z_iconst (q := 43) C (3 : Int32) dX9_aPerson_42 ki_3 rfl ?_
    refine z_iadd (q := 44) C dX9_aPerson_43 rfl ?_
    refine z_iconst (q := 45) C (0 : Int32) dX9_aPerson_44 ki_0 rfl ?_
    refine z_iast (q := 46) C dX9_aPerson_45 hf rfl fun σ hf => ?_
    refine z_aload_n (q := 47) (i := 0) C 1 dX9_aPerson_46 rfl rfl rfl ?_
    refine z_getR (q := 50) C flX9_7 dX9_aPerson_47 hf rfl fun v6 hf => ?_
    refine z_iload_n (q := 51) (i := 1) C 0 dX9_aPerson_50 rfl rfl rfl ?_
    refine z_iconst (q := 52) C (4 : Int32) dX9_aPerson_51 ki_4 rfl ?_
    refine z_iadd (q := 53) C dX9_aPerson_52 rfl ?_
    refine z_iconst (q := 54) C (0 : Int32) dX9_aPerson_53 ki_0 rfl ?_
    refine z_iast (q := 55) C dX9_aPerson_54 hf rfl fun σ hf => ?_
    refine z_aload_n (q := 56) (i := 0) C 1 dX9_aPerson_55 rfl rfl rfl ?_
    refine z_ldcS (q := 58) C 30 (by decide) rfl rfl dX9_aPerson_56 rfl ?_
    refine z_bipush (q := 60) C (14 : Int32) dX9_aPerson_58 kb_14 rfl ?_
    refine z_callVi (q := 63) (As := [.ref (gS G 30), .int (14 : Int32)]) C (fun o ho => m_X9_wantWord _ _ _ _ ho) zk9 vvX9_220 cdX9_wantWord pnX9 dX9_aPerson_60 rfl (by decide) (Nat.le_of_ble_eq_true rfl) hf rfl fun v7 σ hf => ?_
    refine z_ifeq (q := 66) (tgt := 99) C dX9_aPerson_63 (by decide) rfl hf (fun c63 hf => ?_) (fun c63 hf => ?_)
    · refine z_lv [] rfl ?_
      exact j99_0  σ hf
    · refine z_aload_n (q := 67) (i := 0) C 1 dX9_aPerson_66 rfl rfl rfl ?_
      refine z_iload_n (q := 68) (i := 1) C 0 dX9_aPerson_67 rfl rfl rfl ?_
      refine z_iconst (q := 69) C (1 : Int32) dX9_aPerson_68 ki_1 rfl ?_
      refine z_sipush (q := 72) C (999 : Int32) dX9_aPerson_69 ks_999 rfl ?_
      refine z_callVi (q := 75) (As := [.int ((1806 : Int32) + ((5 : Int32) * v2)), .int (1 : Int32), .int (999 : Int32)]) C (fun o ho => m_X9_number _ _ _ _ _ ho) zk9 vvX9_227 cdX9_number pnX9 dX9_aPerson_72 rfl (by decide) (Nat.le_of_ble_eq_true rfl) hf rfl fun v8 σ hf => ?_
      refine z_ifeq (q := 78) (tgt := 99) C dX9_aPerson_75 (by decide) rfl hf (fun c75 hf => ?_) (fun c75 hf => ?_)
      · refine z_lv [] rfl ?_
        exact j99_0  σ hf
      · refine z_aload_n (q := 79) (i := 0) C 1 dX9_aPerson_78 rfl rfl rfl ?_
        refine z_ldcS (q := 81) C 30 (by decide) rfl rfl dX9_aPerson_79 rfl ?_
        refine z_bipush (q := 83) C (15 : Int32) dX9_aPerson_81 kb_15 rfl ?_
        refine z_callVi (q := 86) (As := [.ref (gS G 30), .int (15 : Int32)]) C (fun o ho => m_X9_wantWord _ _ _ _ ho) zk9 vvX9_220 cdX9_wantWord pnX9 dX9_aPerson_83 rfl (by decide) (Nat.le_of_ble_eq_true rfl) hf rfl fun v9 σ hf => ?_
        refine z_ifeq (q := 89) (tgt := 99) C dX9_aPerson_86 (by decide) rfl hf (fun c86 hf => ?_) (fun c86 hf => ?_)
        · refine z_lv [] rfl ?_
          exact j99_0  σ hf
        · refine z_aload_n (q := 90) (i := 0) C 1 dX9_aPerson_89 rfl rfl rfl ?_
          refine z_iload_n (q := 91) (i := 1) C 0 dX9_aPerson_90 rfl rfl rfl ?_
          refine z_iconst (q := 92) C (1 : Int32) dX9_aPerson_91 ki_1 rfl ?_
          refine z_iadd (q := 93) C dX9_aPerson_92 rfl ?_
          refine z_callVi (q := 96) (As := [.int (((1806 : Int32) + ((5 : Int32) * v2)) + (1 : Int32))]) C (fun o ho => m_X9_aPlaceTo _ _ _ ho) zk9 vvX9_224 cdX9_aPlaceTo pnX9 dX9_aPerson_93 rfl (by decide) (Nat.le_of_ble_eq_true rfl) hf rfl fun v10 σ hf => ?_
          refine z_ifne (q := 99) (tgt := 101) C dX9_aPerson_96 (by decide) rfl hf (fun c96 hf => ?_) (fun c96 hf => ?_)
          · refine z_aload_n (q := 102) (i := 0) C 1 dX9_aPerson_101 rfl rfl rfl ?_
            refine z_ldcS (q := 104) C 30 (by decide) rfl rfl dX9_aPerson_102 rfl ?_
            refine z_callVi (q := 107) (As := [.ref (gS G 30)]) C (fun o ho => m_X9_inWords _ _ _ ho) zk9 vvX9_189 cdX9_inWords pnX9 dX9_aPerson_104 rfl (by decide) (Nat.le_of_ble_eq_true rfl) hf rfl fun v11 σ hf => ?_
            refine z_bipush (q := 109) C (16 : Int32) dX9_aPerson_107 kb_16 rfl ?_
            refine z_icmpne (q := 112) (tgt := 128) C dX9_aPerson_109 (by decide) rfl hf (fun c109 hf => ?_) (fun c109 hf => ?_)
            · refine z_lv [1, 0] rfl ?_
              exact j128_0 a0 ((1806 : Int32) + ((5 : Int32) * v2)) σ hf
            · refine z_aload_n (q := 113) (i := 0) C 1 dX9_aPerson_112 rfl rfl rfl ?_
              refine z_callVv (q := 116) (As := []) C (fun o ho => m_X9_ahead _ _ ho) zk9 vvX9_180 cdX9_ahead pnX9 dX9_aPerson_113 rfl (by decide) (Nat.le_of_ble_eq_true rfl) hf rfl fun σ hf => ?_
              refine z_aload_n (q := 117) (i := 0) C 1 dX9_aPerson_116 rfl rfl rfl ?_
              refine z_iload_n (q := 118) (i := 1) C 0 dX9_aPerson_117 rfl rfl rfl ?_
              refine z_iconst (q := 119) C (2 : Int32) dX9_aPerson_118 ki_2 rfl ?_
              refine z_iadd (q := 120) C dX9_aPerson_119 rfl ?_
              refine z_callVi (q := 123) (As := [.int (((1806 : Int32) + ((5 : Int32) * v2)) + (2 : Int32))]) C (fun o ho => m_X9_aPlaceTo _ _ _ ho) zk9 vvX9_224 cdX9_aPlaceTo pnX9 dX9_aPerson_120 rfl (by decide) (Nat.le_of_ble_eq_true rfl) hf rfl fun v13 σ hf => ?_
              refine z_ifne (q := 126) (tgt := 128) C dX9_aPerson_123 (by decide) rfl hf (fun c123 hf => ?_) (fun c123 hf => ?_)
              · refine z_lv [1, 0] rfl ?_
                exact j128_0 a0 ((1806 : Int32) + ((5 : Int32) * v2)) σ hf
              · refine z_iconst (q := 127) C (0 : Int32) dX9_aPerson_126 ki_0 rfl ?_
                exact z_zreturn C rfl z_nb0 dX9_aPerson_127 (Option.some.inj hf)
          · refine z_lv [] rfl ?_
            exact j99_0  σ hf
  · refine z_iconst (q := 27) C (0 : Int32) dX9_aPerson_26 ki_0 rfl ?_
    exact z_zreturn C rfl z_nb0 dX9_aPerson_27 (Option.some.inj hf)

noncomputable def f_X9_aLoad_J72  (σ : ZT) : Option (Int32 × ZT) :=
  some ((0 : Int32), σ)
noncomputable def f_X9_aLoad (a0 : Nat) (σ : ZT) : Option (Int32 × ZT) :=
  (gR 9 900 a0 σ).bind fun v1 =>
  (ldI 0 v1 (1723 : Int32) σ).bind fun v2 =>
  bnd2 (vc 9 a0 σ (f_X9_newOne a0 (3 : Int32) (2 : Int32) (18 : Int32) σ)) fun v3 σ =>
  if v3 = 0 then
  (some ((0 : Int32), σ))
  else
  (bnd2 (vc 9 a0 σ (f_X9_wantWord a0 30 (14 : Int32) σ)) fun v4 σ =>
  if v4 = 0 then
  (f_X9_aLoad_J72  σ)
  else
  (bnd2 (vc 9 a0 σ (f_X9_number a0 ((1826 : Int32) + ((2 : Int32) * v2)) (1 : Int32) (999 : Int32) σ)) fun v5 σ =>
  if v5 = 0 then
  (f_X9_aLoad_J72  σ)
  else
  (bnd2 (vc 9 a0 σ (f_X9_wantWord a0 30 (15 : Int32) σ)) fun v6 σ =>
  if v6 = 0 then
  (f_X9_aLoad_J72  σ)
  else
  (bnd2 (vc 9 a0 σ (f_X9_aPlaceTo a0 (((1826 : Int32) + ((2 : Int32) * v2)) + (1 : Int32)) σ)) fun v7 σ =>
  if v7 = 0 then
  (f_X9_aLoad_J72  σ)
  else
  ((gR 9 900 a0 σ).bind fun v8 =>
  (ldI 0 v8 (1723 : Int32) σ).bind fun v9 =>
  (stI v8 (1723 : Int32) (v9 + (1 : Int32)) σ).bind fun σ =>
  some ((1 : Int32), σ))))))
set_option maxHeartbeats 4000000 in
theorem m_X9_aLoad {l : Launch} {G : ZG} (a0 : Nat) (σ : ZT) {out : (Int32 × ZT)} (hf : f_X9_aLoad a0 σ = some out) : ZM l G yX9_aLoad cX9_aLoad 2 (some .boolean) [] 10 [.ref a0] σ (.returned (some (.int out.1))) out.2 := by
  refine ZM.of [(0, .ref a0)] rfl (Nat.le_of_ble_eq_true rfl) fun X (C : ZC G RX9 "aLoad" cX9_aLoad 2 (some .boolean) [] X 10) => ?_
  unfold f_X9_aLoad at hf
  have j72_0 : ∀  (σ : ZT), f_X9_aLoad_J72  σ = some out → ZW l G 2 X (ZQ G X (.returned (some (.int out.1))) out.2) σ 72 [] [] := by
    intro  σ hf
    unfold f_X9_aLoad_J72 at hf
    refine z_iconst (q := 73) C (0 : Int32) dX9_aLoad_72 ki_0 rfl ?_
    exact z_zreturn C rfl z_nb0 dX9_aLoad_73 (Option.some.inj hf)
  refine z_sipush (q := 3) C (1826 : Int32) dX9_aLoad_0 ks_1826 rfl ?_
  refine z_iconst (q := 4) C (2 : Int32) dX9_aLoad_3 ki_2 rfl ?_
  refine z_aload_n (q := 5) (i := 0) C 0 dX9_aLoad_4 rfl rfl rfl ?_
  refine z_getR (q := 8) C flX9_7 dX9_aLoad_5 hf rfl fun v1 hf => ?_
  refine z_sipush (q := 11) C (1723 : Int32) dX9_aLoad_8 ks_1723 rfl ?_
  refine z_iald (q := 12) C dX9_aLoad_11 hf rfl fun v2 hf => ?_
  refine z_imul (q := 13) C dX9_aLoad_12 rfl ?_
  refine z_iadd (q := 14) C dX9_aLoad_13 rfl ?_
  refine z_istore_n (q := 15) (i := 1) (lv' := [(1, .int ((1826 : Int32) + ((2 : Int32) * v2))), (0, .ref a0)]) C dX9_aLoad_14 rfl (by decide) rfl rfl ?_
  refine z_aload_n (q := 16) (i := 0) C 1 dX9_aLoad_15 rfl rfl rfl ?_
  refine z_iconst (q := 17) C (3 : Int32) dX9_aLoad_16 ki_3 rfl ?_
  refine z_iconst (q := 18) C (2 : Int32) dX9_aLoad_17 ki_2 rfl ?_
  refine z_bipush (q := 20) C (18 : Int32) dX9_aLoad_18 kb_18 rfl ?_
  refine z_callVi (q := 23) (As := [.int (3 : Int32), .int (2 : Int32), .int (18 : Int32)]) C (fun o ho => m_X9_newOne _ _ _ _ _ ho) zk9 vvX9_217 cdX9_newOne pnX9 dX9_aLoad_20 rfl (by decide) (Nat.le_of_ble_eq_true rfl) hf rfl fun v3 σ hf => ?_
  refine z_ifne (q := 26) (tgt := 28) C dX9_aLoad_23 (by decide) rfl hf (fun c23 hf => ?_) (fun c23 hf => ?_)
  · refine z_aload_n (q := 29) (i := 0) C 1 dX9_aLoad_28 rfl rfl rfl ?_
    refine z_ldcS (q := 31) C 30 (by decide) rfl rfl dX9_aLoad_29 rfl ?_
    refine z_bipush (q := 33) C (14 : Int32) dX9_aLoad_31 kb_14 rfl ?_
    refine z_callVi (q := 36) (As := [.ref (gS G 30), .int (14 : Int32)]) C (fun o ho => m_X9_wantWord _ _ _ _ ho) zk9 vvX9_220 cdX9_wantWord pnX9 dX9_aLoad_33 rfl (by decide) (Nat.le_of_ble_eq_true rfl) hf rfl fun v4 σ hf => ?_
    refine z_ifeq (q := 39) (tgt := 72) C dX9_aLoad_36 (by decide) rfl hf (fun c36 hf => ?_) (fun c36 hf => ?_)
    · refine z_lv [] rfl ?_
      exact j72_0  σ hf
    · refine z_aload_n (q := 40) (i := 0) C 1 dX9_aLoad_39 rfl rfl rfl ?_
      refine z_iload_n (q := 41) (i := 1) C 0 dX9_aLoad_40 rfl rfl rfl ?_
      refine z_iconst (q := 42) C (1 : Int32) dX9_aLoad_41 ki_1 rfl ?_
      refine z_sipush (q := 45) C (999 : Int32) dX9_aLoad_42 ks_999 rfl ?_
      refine z_callVi (q := 48) (As := [.int ((1826 : Int32) + ((2 : Int32) * v2)), .int (1 : Int32), .int (999 : Int32)]) C (fun o ho => m_X9_number _ _ _ _ _ ho) zk9 vvX9_227 cdX9_number pnX9 dX9_aLoad_45 rfl (by decide) (Nat.le_of_ble_eq_true rfl) hf rfl fun v5 σ hf => ?_
      refine z_ifeq (q := 51) (tgt := 72) C dX9_aLoad_48 (by decide) rfl hf (fun c48 hf => ?_) (fun c48 hf => ?_)
      · refine z_lv [] rfl ?_
        exact j72_0  σ hf
      · refine z_aload_n (q := 52) (i := 0) C 1 dX9_aLoad_51 rfl rfl rfl ?_
        refine z_ldcS (q := 54) C 30 (by decide) rfl rfl dX9_aLoad_52 rfl ?_
        refine z_bipush (q := 56) C (15 : Int32) dX9_aLoad_54 kb_15 rfl ?_
        refine z_callVi (q := 59) (As := [.ref (gS G 30), .int (15 : Int32)]) C (fun o ho => m_X9_wantWord _ _ _ _ ho) zk9 vvX9_220 cdX9_wantWord pnX9 dX9_aLoad_56 rfl (by decide) (Nat.le_of_ble_eq_true rfl) hf rfl fun v6 σ hf => ?_
        refine z_ifeq (q := 62) (tgt := 72) C dX9_aLoad_59 (by decide) rfl hf (fun c59 hf => ?_) (fun c59 hf => ?_)
        · refine z_lv [] rfl ?_
          exact j72_0  σ hf
        · refine z_aload_n (q := 63) (i := 0) C 1 dX9_aLoad_62 rfl rfl rfl ?_
          refine z_iload_n (q := 64) (i := 1) C 0 dX9_aLoad_63 rfl rfl rfl ?_
          refine z_iconst (q := 65) C (1 : Int32) dX9_aLoad_64 ki_1 rfl ?_
          refine z_iadd (q := 66) C dX9_aLoad_65 rfl ?_
          refine z_callVi (q := 69) (As := [.int (((1826 : Int32) + ((2 : Int32) * v2)) + (1 : Int32))]) C (fun o ho => m_X9_aPlaceTo _ _ _ ho) zk9 vvX9_224 cdX9_aPlaceTo pnX9 dX9_aLoad_66 rfl (by decide) (Nat.le_of_ble_eq_true rfl) hf rfl fun v7 σ hf => ?_
          refine z_ifne (q := 72) (tgt := 74) C dX9_aLoad_69 (by decide) rfl hf (fun c69 hf => ?_) (fun c69 hf => ?_)
          · refine z_aload_n (q := 75) (i := 0) C 1 dX9_aLoad_74 rfl rfl rfl ?_
            refine z_getR (q := 78) C flX9_7 dX9_aLoad_75 hf rfl fun v8 hf => ?_
            refine z_sipush (q := 81) C (1723 : Int32) dX9_aLoad_78 ks_1723 rfl ?_
            refine z_dup2 (q := 82) C dX9_aLoad_81 rfl rfl rfl ?_
            refine z_iald (q := 83) C dX9_aLoad_82 hf rfl fun v9 hf => ?_
            refine z_iconst (q := 84) C (1 : Int32) dX9_aLoad_83 ki_1 rfl ?_
            refine z_iadd (q := 85) C dX9_aLoad_84 rfl ?_
            refine z_iast (q := 86) C dX9_aLoad_85 hf rfl fun σ hf => ?_
            refine z_iconst (q := 87) C (1 : Int32) dX9_aLoad_86 ki_1 rfl ?_
            exact z_zreturn C rfl z_nb1 dX9_aLoad_87 (Option.some.inj hf)
          · refine z_lv [] rfl ?_
            exact j72_0  σ hf
  · refine z_iconst (q := 27) C (0 : Int32) dX9_aLoad_26 ki_0 rfl ?_
    exact z_zreturn C rfl z_nb0 dX9_aLoad_27 (Option.some.inj hf)

noncomputable def f_X9_aStone_J29  (σ : ZT) : Option (Int32 × ZT) :=
  some ((0 : Int32), σ)
noncomputable def f_X9_aStone (a0 : Nat) (σ : ZT) : Option (Int32 × ZT) :=
  (vc 9 a0 σ (f_X9_ahead a0 σ)).bind fun σ =>
  bnd2 (vc 9 a0 σ (f_X9_number a0 (2149 : Int32) (0 : Int32) (999 : Int32) σ)) fun v2 σ =>
  if v2 = 0 then
  (f_X9_aStone_J29  σ)
  else
  (bnd2 (vc 9 a0 σ (f_X9_wantWord a0 30 (15 : Int32) σ)) fun v3 σ =>
  if v3 = 0 then
  (f_X9_aStone_J29  σ)
  else
  ((gR 9 900 a0 σ).bind fun v4 =>
  (ldI 0 v4 (1720 : Int32) σ).bind fun v5 =>
  bnd2 (vc 9 a0 σ (f_X9_oldOne a0 (80 : Int32) v5 (0 : Int32) σ)) fun v6 σ =>
  if v6 = 0 then
  (some ((0 : Int32), σ))
  else
  ((gR 9 900 a0 σ).bind fun v7 =>
  (gI 9 920 a0 σ).bind fun v8 =>
  (ldI 0 v7 ((1728 : Int32) + v8) σ).bind fun v9 =>
  (gR 9 900 a0 σ).bind fun v10 =>
  (ldI 0 v10 (2149 : Int32) σ).bind fun v11 =>
  (stI v7 ((1728 : Int32) + v8) (v9 + v11) σ).bind fun σ =>
  some ((1 : Int32), σ))))
set_option maxHeartbeats 4000000 in
theorem m_X9_aStone {l : Launch} {G : ZG} (a0 : Nat) (σ : ZT) {out : (Int32 × ZT)} (hf : f_X9_aStone a0 σ = some out) : ZM l G yX9_aStone cX9_aStone 1 (some .boolean) [] 9 [.ref a0] σ (.returned (some (.int out.1))) out.2 := by
  refine ZM.of [(0, .ref a0)] rfl (Nat.le_of_ble_eq_true rfl) fun X (C : ZC G RX9 "aStone" cX9_aStone 1 (some .boolean) [] X 9) => ?_
  unfold f_X9_aStone at hf
  have j29_0 : ∀  (σ : ZT), f_X9_aStone_J29  σ = some out → ZW l G 1 X (ZQ G X (.returned (some (.int out.1))) out.2) σ 29 [] [] := by
    intro  σ hf
    unfold f_X9_aStone_J29 at hf
    refine z_iconst (q := 30) C (0 : Int32) dX9_aStone_29 ki_0 rfl ?_
    exact z_zreturn C rfl z_nb0 dX9_aStone_30 (Option.some.inj hf)
  refine z_aload_n (q := 1) (i := 0) C 0 dX9_aStone_0 rfl rfl rfl ?_
  refine z_callVv (q := 4) (As := []) C (fun o ho => m_X9_ahead _ _ ho) zk9 vvX9_180 cdX9_ahead pnX9 dX9_aStone_1 rfl (by decide) (Nat.le_of_ble_eq_true rfl) hf rfl fun σ hf => ?_
  refine z_aload_n (q := 5) (i := 0) C 0 dX9_aStone_4 rfl rfl rfl ?_
  refine z_sipush (q := 8) C (2149 : Int32) dX9_aStone_5 ks_2149 rfl ?_
  refine z_iconst (q := 9) C (0 : Int32) dX9_aStone_8 ki_0 rfl ?_
  refine z_sipush (q := 12) C (999 : Int32) dX9_aStone_9 ks_999 rfl ?_
  refine z_callVi (q := 15) (As := [.int (2149 : Int32), .int (0 : Int32), .int (999 : Int32)]) C (fun o ho => m_X9_number _ _ _ _ _ ho) zk9 vvX9_227 cdX9_number pnX9 dX9_aStone_12 rfl (by decide) (Nat.le_of_ble_eq_true rfl) hf rfl fun v2 σ hf => ?_
  refine z_ifeq (q := 18) (tgt := 29) C dX9_aStone_15 (by decide) rfl hf (fun c15 hf => ?_) (fun c15 hf => ?_)
  · refine z_lv [] rfl ?_
    exact j29_0  σ hf
  · refine z_aload_n (q := 19) (i := 0) C 0 dX9_aStone_18 rfl rfl rfl ?_
    refine z_ldcS (q := 21) C 30 (by decide) rfl rfl dX9_aStone_19 rfl ?_
    refine z_bipush (q := 23) C (15 : Int32) dX9_aStone_21 kb_15 rfl ?_
    refine z_callVi (q := 26) (As := [.ref (gS G 30), .int (15 : Int32)]) C (fun o ho => m_X9_wantWord _ _ _ _ ho) zk9 vvX9_220 cdX9_wantWord pnX9 dX9_aStone_23 rfl (by decide) (Nat.le_of_ble_eq_true rfl) hf rfl fun v3 σ hf => ?_
    refine z_ifne (q := 29) (tgt := 31) C dX9_aStone_26 (by decide) rfl hf (fun c26 hf => ?_) (fun c26 hf => ?_)
    · refine z_aload_n (q := 32) (i := 0) C 0 dX9_aStone_31 rfl rfl rfl ?_
      refine z_bipush (q := 34) C (80 : Int32) dX9_aStone_32 kb_80 rfl ?_
      refine z_aload_n (q := 35) (i := 0) C 0 dX9_aStone_34 rfl rfl rfl ?_
      refine z_getR (q := 38) C flX9_7 dX9_aStone_35 hf rfl fun v4 hf => ?_
      refine z_sipush (q := 41) C (1720 : Int32) dX9_aStone_38 ks_1720 rfl ?_
      refine z_iald (q := 42) C dX9_aStone_41 hf rfl fun v5 hf => ?_
      refine z_iconst (q := 43) C (0 : Int32) dX9_aStone_42 ki_0 rfl ?_
      refine z_callVi (q := 46) (As := [.int (80 : Int32), .int v5, .int (0 : Int32)]) C (fun o ho => m_X9_oldOne _ _ _ _ _ ho) zk9 vvX9_213 cdX9_oldOne pnX9 dX9_aStone_43 rfl (by decide) (Nat.le_of_ble_eq_true rfl) hf rfl fun v6 σ hf => ?_
      refine z_ifne (q := 49) (tgt := 51) C dX9_aStone_46 (by decide) rfl hf (fun c46 hf => ?_) (fun c46 hf => ?_)
      · refine z_aload_n (q := 52) (i := 0) C 0 dX9_aStone_51 rfl rfl rfl ?_
        refine z_getR (q := 55) C flX9_7 dX9_aStone_52 hf rfl fun v7 hf => ?_
        refine z_sipush (q := 58) C (1728 : Int32) dX9_aStone_55 ks_1728 rfl ?_
        refine z_aload_n (q := 59) (i := 0) C 0 dX9_aStone_58 rfl rfl rfl ?_
        refine z_getI (q := 62) C flX9_210 dX9_aStone_59 hf rfl fun v8 hf => ?_
        refine z_iadd (q := 63) C dX9_aStone_62 rfl ?_
        refine z_dup2 (q := 64) C dX9_aStone_63 rfl rfl rfl ?_
        refine z_iald (q := 65) C dX9_aStone_64 hf rfl fun v9 hf => ?_
        refine z_aload_n (q := 66) (i := 0) C 0 dX9_aStone_65 rfl rfl rfl ?_
        refine z_getR (q := 69) C flX9_7 dX9_aStone_66 hf rfl fun v10 hf => ?_
        refine z_sipush (q := 72) C (2149 : Int32) dX9_aStone_69 ks_2149 rfl ?_
        refine z_iald (q := 73) C dX9_aStone_72 hf rfl fun v11 hf => ?_
        refine z_iadd (q := 74) C dX9_aStone_73 rfl ?_
        refine z_iast (q := 75) C dX9_aStone_74 hf rfl fun σ hf => ?_
        refine z_iconst (q := 76) C (1 : Int32) dX9_aStone_75 ki_1 rfl ?_
        exact z_zreturn C rfl z_nb1 dX9_aStone_76 (Option.some.inj hf)
      · refine z_iconst (q := 50) C (0 : Int32) dX9_aStone_49 ki_0 rfl ?_
        exact z_zreturn C rfl z_nb0 dX9_aStone_50 (Option.some.inj hf)
    · refine z_lv [] rfl ?_
      exact j29_0  σ hf

noncomputable def f_X9_isSign_J21 (w0_21 : Int32) (σ : ZT) : Option (Int32 × ZT) :=
  (rz w0_21).bind fun z3 =>
  some (z3, σ)
noncomputable def f_X9_isSign_J20  (σ : ZT) : Option (Int32 × ZT) :=
  f_X9_isSign_J21 (0 : Int32) σ
noncomputable def f_X9_isSign (a0 : Nat) (i1 : Int32) (σ : ZT) : Option (Int32 × ZT) :=
  (gI 9 912 a0 σ).bind fun v1 =>
  if v1 = (4 : Int32) then
  ((gI 9 915 a0 σ).bind fun v2 =>
  if v2 = i1 then
  (f_X9_isSign_J21 (1 : Int32) σ)
  else
  (f_X9_isSign_J20  σ))
  else
  (f_X9_isSign_J20  σ)
set_option maxHeartbeats 4000000 in
theorem m_X9_isSign {l : Launch} {G : ZG} (a0 : Nat) (i1 : Int32) (σ : ZT) {out : (Int32 × ZT)} (hf : f_X9_isSign a0 i1 σ = some out) : ZM l G yX9_isSign cX9_isSign 2 (some .boolean) [] 1 [.ref a0, .int i1] σ (.returned (some (.int out.1))) out.2 := by
  refine ZM.of [(0, .ref a0), (1, .int i1)] rfl (Nat.le_of_ble_eq_true rfl) fun X (C : ZC G RX9 "isSign" cX9_isSign 2 (some .boolean) [] X 1) => ?_
  unfold f_X9_isSign at hf
  have j21_0 : ∀ (w0_21 : Int32) (σ : ZT), f_X9_isSign_J21 w0_21 σ = some out → ZW l G 2 X (ZQ G X (.returned (some (.int out.1))) out.2) σ 21 [] [.int w0_21] := by
    intro w0_21 σ hf
    unfold f_X9_isSign_J21 at hf
    refine z_rz C hf fun hn hf => ?_
    exact z_zreturn C rfl hn dX9_isSign_21 (Option.some.inj hf)
  have j20_0 : ∀  (σ : ZT), f_X9_isSign_J20  σ = some out → ZW l G 2 X (ZQ G X (.returned (some (.int out.1))) out.2) σ 20 [] [] := by
    intro  σ hf
    unfold f_X9_isSign_J20 at hf
    refine z_iconst (q := 21) C (0 : Int32) dX9_isSign_20 ki_0 rfl ?_
    exact j21_0 (0 : Int32) σ hf
  refine z_aload_n (q := 1) (i := 0) C 0 dX9_isSign_0 rfl rfl rfl ?_
  refine z_getI (q := 4) C flX9_149 dX9_isSign_1 hf rfl fun v1 hf => ?_
  refine z_iconst (q := 5) C (4 : Int32) dX9_isSign_4 ki_4 rfl ?_
  refine z_icmpne (q := 8) (tgt := 20) C dX9_isSign_5 (by decide) rfl hf (fun c5 hf => ?_) (fun c5 hf => ?_)
  · refine z_lv [] rfl ?_
    exact j20_0  σ hf
  · refine z_aload_n (q := 9) (i := 0) C 0 dX9_isSign_8 rfl rfl rfl ?_
    refine z_getI (q := 12) C flX9_146 dX9_isSign_9 hf rfl fun v2 hf => ?_
    refine z_iload_n (q := 13) (i := 1) C 1 dX9_isSign_12 rfl rfl rfl ?_
    refine z_icmpne (q := 16) (tgt := 20) C dX9_isSign_13 (by decide) rfl hf (fun c13 hf => ?_) (fun c13 hf => ?_)
    · refine z_lv [] rfl ?_
      exact j20_0  σ hf
    · refine z_iconst (q := 17) C (1 : Int32) dX9_isSign_16 ki_1 rfl ?_
      refine z_goto (q := 21) C dX9_isSign_17 (by decide) ?_
      refine z_lv [] rfl ?_
      exact j21_0 (1 : Int32) σ hf

noncomputable def f_X9_wantSign (a0 : Nat) (i1 : Int32) (σ : ZT) : Option (Int32 × ZT) :=
  bnd2 (vc 9 a0 σ (f_X9_isSign a0 i1 σ)) fun v1 σ =>
  if v1 = 0 then
  (bnd2 (vc 9 a0 σ (f_X9_fails a0 (2 : Int32) σ)) fun v3 σ =>
  (rz v3).bind fun z4 =>
  some (z4, σ))
  else
  ((vc 9 a0 σ (f_X9_ahead a0 σ)).bind fun σ =>
  some ((1 : Int32), σ))
set_option maxHeartbeats 4000000 in
theorem m_X9_wantSign {l : Launch} {G : ZG} (a0 : Nat) (i1 : Int32) (σ : ZT) {out : (Int32 × ZT)} (hf : f_X9_wantSign a0 i1 σ = some out) : ZM l G yX9_wantSign cX9_wantSign 2 (some .boolean) [] 7 [.ref a0, .int i1] σ (.returned (some (.int out.1))) out.2 := by
  refine ZM.of [(0, .ref a0), (1, .int i1)] rfl (Nat.le_of_ble_eq_true rfl) fun X (C : ZC G RX9 "wantSign" cX9_wantSign 2 (some .boolean) [] X 7) => ?_
  unfold f_X9_wantSign at hf
  refine z_aload_n (q := 1) (i := 0) C 0 dX9_wantSign_0 rfl rfl rfl ?_
  refine z_iload_n (q := 2) (i := 1) C 1 dX9_wantSign_1 rfl rfl rfl ?_
  refine z_callVi (q := 5) (As := [.int i1]) C (fun o ho => m_X9_isSign _ _ _ ho) zk9 vvX9_183 cdX9_isSign pnX9 dX9_wantSign_2 rfl (by decide) (Nat.le_of_ble_eq_true rfl) hf rfl fun v1 σ hf => ?_
  refine z_ifne (q := 8) (tgt := 14) C dX9_wantSign_5 (by decide) rfl hf (fun c5 hf => ?_) (fun c5 hf => ?_)
  · refine z_aload_n (q := 15) (i := 0) C 0 dX9_wantSign_14 rfl rfl rfl ?_
    refine z_callVv (q := 18) (As := []) C (fun o ho => m_X9_ahead _ _ ho) zk9 vvX9_180 cdX9_ahead pnX9 dX9_wantSign_15 rfl (by decide) (Nat.le_of_ble_eq_true rfl) hf rfl fun σ hf => ?_
    refine z_iconst (q := 19) C (1 : Int32) dX9_wantSign_18 ki_1 rfl ?_
    exact z_zreturn C rfl z_nb1 dX9_wantSign_19 (Option.some.inj hf)
  · refine z_aload_n (q := 9) (i := 0) C 0 dX9_wantSign_8 rfl rfl rfl ?_
    refine z_iconst (q := 10) C (2 : Int32) dX9_wantSign_9 ki_2 rfl ?_
    refine z_callVi (q := 13) (As := [.int (2 : Int32)]) C (fun o ho => m_X9_fails _ _ _ ho) zk9 vvX9_186 cdX9_fails pnX9 dX9_wantSign_10 rfl (by decide) (Nat.le_of_ble_eq_true rfl) hf rfl fun v3 σ hf => ?_
    refine z_rz C hf fun hn hf => ?_
    exact z_zreturn C rfl hn dX9_wantSign_13 (Option.some.inj hf)

noncomputable def f_X9_townPart_J128 (w0_128 : Int32) (σ : ZT) : Option (Int32 × ZT) :=
  (rz w0_128).bind fun z12 =>
  some (z12, σ)
noncomputable def f_X9_townPart_J127  (σ : ZT) : Option (Int32 × ZT) :=
  f_X9_townPart_J128 (0 : Int32) σ
noncomputable def f_X9_townPart_J110 (a0_110 : Nat) (i1_110 : Int32) (σ : ZT) : Option (Int32 × ZT) :=
  if i1_110 = 0 then
  (f_X9_townPart_J127  σ)
  else
  (bnd2 (vc 9 a0_110 σ (f_X9_wantSign a0_110 (59 : Int32) σ)) fun v11 σ =>
  if v11 = 0 then
  (f_X9_townPart_J127  σ)
  else
  (f_X9_townPart_J128 (1 : Int32) σ))
noncomputable def f_X9_townPart_J67 (a0_67 : Nat) (i1_67 : Int32) (w0_67 : Int32) (w1_67 : Int32) (w2_67 : Int32) (w3_67 : Nat) (σ : ZT) : Option (Int32 × ZT) :=
  (stI w3_67 w2_67 (w1_67 + w0_67) σ).bind fun σ =>
  f_X9_townPart_J110 a0_67 i1_67 σ
noncomputable def f_X9_townPart (a0 : Nat) (σ : ZT) : Option (Int32 × ZT) :=
  bnd2 (vc 9 a0 σ (f_X9_inWords a0 30 σ)) fun v1 σ =>
  if v1 = (0 : Int32) then
  (bnd2 (vc 9 a0 σ (f_X9_newOne a0 (0 : Int32) (6 : Int32) (0 : Int32) σ)) fun v2 σ =>
  (gR 9 900 a0 σ).bind fun v3 =>
  (ldI 0 v3 (1720 : Int32) σ).bind fun v4 =>
  if v2 = 0 then
  (f_X9_townPart_J67 a0 v2 (0 : Int32) v4 (1720 : Int32) v3 σ)
  else
  (f_X9_townPart_J67 a0 v2 (1 : Int32) v4 (1720 : Int32) v3 σ))
  else if v1 = (1 : Int32) then
  (bnd2 (vc 9 a0 σ (f_X9_aBridge a0 σ)) fun v5 σ =>
  f_X9_townPart_J110 a0 v5 σ)
  else if v1 = (2 : Int32) then
  (bnd2 (vc 9 a0 σ (f_X9_aPerson a0 σ)) fun v6 σ =>
  f_X9_townPart_J110 a0 v6 σ)
  else if v1 = (3 : Int32) then
  (bnd2 (vc 9 a0 σ (f_X9_aLoad a0 σ)) fun v7 σ =>
  f_X9_townPart_J110 a0 v7 σ)
  else if v1 = (4 : Int32) then
  (bnd2 (vc 9 a0 σ (f_X9_aStone a0 σ)) fun v8 σ =>
  f_X9_townPart_J110 a0 v8 σ)
  else (bnd2 (vc 9 a0 σ (f_X9_fails a0 (2 : Int32) σ)) fun v9 σ =>
  (rz v9).bind fun z10 =>
  some (z10, σ))
set_option maxHeartbeats 4000000 in
theorem m_X9_townPart {l : Launch} {G : ZG} (a0 : Nat) (σ : ZT) {out : (Int32 × ZT)} (hf : f_X9_townPart a0 σ = some out) : ZM l G yX9_townPart cX9_townPart 2 (some .boolean) [] 11 [.ref a0] σ (.returned (some (.int out.1))) out.2 := by
  refine ZM.of [(0, .ref a0)] rfl (Nat.le_of_ble_eq_true rfl) fun X (C : ZC G RX9 "townPart" cX9_townPart 2 (some .boolean) [] X 11) => ?_
  unfold f_X9_townPart at hf
  have j128_0 : ∀ (w0_128 : Int32) (σ : ZT), f_X9_townPart_J128 w0_128 σ = some out → ZW l G 2 X (ZQ G X (.returned (some (.int out.1))) out.2) σ 128 [] [.int w0_128] := by
    intro w0_128 σ hf
    unfold f_X9_townPart_J128 at hf
    refine z_rz C hf fun hn hf => ?_
    exact z_zreturn C rfl hn dX9_townPart_128 (Option.some.inj hf)
  have j127_0 : ∀  (σ : ZT), f_X9_townPart_J127  σ = some out → ZW l G 2 X (ZQ G X (.returned (some (.int out.1))) out.2) σ 127 [] [] := by
    intro  σ hf
    unfold f_X9_townPart_J127 at hf
    refine z_iconst (q := 128) C (0 : Int32) dX9_townPart_127 ki_0 rfl ?_
    exact j128_0 (0 : Int32) σ hf
  have j110_0 : ∀ (a0_110 : Nat) (i1_110 : Int32) (σ : ZT), f_X9_townPart_J110 a0_110 i1_110 σ = some out → ZW l G 2 X (ZQ G X (.returned (some (.int out.1))) out.2) σ 110 [(0, .ref a0_110), (1, .int i1_110)] [] := by
    intro a0_110 i1_110 σ hf
    unfold f_X9_townPart_J110 at hf
    refine z_iload_n (q := 111) (i := 1) C 1 dX9_townPart_110 rfl rfl rfl ?_
    refine z_ifeq (q := 114) (tgt := 127) C dX9_townPart_111 (by decide) rfl hf (fun c111 hf => ?_) (fun c111 hf => ?_)
    · refine z_lv [] rfl ?_
      exact j127_0  σ hf
    · refine z_aload_n (q := 115) (i := 0) C 0 dX9_townPart_114 rfl rfl rfl ?_
      refine z_bipush (q := 117) C (59 : Int32) dX9_townPart_115 kb_59 rfl ?_
      refine z_callVi (q := 120) (As := [.int (59 : Int32)]) C (fun o ho => m_X9_wantSign _ _ _ ho) zk9 vvX9_242 cdX9_wantSign pnX9 dX9_townPart_117 rfl (by decide) (Nat.le_of_ble_eq_true rfl) hf rfl fun v11 σ hf => ?_
      refine z_ifeq (q := 123) (tgt := 127) C dX9_townPart_120 (by decide) rfl hf (fun c120 hf => ?_) (fun c120 hf => ?_)
      · refine z_lv [] rfl ?_
        exact j127_0  σ hf
      · refine z_iconst (q := 124) C (1 : Int32) dX9_townPart_123 ki_1 rfl ?_
        refine z_goto (q := 128) C dX9_townPart_124 (by decide) ?_
        refine z_lv [] rfl ?_
        exact j128_0 (1 : Int32) σ hf
  have j67_0 : ∀ (a0_67 : Nat) (i1_67 : Int32) (w0_67 : Int32) (w1_67 : Int32) (w2_67 : Int32) (w3_67 : Nat) (σ : ZT), f_X9_townPart_J67 a0_67 i1_67 w0_67 w1_67 w2_67 w3_67 σ = some out → ZW l G 2 X (ZQ G X (.returned (some (.int out.1))) out.2) σ 67 [(0, .ref a0_67), (1, .int i1_67)] [.int w0_67, .int w1_67, .int w2_67, .ref w3_67] := by
    intro a0_67 i1_67 w0_67 w1_67 w2_67 w3_67 σ hf
    unfold f_X9_townPart_J67 at hf
    refine z_iadd (q := 68) C dX9_townPart_67 rfl ?_
    refine z_iast (q := 69) C dX9_townPart_68 hf rfl fun σ hf => ?_
    refine z_goto (q := 110) C dX9_townPart_69 (by decide) ?_
    exact j110_0 a0_67 i1_67 σ hf
  refine z_aload_n (q := 1) (i := 0) C 0 dX9_townPart_0 rfl rfl rfl ?_
  refine z_ldcS (q := 3) C 30 (by decide) rfl rfl dX9_townPart_1 rfl ?_
  refine z_callVi (q := 6) (As := [.ref (gS G 30)]) C (fun o ho => m_X9_inWords _ _ _ ho) zk9 vvX9_189 cdX9_inWords pnX9 dX9_townPart_3 rfl (by decide) (Nat.le_of_ble_eq_true rfl) hf rfl fun v1 σ hf => ?_
  by_cases c6_0 : v1 = (0 : Int32)
  · rw [if_pos c6_0] at hf
    refine z_tableIn (tgt := 40) C 0 dX9_townPart_6 (by rw [c6_0]; rfl) (by decide) (by decide) rfl (by decide) ?_
    refine z_aload_n (q := 41) (i := 0) C 0 dX9_townPart_40 rfl rfl rfl ?_
    refine z_iconst (q := 42) C (0 : Int32) dX9_townPart_41 ki_0 rfl ?_
    refine z_bipush (q := 44) C (6 : Int32) dX9_townPart_42 kb_6 rfl ?_
    refine z_iconst (q := 45) C (0 : Int32) dX9_townPart_44 ki_0 rfl ?_
    refine z_callVi (q := 48) (As := [.int (0 : Int32), .int (6 : Int32), .int (0 : Int32)]) C (fun o ho => m_X9_newOne _ _ _ _ _ ho) zk9 vvX9_217 cdX9_newOne pnX9 dX9_townPart_45 rfl (by decide) (Nat.le_of_ble_eq_true rfl) hf rfl fun v2 σ hf => ?_
    refine z_istore_n (q := 49) (i := 1) (lv' := [(1, .int v2), (0, .ref a0)]) C dX9_townPart_48 rfl (by decide) rfl rfl ?_
    refine z_aload_n (q := 50) (i := 0) C 1 dX9_townPart_49 rfl rfl rfl ?_
    refine z_getR (q := 53) C flX9_7 dX9_townPart_50 hf rfl fun v3 hf => ?_
    refine z_sipush (q := 56) C (1720 : Int32) dX9_townPart_53 ks_1720 rfl ?_
    refine z_dup2 (q := 57) C dX9_townPart_56 rfl rfl rfl ?_
    refine z_iald (q := 58) C dX9_townPart_57 hf rfl fun v4 hf => ?_
    refine z_iload_n (q := 59) (i := 1) C 0 dX9_townPart_58 rfl rfl rfl ?_
    refine z_ifeq (q := 62) (tgt := 66) C dX9_townPart_59 (by decide) rfl hf (fun c59 hf => ?_) (fun c59 hf => ?_)
    · refine z_iconst (q := 67) C (0 : Int32) dX9_townPart_66 ki_0 rfl ?_
      refine z_lv [1, 0] rfl ?_
      exact j67_0 a0 v2 (0 : Int32) v4 (1720 : Int32) v3 σ hf
    · refine z_iconst (q := 63) C (1 : Int32) dX9_townPart_62 ki_1 rfl ?_
      refine z_goto (q := 67) C dX9_townPart_63 (by decide) ?_
      refine z_lv [1, 0] rfl ?_
      exact j67_0 a0 v2 (1 : Int32) v4 (1720 : Int32) v3 σ hf
  rw [if_neg c6_0] at hf
  by_cases c6_1 : v1 = (1 : Int32)
  · rw [if_pos c6_1] at hf
    refine z_tableIn (tgt := 72) C 1 dX9_townPart_6 (by rw [c6_1]; rfl) (by decide) (by decide) rfl (by decide) ?_
    refine z_aload_n (q := 73) (i := 0) C 0 dX9_townPart_72 rfl rfl rfl ?_
    refine z_callVi (q := 76) (As := []) C (fun o ho => m_X9_aBridge _ _ ho) zk9 vvX9_230 cdX9_aBridge pnX9 dX9_townPart_73 rfl (by decide) (Nat.le_of_ble_eq_true rfl) hf rfl fun v5 σ hf => ?_
    refine z_istore_n (q := 77) (i := 1) (lv' := [(1, .int v5), (0, .ref a0)]) C dX9_townPart_76 rfl (by decide) rfl rfl ?_
    refine z_goto (q := 110) C dX9_townPart_77 (by decide) ?_
    refine z_lv [1, 0] rfl ?_
    exact j110_0 a0 v5 σ hf
  rw [if_neg c6_1] at hf
  by_cases c6_2 : v1 = (2 : Int32)
  · rw [if_pos c6_2] at hf
    refine z_tableIn (tgt := 80) C 2 dX9_townPart_6 (by rw [c6_2]; rfl) (by decide) (by decide) rfl (by decide) ?_
    refine z_aload_n (q := 81) (i := 0) C 0 dX9_townPart_80 rfl rfl rfl ?_
    refine z_callVi (q := 84) (As := []) C (fun o ho => m_X9_aPerson _ _ ho) zk9 vvX9_233 cdX9_aPerson pnX9 dX9_townPart_81 rfl (by decide) (Nat.le_of_ble_eq_true rfl) hf rfl fun v6 σ hf => ?_
    refine z_istore_n (q := 85) (i := 1) (lv' := [(1, .int v6), (0, .ref a0)]) C dX9_townPart_84 rfl (by decide) rfl rfl ?_
    refine z_goto (q := 110) C dX9_townPart_85 (by decide) ?_
    refine z_lv [1, 0] rfl ?_
    exact j110_0 a0 v6 σ hf
  rw [if_neg c6_2] at hf
  by_cases c6_3 : v1 = (3 : Int32)
  · rw [if_pos c6_3] at hf
    refine z_tableIn (tgt := 88) C 3 dX9_townPart_6 (by rw [c6_3]; rfl) (by decide) (by decide) rfl (by decide) ?_
    refine z_aload_n (q := 89) (i := 0) C 0 dX9_townPart_88 rfl rfl rfl ?_
    refine z_callVi (q := 92) (As := []) C (fun o ho => m_X9_aLoad _ _ ho) zk9 vvX9_236 cdX9_aLoad pnX9 dX9_townPart_89 rfl (by decide) (Nat.le_of_ble_eq_true rfl) hf rfl fun v7 σ hf => ?_
    refine z_istore_n (q := 93) (i := 1) (lv' := [(1, .int v7), (0, .ref a0)]) C dX9_townPart_92 rfl (by decide) rfl rfl ?_
    refine z_goto (q := 110) C dX9_townPart_93 (by decide) ?_
    refine z_lv [1, 0] rfl ?_
    exact j110_0 a0 v7 σ hf
  rw [if_neg c6_3] at hf
  by_cases c6_4 : v1 = (4 : Int32)
  · rw [if_pos c6_4] at hf
    refine z_tableIn (tgt := 96) C 4 dX9_townPart_6 (by rw [c6_4]; rfl) (by decide) (by decide) rfl (by decide) ?_
    refine z_aload_n (q := 97) (i := 0) C 0 dX9_townPart_96 rfl rfl rfl ?_
    refine z_callVi (q := 100) (As := []) C (fun o ho => m_X9_aStone _ _ ho) zk9 vvX9_239 cdX9_aStone pnX9 dX9_townPart_97 rfl (by decide) (Nat.le_of_ble_eq_true rfl) hf rfl fun v8 σ hf => ?_
    refine z_istore_n (q := 101) (i := 1) (lv' := [(1, .int v8), (0, .ref a0)]) C dX9_townPart_100 rfl (by decide) rfl rfl ?_
    refine z_goto (q := 110) C dX9_townPart_101 (by decide) ?_
    refine z_lv [1, 0] rfl ?_
    exact j110_0 a0 v8 σ hf
  rw [if_neg c6_4] at hf
  refine z_tableOut (tgt := 104) C dX9_townPart_6 (by have n0 := lv_neT c6_0 (a := 0) rfl; have n1 := lv_neT c6_1 (a := 1) rfl; have n2 := lv_neT c6_2 (a := 2) rfl; have n3 := lv_neT c6_3 (a := 3) rfl; have n4 := lv_neT c6_4 (a := 4) rfl; omega) (by decide) ?_
  refine z_aload_n (q := 105) (i := 0) C 0 dX9_townPart_104 rfl rfl rfl ?_
  refine z_iconst (q := 106) C (2 : Int32) dX9_townPart_105 ki_2 rfl ?_
  refine z_callVi (q := 109) (As := [.int (2 : Int32)]) C (fun o ho => m_X9_fails _ _ _ ho) zk9 vvX9_186 cdX9_fails pnX9 dX9_townPart_106 rfl (by decide) (Nat.le_of_ble_eq_true rfl) hf rfl fun v9 σ hf => ?_
  refine z_rz C hf fun hn hf => ?_
  exact z_zreturn C rfl hn dX9_townPart_109 (Option.some.inj hf)

noncomputable def f_X9_ofPerson (a0 : Nat) (i1 : Int32) (i2 : Int32) (σ : ZT) : Option (Int32 × ZT) :=
  (gR 9 900 a0 σ).bind fun v1 =>
  (ldI 0 v1 (((86 : Int32) + ((5 : Int32) * i1)) + i2) σ).bind fun v2 =>
  some (v2, σ)
set_option maxHeartbeats 4000000 in
theorem m_X9_ofPerson {l : Launch} {G : ZG} (a0 : Nat) (i1 : Int32) (i2 : Int32) (σ : ZT) {out : (Int32 × ZT)} (hf : f_X9_ofPerson a0 i1 i2 σ = some out) : ZM l G yX9_ofPerson cX9_ofPerson 3 (some .int) [] 1 [.ref a0, .int i1, .int i2] σ (.returned (some (.int out.1))) out.2 := by
  refine ZM.of [(0, .ref a0), (1, .int i1), (2, .int i2)] rfl (Nat.le_of_ble_eq_true rfl) fun X (C : ZC G RX9 "ofPerson" cX9_ofPerson 3 (some .int) [] X 1) => ?_
  unfold f_X9_ofPerson at hf
  refine z_aload_n (q := 1) (i := 0) C 0 dX9_ofPerson_0 rfl rfl rfl ?_
  refine z_getR (q := 4) C flX9_7 dX9_ofPerson_1 hf rfl fun v1 hf => ?_
  refine z_bipush (q := 6) C (86 : Int32) dX9_ofPerson_4 kb_86 rfl ?_
  refine z_iconst (q := 7) C (5 : Int32) dX9_ofPerson_6 ki_5 rfl ?_
  refine z_iload_n (q := 8) (i := 1) C 1 dX9_ofPerson_7 rfl rfl rfl ?_
  refine z_imul (q := 9) C dX9_ofPerson_8 rfl ?_
  refine z_iadd (q := 10) C dX9_ofPerson_9 rfl ?_
  refine z_iload_n (q := 11) (i := 2) C 2 dX9_ofPerson_10 rfl rfl rfl ?_
  refine z_iadd (q := 12) C dX9_ofPerson_11 rfl ?_
  refine z_iald (q := 13) C dX9_ofPerson_12 hf rfl fun v2 hf => ?_
  exact z_ireturn C rfl dX9_ofPerson_13 (Option.some.inj hf)

noncomputable def f_X9_startsOver_L30 (c0_30 : Nat) (i_2 : Int32) (σ : ZT) : Option ((Int32 × ZT) ⊕ ZT) :=
  if i_2 < (2 : Int32) then
  ((gR 9 900 c0_30 σ).bind fun v3 =>
  (gR 9 900 c0_30 σ).bind fun v4 =>
  (ldI 0 v4 (((106 : Int32) + ((2 : Int32) * i_2)) + (1 : Int32)) σ).bind fun v5 =>
  (stI v3 ((114 : Int32) + i_2) v5 σ).bind fun σ =>
  some (.inl ((i_2 + (1 : Int32)), σ)))
  else
  (some (.inr σ))
noncomputable def f_X9_startsOver_L2 (c0_2 : Nat) (i_1 : Int32) (σ : ZT) : Option ((Int32 × ZT) ⊕ ZT) :=
  if i_1 < (4 : Int32) then
  ((gR 9 900 c0_2 σ).bind fun v6 =>
  bnd2 (vc 9 c0_2 σ (f_X9_ofPerson c0_2 i_1 (1 : Int32) σ)) fun v7 σ =>
  (stI v6 ((110 : Int32) + i_1) v7 σ).bind fun σ =>
  some (.inl ((i_1 + (1 : Int32)), σ)))
  else
  (some (.inr σ))
noncomputable def f_X9_startsOver (a0 : Nat) (σ : ZT) : Option ZT :=
  (loopC (fun s : (Int32 × ZT) => f_X9_startsOver_L2 a0 s.1 s.2) ((0 : Int32), σ)).bind fun σ =>
  (loopC (fun s : (Int32 × ZT) => f_X9_startsOver_L30 a0 s.1 s.2) ((0 : Int32), σ)).bind fun σ =>
  some σ
set_option maxHeartbeats 4000000 in
theorem m_X9_startsOver {l : Launch} {G : ZG} (a0 : Nat) (σ : ZT) {out : ZT} (hf : f_X9_startsOver a0 σ = some out) : ZM l G yX9_startsOver cX9_startsOver 2 none [] 2 [.ref a0] σ (.returned none) out := by
  refine ZM.of [(0, .ref a0)] rfl (Nat.le_of_ble_eq_true rfl) fun X (C : ZC G RX9 "startsOver" cX9_startsOver 2 none [] X 2) => ?_
  unfold f_X9_startsOver at hf
  refine z_iconst (q := 1) C (0 : Int32) dX9_startsOver_0 ki_0 rfl ?_
  refine z_istore_n (q := 2) (i := 1) (lv' := [(1, .int (0 : Int32)), (0, .ref a0)]) C dX9_startsOver_1 rfl (by decide) rfl rfl ?_
  refine z_lv [1, 0] rfl ?_
  obtain ⟨r1, hr1, hk1⟩ := Option.bind_eq_some_iff.mp hf
  refine loopC_ind (P := fun s => ZW l G 2 X (ZQ G X (.returned none) out) s.2 2 [(0, .ref a0), (1, .int s.1)] []) (fun s x1 hf hx1 => ?_) hr1
  obtain ⟨i_1, σ⟩ := s
  unfold f_X9_startsOver_L2 at hf
  try dsimp only at hf
  try dsimp only
  refine z_iload_n (q := 3) (i := 1) C 1 dX9_startsOver_2 rfl rfl rfl ?_
  refine z_iconst (q := 4) C (4 : Int32) dX9_startsOver_3 ki_4 rfl ?_
  refine z_icmpge (q := 7) (tgt := 28) C dX9_startsOver_4 (by decide) rfl hf (fun c4 hf => ?_) (fun c4 hf => ?_)
  · have e1 := zl_x hf hx1
    have hf := hk1
    rw [← e1] at hf
    try dsimp only at hf
    refine z_iconst (q := 29) C (0 : Int32) dX9_startsOver_28 ki_0 rfl ?_
    refine z_istore_n (q := 30) (i := 1) (lv' := [(1, .int (0 : Int32)), (0, .ref a0)]) C dX9_startsOver_29 rfl (by decide) rfl rfl ?_
    refine z_lv [1, 0] rfl ?_
    obtain ⟨r1, hr1, hk1⟩ := Option.bind_eq_some_iff.mp hf
    refine loopC_ind (P := fun s => ZW l G 2 X (ZQ G X (.returned none) out) s.2 30 [(0, .ref a0), (1, .int s.1)] []) (fun s x1 hf hx1 => ?_) hr1
    obtain ⟨i_2, σ⟩ := s
    unfold f_X9_startsOver_L30 at hf
    try dsimp only at hf
    try dsimp only
    refine z_iload_n (q := 31) (i := 1) C 1 dX9_startsOver_30 rfl rfl rfl ?_
    refine z_iconst (q := 32) C (2 : Int32) dX9_startsOver_31 ki_2 rfl ?_
    refine z_icmpge (q := 35) (tgt := 63) C dX9_startsOver_32 (by decide) rfl hf (fun c32 hf => ?_) (fun c32 hf => ?_)
    · have e1 := zl_x hf hx1
      have hf := hk1
      rw [← e1] at hf
      try dsimp only at hf
      exact z_return C rfl dX9_startsOver_63 (Option.some.inj hf)
    · refine z_aload_n (q := 36) (i := 0) C 0 dX9_startsOver_35 rfl rfl rfl ?_
      refine z_getR (q := 39) C flX9_7 dX9_startsOver_36 hf rfl fun v3 hf => ?_
      refine z_bipush (q := 41) C (114 : Int32) dX9_startsOver_39 kb_114 rfl ?_
      refine z_iload_n (q := 42) (i := 1) C 1 dX9_startsOver_41 rfl rfl rfl ?_
      refine z_iadd (q := 43) C dX9_startsOver_42 rfl ?_
      refine z_aload_n (q := 44) (i := 0) C 0 dX9_startsOver_43 rfl rfl rfl ?_
      refine z_getR (q := 47) C flX9_7 dX9_startsOver_44 hf rfl fun v4 hf => ?_
      refine z_bipush (q := 49) C (106 : Int32) dX9_startsOver_47 kb_106 rfl ?_
      refine z_iconst (q := 50) C (2 : Int32) dX9_startsOver_49 ki_2 rfl ?_
      refine z_iload_n (q := 51) (i := 1) C 1 dX9_startsOver_50 rfl rfl rfl ?_
      refine z_imul (q := 52) C dX9_startsOver_51 rfl ?_
      refine z_iadd (q := 53) C dX9_startsOver_52 rfl ?_
      refine z_iconst (q := 54) C (1 : Int32) dX9_startsOver_53 ki_1 rfl ?_
      refine z_iadd (q := 55) C dX9_startsOver_54 rfl ?_
      refine z_iald (q := 56) C dX9_startsOver_55 hf rfl fun v5 hf => ?_
      refine z_iast (q := 57) C dX9_startsOver_56 hf rfl fun σ hf => ?_
      refine z_iinc (q := 60) (i := 1) (lv' := [(1, .int (i_2 + (1 : Int32))), (0, .ref a0)]) C 1 (i_2 + (1 : Int32)) dX9_startsOver_57 rfl (kn_1 _) (by decide) rfl rfl ?_
      refine z_goto (q := 30) C dX9_startsOver_60 (by decide) ?_
      refine z_lv [1, 0] rfl ?_
      have hc1 := zl_c hf hx1
      exact hc1
  · refine z_aload_n (q := 8) (i := 0) C 0 dX9_startsOver_7 rfl rfl rfl ?_
    refine z_getR (q := 11) C flX9_7 dX9_startsOver_8 hf rfl fun v6 hf => ?_
    refine z_bipush (q := 13) C (110 : Int32) dX9_startsOver_11 kb_110 rfl ?_
    refine z_iload_n (q := 14) (i := 1) C 1 dX9_startsOver_13 rfl rfl rfl ?_
    refine z_iadd (q := 15) C dX9_startsOver_14 rfl ?_
    refine z_aload_n (q := 16) (i := 0) C 0 dX9_startsOver_15 rfl rfl rfl ?_
    refine z_iload_n (q := 17) (i := 1) C 1 dX9_startsOver_16 rfl rfl rfl ?_
    refine z_iconst (q := 18) C (1 : Int32) dX9_startsOver_17 ki_1 rfl ?_
    refine z_callVi (q := 21) (As := [.int i_1, .int (1 : Int32)]) C (fun o ho => m_X9_ofPerson _ _ _ _ ho) zk9 vvX9_258 cdX9_ofPerson pnX9 dX9_startsOver_18 rfl (by decide) (Nat.le_of_ble_eq_true rfl) hf rfl fun v7 σ hf => ?_
    refine z_iast (q := 22) C dX9_startsOver_21 hf rfl fun σ hf => ?_
    refine z_iinc (q := 25) (i := 1) (lv' := [(1, .int (i_1 + (1 : Int32))), (0, .ref a0)]) C 1 (i_1 + (1 : Int32)) dX9_startsOver_22 rfl (kn_1 _) (by decide) rfl rfl ?_
    refine z_goto (q := 2) C dX9_startsOver_25 (by decide) ?_
    refine z_lv [1, 0] rfl ?_
    have hc1 := zl_c hf hx1
    exact hc1

noncomputable def f_X9_gives (a0 : Nat) (i1 : Int32) (σ : ZT) : Option (Int32 × ZT) :=
  (pI 9 902 a0 (0 : Int32) σ).bind fun σ =>
  some (i1, σ)
set_option maxHeartbeats 4000000 in
theorem m_X9_gives {l : Launch} {G : ZG} (a0 : Nat) (i1 : Int32) (σ : ZT) {out : (Int32 × ZT)} (hf : f_X9_gives a0 i1 σ = some out) : ZM l G yX9_gives cX9_gives 2 (some .int) [] 1 [.ref a0, .int i1] σ (.returned (some (.int out.1))) out.2 := by
  refine ZM.of [(0, .ref a0), (1, .int i1)] rfl (Nat.le_of_ble_eq_true rfl) fun X (C : ZC G RX9 "gives" cX9_gives 2 (some .int) [] X 1) => ?_
  unfold f_X9_gives at hf
  refine z_aload_n (q := 1) (i := 0) C 0 dX9_gives_0 rfl rfl rfl ?_
  refine z_iconst (q := 2) C (0 : Int32) dX9_gives_1 ki_0 rfl ?_
  refine z_putI (q := 5) C puX9_97 dX9_gives_2 hf rfl fun σ hf => ?_
  refine z_iload_n (q := 6) (i := 1) C 1 dX9_gives_5 rfl rfl rfl ?_
  exact z_ireturn C rfl dX9_gives_6 (Option.some.inj hf)

noncomputable def f_X9_taken_J29 (w0_29 : Int32) (σ : ZT) : Option (Int32 × ZT) :=
  some (w0_29, σ)
noncomputable def f_X9_taken (a0 : Nat) (i1 : Int32) (σ : ZT) : Option (Int32 × ZT) :=
  (gI 9 918 a0 σ).bind fun v1 =>
  (pI 9 916 a0 v1 σ).bind fun σ =>
  (gI 9 918 a0 σ).bind fun v2 =>
  if 0 < v2 then
  (bnd2 (vc 9 a0 σ (f_X9_refuse a0 (9 : Int32) σ)) fun v4 σ =>
  f_X9_taken_J29 v4 σ)
  else
  (bnd2 (vc 9 a0 σ (f_X9_gives a0 i1 σ)) fun v3 σ =>
  f_X9_taken_J29 v3 σ)
set_option maxHeartbeats 4000000 in
theorem m_X9_taken {l : Launch} {G : ZG} (a0 : Nat) (i1 : Int32) (σ : ZT) {out : (Int32 × ZT)} (hf : f_X9_taken a0 i1 σ = some out) : ZM l G yX9_taken cX9_taken 2 (some .int) [] 2 [.ref a0, .int i1] σ (.returned (some (.int out.1))) out.2 := by
  refine ZM.of [(0, .ref a0), (1, .int i1)] rfl (Nat.le_of_ble_eq_true rfl) fun X (C : ZC G RX9 "taken" cX9_taken 2 (some .int) [] X 2) => ?_
  unfold f_X9_taken at hf
  have j29_0 : ∀ (w0_29 : Int32) (σ : ZT), f_X9_taken_J29 w0_29 σ = some out → ZW l G 2 X (ZQ G X (.returned (some (.int out.1))) out.2) σ 29 [] [.int w0_29] := by
    intro w0_29 σ hf
    unfold f_X9_taken_J29 at hf
    exact z_ireturn C rfl dX9_taken_29 (Option.some.inj hf)
  refine z_aload_n (q := 1) (i := 0) C 0 dX9_taken_0 rfl rfl rfl ?_
  refine z_aload_n (q := 2) (i := 0) C 0 dX9_taken_1 rfl rfl rfl ?_
  refine z_getI (q := 5) C flX9_174 dX9_taken_2 hf rfl fun v1 hf => ?_
  refine z_putI (q := 8) C puX9_37 dX9_taken_5 hf rfl fun σ hf => ?_
  refine z_aload_n (q := 9) (i := 0) C 0 dX9_taken_8 rfl rfl rfl ?_
  refine z_getI (q := 12) C flX9_174 dX9_taken_9 hf rfl fun v2 hf => ?_
  refine z_ifle (q := 15) (tgt := 24) C dX9_taken_12 (by decide) rfl hf (fun c12 hf => ?_) (fun c12 hf => ?_)
  · refine z_aload_n (q := 25) (i := 0) C 0 dX9_taken_24 rfl rfl rfl ?_
    refine z_iload_n (q := 26) (i := 1) C 1 dX9_taken_25 rfl rfl rfl ?_
    refine z_callVi (q := 29) (As := [.int i1]) C (fun o ho => m_X9_gives _ _ _ ho) zk9 vvX9_107 cdX9_gives pnX9 dX9_taken_26 rfl (by decide) (Nat.le_of_ble_eq_true rfl) hf rfl fun v3 σ hf => ?_
    refine z_lv [] rfl ?_
    exact j29_0 v3 σ hf
  · refine z_aload_n (q := 16) (i := 0) C 0 dX9_taken_15 rfl rfl rfl ?_
    refine z_bipush (q := 18) C (9 : Int32) dX9_taken_16 kb_9 rfl ?_
    refine z_callVi (q := 21) (As := [.int (9 : Int32)]) C (fun o ho => m_X9_refuse _ _ _ ho) zk9 vvX9_103 cdX9_refuse pnX9 dX9_taken_18 rfl (by decide) (Nat.le_of_ble_eq_true rfl) hf rfl fun v4 σ hf => ?_
    refine z_goto (q := 29) C dX9_taken_21 (by decide) ?_
    refine z_lv [] rfl ?_
    exact j29_0 v4 σ hf

noncomputable def f_X9_town_L54 (c0_54 : Nat) (i_4 : Int32) (σ : ZT) : Option ((Int32 × ZT) ⊕ ZT) :=
  if i_4 = 0 then
  (some (.inr σ))
  else
  ((gI 9 912 c0_54 σ).bind fun v5 =>
  if v5 = 0 then
  (some (.inr σ))
  else
  (bnd2 (vc 9 c0_54 σ (f_X9_townPart c0_54 σ)) fun v6 σ =>
  some (.inl (v6, σ))))
noncomputable def f_X9_town_L19 (c0_19 : Nat) (i_2 : Int32) (σ : ZT) : Option ((Int32 × ZT) ⊕ ZT) :=
  if i_2 < (430 : Int32) then
  ((gR 9 900 c0_19 σ).bind fun v7 =>
  (stI v7 ((1720 : Int32) + i_2) (0 : Int32) σ).bind fun σ =>
  some (.inl ((i_2 + (1 : Int32)), σ)))
  else
  (some (.inr σ))
noncomputable def f_X9_town_L113 (c0_113 : Nat) (i_15 : Int32) (σ : ZT) : Option ((Int32 × ZT) ⊕ ZT) :=
  if i_15 < (20 : Int32) then
  ((gR 9 901 c0_113 σ).bind fun v17 =>
  (gR 9 901 c0_113 σ).bind fun v18 =>
  (ldL v18 ((80 : Int32) + i_15) σ).bind fun v19 =>
  (stL v17 i_15 v19 σ).bind fun σ =>
  some (.inl ((i_15 + (1 : Int32)), σ)))
  else
  (some (.inr σ))
noncomputable def f_X9_town_L82 (c0_82 : Nat) (i_14 : Int32) (σ : ZT) : Option ((Int32 × ZT) ⊕ ZT) :=
  if i_14 < (430 : Int32) then
  ((gR 9 900 c0_82 σ).bind fun v21 =>
  (gR 9 900 c0_82 σ).bind fun v22 =>
  (ldI 0 v22 ((1720 : Int32) + i_14) σ).bind fun v23 =>
  (stI v21 i_14 v23 σ).bind fun σ =>
  some (.inl ((i_14 + (1 : Int32)), σ)))
  else
  (some (.inr σ))
noncomputable def f_X9_town_J144 (a0_144 : Nat) (σ : ZT) : Option (Int32 × ZT) :=
  (gR 9 900 a0_144 σ).bind fun v30 =>
  (ldI 0 v30 (1 : Int32) σ).bind fun v31 =>
  bnd2 (vc 9 a0_144 σ (f_X9_taken a0_144 v31 σ)) fun v32 σ =>
  some (v32, σ)
noncomputable def f_X9_town_J73 (a0_73 : Nat) (σ : ZT) : Option (Int32 × ZT) :=
  (gI 9 918 a0_73 σ).bind fun v13 =>
  if v13 = 0 then
  ((loopC (fun s : (Int32 × ZT) => f_X9_town_L82 a0_73 s.1 s.2) ((0 : Int32), σ)).bind fun σ =>
  (loopC (fun s : (Int32 × ZT) => f_X9_town_L113 a0_73 s.1 s.2) ((0 : Int32), σ)).bind fun σ =>
  (vc 9 a0_73 σ (f_X9_startsOver a0_73 σ)).bind fun σ =>
  f_X9_town_J144 a0_73 σ)
  else
  (f_X9_town_J144 a0_73 σ)
noncomputable def f_X9_town (a0 : Nat) (i1 : Int32) (σ : ZT) : Option (Int32 × ZT) :=
  bnd2 (vc 9 a0 σ (f_X9_begins a0 i1 (900 : Int32) σ)) fun v1 σ =>
  if v1 = 0 then
  (bnd2 (vc 9 a0 σ (f_X9_refuse a0 (1 : Int32) σ)) fun v12 σ =>
  some (v12, σ))
  else
  ((loopC (fun s : (Int32 × ZT) => f_X9_town_L19 a0 s.1 s.2) ((0 : Int32), σ)).bind fun σ =>
  (gR 9 900 a0 σ).bind fun v8 =>
  (stI v8 (1724 : Int32) (-1 : Int32) σ).bind fun σ =>
  (loopC (fun s : (Int32 × ZT) => f_X9_town_L54 a0 s.1 s.2) ((1 : Int32), σ)).bind fun σ =>
  f_X9_town_J73 a0 σ)
set_option maxHeartbeats 4000000 in
theorem m_X9_town {l : Launch} {G : ZG} (a0 : Nat) (i1 : Int32) (σ : ZT) {out : (Int32 × ZT)} (hf : f_X9_town a0 i1 σ = some out) : ZM l G yX9_town cX9_town 4 (some .int) [] 12 [.ref a0, .int i1] σ (.returned (some (.int out.1))) out.2 := by
  refine ZM.of [(0, .ref a0), (1, .int i1)] rfl (Nat.le_of_ble_eq_true rfl) fun X (C : ZC G RX9 "town" cX9_town 4 (some .int) [] X 12) => ?_
  unfold f_X9_town at hf
  have j144_0 : ∀ (a0_144 : Nat) (σ : ZT), f_X9_town_J144 a0_144 σ = some out → ZW l G 4 X (ZQ G X (.returned (some (.int out.1))) out.2) σ 144 [(0, .ref a0_144)] [] := by
    intro a0_144 σ hf
    unfold f_X9_town_J144 at hf
    refine z_aload_n (q := 145) (i := 0) C 0 dX9_town_144 rfl rfl rfl ?_
    refine z_aload_n (q := 146) (i := 0) C 0 dX9_town_145 rfl rfl rfl ?_
    refine z_getR (q := 149) C flX9_7 dX9_town_146 hf rfl fun v19 hf => ?_
    refine z_iconst (q := 150) C (1 : Int32) dX9_town_149 ki_1 rfl ?_
    refine z_iald (q := 151) C dX9_town_150 hf rfl fun v20 hf => ?_
    refine z_callVi (q := 154) (As := [.int v20]) C (fun o ho => m_X9_taken _ _ _ ho) zk9 vvX9_255 cdX9_taken pnX9 dX9_town_151 rfl (by decide) (Nat.le_of_ble_eq_true rfl) hf rfl fun v21 σ hf => ?_
    exact z_ireturn C rfl dX9_town_154 (Option.some.inj hf)
  have j73_0 : ∀ (a0_73 : Nat) (σ : ZT), f_X9_town_J73 a0_73 σ = some out → ZW l G 4 X (ZQ G X (.returned (some (.int out.1))) out.2) σ 73 [(0, .ref a0_73)] [] := by
    intro a0_73 σ hf
    unfold f_X9_town_J73 at hf
    refine z_aload_n (q := 74) (i := 0) C 0 dX9_town_73 rfl rfl rfl ?_
    refine z_getI (q := 77) C flX9_174 dX9_town_74 hf rfl fun v9 hf => ?_
    refine z_ifne (q := 80) (tgt := 144) C dX9_town_77 (by decide) rfl hf (fun c77 hf => ?_) (fun c77 hf => ?_)
    · exact j144_0 a0_73 σ hf
    · refine z_iconst (q := 81) C (0 : Int32) dX9_town_80 ki_0 rfl ?_
      refine z_istore_n (q := 82) (i := 3) (lv' := [(3, .int (0 : Int32)), (0, .ref a0_73)]) C dX9_town_81 rfl (by decide) rfl rfl ?_
      refine z_lv [1, 0] rfl ?_
      obtain ⟨r1, hr1, hk1⟩ := Option.bind_eq_some_iff.mp hf
      refine loopC_ind (P := fun s => ZW l G 4 X (ZQ G X (.returned (some (.int out.1))) out.2) s.2 82 [(0, .ref a0_73), (3, .int s.1)] []) (fun s x1 hf hx1 => ?_) hr1
      obtain ⟨i_10, σ⟩ := s
      unfold f_X9_town_L82 at hf
      try dsimp only at hf
      try dsimp only
      refine z_iload_n (q := 83) (i := 3) C 1 dX9_town_82 rfl rfl rfl ?_
      refine z_sipush (q := 86) C (430 : Int32) dX9_town_83 ks_430 rfl ?_
      refine z_icmpge (q := 89) (tgt := 111) C dX9_town_86 (by decide) rfl hf (fun c86 hf => ?_) (fun c86 hf => ?_)
      · have e1 := zl_x hf hx1
        have hf := hk1
        rw [← e1] at hf
        try dsimp only at hf
        refine z_iconst (q := 112) C (0 : Int32) dX9_town_111 ki_0 rfl ?_
        refine z_istore_n (q := 113) (i := 3) (lv' := [(3, .int (0 : Int32)), (0, .ref a0_73)]) C dX9_town_112 rfl (by decide) rfl rfl ?_
        refine z_lv [1, 0] rfl ?_
        obtain ⟨r1, hr1, hk1⟩ := Option.bind_eq_some_iff.mp hf
        refine loopC_ind (P := fun s => ZW l G 4 X (ZQ G X (.returned (some (.int out.1))) out.2) s.2 113 [(0, .ref a0_73), (3, .int s.1)] []) (fun s x1 hf hx1 => ?_) hr1
        obtain ⟨i_11, σ⟩ := s
        unfold f_X9_town_L113 at hf
        try dsimp only at hf
        try dsimp only
        refine z_iload_n (q := 114) (i := 3) C 1 dX9_town_113 rfl rfl rfl ?_
        refine z_bipush (q := 116) C (20 : Int32) dX9_town_114 kb_20 rfl ?_
        refine z_icmpge (q := 119) (tgt := 140) C dX9_town_116 (by decide) rfl hf (fun c116 hf => ?_) (fun c116 hf => ?_)
        · have e1 := zl_x hf hx1
          have hf := hk1
          rw [← e1] at hf
          try dsimp only at hf
          refine z_aload_n (q := 141) (i := 0) C 0 dX9_town_140 rfl rfl rfl ?_
          refine z_callVv (q := 144) (As := []) C (fun o ho => m_X9_startsOver _ _ ho) zk9 vvX9_252 cdX9_startsOver pnX9 dX9_town_141 rfl (by decide) (Nat.le_of_ble_eq_true rfl) hf rfl fun σ hf => ?_
          refine z_lv [0] rfl ?_
          exact j144_0 a0_73 σ hf
        · refine z_aload_n (q := 120) (i := 0) C 0 dX9_town_119 rfl rfl rfl ?_
          refine z_getR (q := 123) C flX9_13 dX9_town_120 hf rfl fun v13 hf => ?_
          refine z_iload_n (q := 124) (i := 3) C 1 dX9_town_123 rfl rfl rfl ?_
          refine z_aload_n (q := 125) (i := 0) C 0 dX9_town_124 rfl rfl rfl ?_
          refine z_getR (q := 128) C flX9_13 dX9_town_125 hf rfl fun v14 hf => ?_
          refine z_bipush (q := 130) C (80 : Int32) dX9_town_128 kb_80 rfl ?_
          refine z_iload_n (q := 131) (i := 3) C 1 dX9_town_130 rfl rfl rfl ?_
          refine z_iadd (q := 132) C dX9_town_131 rfl ?_
          refine z_lald (q := 133) C dX9_town_132 hf rfl fun v15 hf => ?_
          refine z_last (q := 134) C dX9_town_133 hf rfl fun σ hf => ?_
          refine z_iinc (q := 137) (i := 3) (lv' := [(3, .int (i_11 + (1 : Int32))), (0, .ref a0_73)]) C 1 (i_11 + (1 : Int32)) dX9_town_134 rfl (kn_1 _) (by decide) rfl rfl ?_
          refine z_goto (q := 113) C dX9_town_137 (by decide) ?_
          refine z_lv [1, 0] rfl ?_
          have hc1 := zl_c hf hx1
          exact hc1
      · refine z_aload_n (q := 90) (i := 0) C 0 dX9_town_89 rfl rfl rfl ?_
        refine z_getR (q := 93) C flX9_7 dX9_town_90 hf rfl fun v16 hf => ?_
        refine z_iload_n (q := 94) (i := 3) C 1 dX9_town_93 rfl rfl rfl ?_
        refine z_aload_n (q := 95) (i := 0) C 0 dX9_town_94 rfl rfl rfl ?_
        refine z_getR (q := 98) C flX9_7 dX9_town_95 hf rfl fun v17 hf => ?_
        refine z_sipush (q := 101) C (1720 : Int32) dX9_town_98 ks_1720 rfl ?_
        refine z_iload_n (q := 102) (i := 3) C 1 dX9_town_101 rfl rfl rfl ?_
        refine z_iadd (q := 103) C dX9_town_102 rfl ?_
        refine z_iald (q := 104) C dX9_town_103 hf rfl fun v18 hf => ?_
        refine z_iast (q := 105) C dX9_town_104 hf rfl fun σ hf => ?_
        refine z_iinc (q := 108) (i := 3) (lv' := [(3, .int (i_10 + (1 : Int32))), (0, .ref a0_73)]) C 1 (i_10 + (1 : Int32)) dX9_town_105 rfl (kn_1 _) (by decide) rfl rfl ?_
        refine z_goto (q := 82) C dX9_town_108 (by decide) ?_
        refine z_lv [1, 0] rfl ?_
        have hc1 := zl_c hf hx1
        exact hc1
  refine z_aload_n (q := 1) (i := 0) C 0 dX9_town_0 rfl rfl rfl ?_
  refine z_iload_n (q := 2) (i := 1) C 1 dX9_town_1 rfl rfl rfl ?_
  refine z_sipush (q := 5) C (900 : Int32) dX9_town_2 ks_900 rfl ?_
  refine z_callVi (q := 8) (As := [.int i1, .int (900 : Int32)]) C (fun o ho => m_X9_begins _ _ _ _ ho) zk9 vvX9_245 cdX9_begins pnX9 dX9_town_5 rfl (by decide) (Nat.le_of_ble_eq_true rfl) hf rfl fun v1 σ hf => ?_
  refine z_ifne (q := 11) (tgt := 17) C dX9_town_8 (by decide) rfl hf (fun c8 hf => ?_) (fun c8 hf => ?_)
  · refine z_iconst (q := 18) C (0 : Int32) dX9_town_17 ki_0 rfl ?_
    refine z_istore_n (q := 19) (i := 2) (lv' := [(2, .int (0 : Int32)), (0, .ref a0), (1, .int i1)]) C dX9_town_18 rfl (by decide) rfl rfl ?_
    refine z_lv [1, 0] rfl ?_
    obtain ⟨r1, hr1, hk1⟩ := Option.bind_eq_some_iff.mp hf
    refine loopC_ind (P := fun s => ZW l G 4 X (ZQ G X (.returned (some (.int out.1))) out.2) s.2 19 [(0, .ref a0), (2, .int s.1)] []) (fun s x1 hf hx1 => ?_) hr1
    obtain ⟨i_2, σ⟩ := s
    unfold f_X9_town_L19 at hf
    try dsimp only at hf
    try dsimp only
    refine z_iload_n (q := 20) (i := 2) C 1 dX9_town_19 rfl rfl rfl ?_
    refine z_sipush (q := 23) C (430 : Int32) dX9_town_20 ks_430 rfl ?_
    refine z_icmpge (q := 26) (tgt := 43) C dX9_town_23 (by decide) rfl hf (fun c23 hf => ?_) (fun c23 hf => ?_)
    · have e1 := zl_x hf hx1
      have hf := hk1
      rw [← e1] at hf
      try dsimp only at hf
      refine z_aload_n (q := 44) (i := 0) C 0 dX9_town_43 rfl rfl rfl ?_
      refine z_getR (q := 47) C flX9_7 dX9_town_44 hf rfl fun v3 hf => ?_
      refine z_sipush (q := 50) C (1724 : Int32) dX9_town_47 ks_1724 rfl ?_
      refine z_iconst (q := 51) C (-1 : Int32) dX9_town_50 ki_m1 rfl ?_
      refine z_iast (q := 52) C dX9_town_51 hf rfl fun σ hf => ?_
      refine z_iconst (q := 53) C (1 : Int32) dX9_town_52 ki_1 rfl ?_
      refine z_istore_n (q := 54) (i := 2) (lv' := [(2, .int (1 : Int32)), (0, .ref a0)]) C dX9_town_53 rfl (by decide) rfl rfl ?_
      refine z_lv [1, 0] rfl ?_
      obtain ⟨r1, hr1, hk1⟩ := Option.bind_eq_some_iff.mp hf
      refine loopC_ind (P := fun s => ZW l G 4 X (ZQ G X (.returned (some (.int out.1))) out.2) s.2 54 [(0, .ref a0), (2, .int s.1)] []) (fun s x1 hf hx1 => ?_) hr1
      obtain ⟨i_4, σ⟩ := s
      unfold f_X9_town_L54 at hf
      try dsimp only at hf
      try dsimp only
      refine z_iload_n (q := 55) (i := 2) C 1 dX9_town_54 rfl rfl rfl ?_
      refine z_ifeq (q := 58) (tgt := 73) C dX9_town_55 (by decide) rfl hf (fun c55 hf => ?_) (fun c55 hf => ?_)
      · have e1 := zl_x hf hx1
        have hf := hk1
        rw [← e1] at hf
        try dsimp only at hf
        refine z_lv [0] rfl ?_
        exact j73_0 a0 σ hf
      · refine z_aload_n (q := 59) (i := 0) C 0 dX9_town_58 rfl rfl rfl ?_
        refine z_getI (q := 62) C flX9_149 dX9_town_59 hf rfl fun v5 hf => ?_
        refine z_ifeq (q := 65) (tgt := 73) C dX9_town_62 (by decide) rfl hf (fun c62 hf => ?_) (fun c62 hf => ?_)
        · have e1 := zl_x hf hx1
          have hf := hk1
          rw [← e1] at hf
          try dsimp only at hf
          refine z_lv [0] rfl ?_
          exact j73_0 a0 σ hf
        · refine z_aload_n (q := 66) (i := 0) C 0 dX9_town_65 rfl rfl rfl ?_
          refine z_callVi (q := 69) (As := []) C (fun o ho => m_X9_townPart _ _ ho) zk9 vvX9_249 cdX9_townPart pnX9 dX9_town_66 rfl (by decide) (Nat.le_of_ble_eq_true rfl) hf rfl fun v6 σ hf => ?_
          refine z_istore_n (q := 70) (i := 2) (lv' := [(2, .int v6), (0, .ref a0)]) C dX9_town_69 rfl (by decide) rfl rfl ?_
          refine z_goto (q := 54) C dX9_town_70 (by decide) ?_
          refine z_lv [1, 0] rfl ?_
          have hc1 := zl_c hf hx1
          exact hc1
    · refine z_aload_n (q := 27) (i := 0) C 0 dX9_town_26 rfl rfl rfl ?_
      refine z_getR (q := 30) C flX9_7 dX9_town_27 hf rfl fun v7 hf => ?_
      refine z_sipush (q := 33) C (1720 : Int32) dX9_town_30 ks_1720 rfl ?_
      refine z_iload_n (q := 34) (i := 2) C 1 dX9_town_33 rfl rfl rfl ?_
      refine z_iadd (q := 35) C dX9_town_34 rfl ?_
      refine z_iconst (q := 36) C (0 : Int32) dX9_town_35 ki_0 rfl ?_
      refine z_iast (q := 37) C dX9_town_36 hf rfl fun σ hf => ?_
      refine z_iinc (q := 40) (i := 2) (lv' := [(2, .int (i_2 + (1 : Int32))), (0, .ref a0)]) C 1 (i_2 + (1 : Int32)) dX9_town_37 rfl (kn_1 _) (by decide) rfl rfl ?_
      refine z_goto (q := 19) C dX9_town_40 (by decide) ?_
      refine z_lv [1, 0] rfl ?_
      have hc1 := zl_c hf hx1
      exact hc1
  · refine z_aload_n (q := 12) (i := 0) C 0 dX9_town_11 rfl rfl rfl ?_
    refine z_iconst (q := 13) C (1 : Int32) dX9_town_12 ki_1 rfl ?_
    refine z_callVi (q := 16) (As := [.int (1 : Int32)]) C (fun o ho => m_X9_refuse _ _ _ ho) zk9 vvX9_103 cdX9_refuse pnX9 dX9_town_13 rfl (by decide) (Nat.le_of_ble_eq_true rfl) hf rfl fun v8 σ hf => ?_
    exact z_ireturn C rfl dX9_town_16 (Option.some.inj hf)

noncomputable def f_X9_orderName (a0 : Nat) (i1 : Int32) (i2 : Int32) (i3 : Int32) (σ : ZT) : Option (Int32 × ZT) :=
  (gR 9 900 a0 σ).bind fun v1 =>
  (ldI 0 v1 i2 σ).bind fun v2 =>
  bnd2 (vc 9 a0 σ (f_X9_oldOne a0 (0 : Int32) v2 i3 σ)) fun v3 σ =>
  if v3 = 0 then
  (some ((0 : Int32), σ))
  else
  ((gR 9 900 a0 σ).bind fun v4 =>
  (gI 9 920 a0 σ).bind fun v5 =>
  (stI v4 i1 v5 σ).bind fun σ =>
  some ((1 : Int32), σ))
set_option maxHeartbeats 4000000 in
theorem m_X9_orderName {l : Launch} {G : ZG} (a0 : Nat) (i1 : Int32) (i2 : Int32) (i3 : Int32) (σ : ZT) {out : (Int32 × ZT)} (hf : f_X9_orderName a0 i1 i2 i3 σ = some out) : ZM l G yX9_orderName cX9_orderName 4 (some .boolean) [] 9 [.ref a0, .int i1, .int i2, .int i3] σ (.returned (some (.int out.1))) out.2 := by
  refine ZM.of [(0, .ref a0), (1, .int i1), (2, .int i2), (3, .int i3)] rfl (Nat.le_of_ble_eq_true rfl) fun X (C : ZC G RX9 "orderName" cX9_orderName 4 (some .boolean) [] X 9) => ?_
  unfold f_X9_orderName at hf
  refine z_aload_n (q := 1) (i := 0) C 0 dX9_orderName_0 rfl rfl rfl ?_
  refine z_iconst (q := 2) C (0 : Int32) dX9_orderName_1 ki_0 rfl ?_
  refine z_aload_n (q := 3) (i := 0) C 0 dX9_orderName_2 rfl rfl rfl ?_
  refine z_getR (q := 6) C flX9_7 dX9_orderName_3 hf rfl fun v1 hf => ?_
  refine z_iload_n (q := 7) (i := 2) C 2 dX9_orderName_6 rfl rfl rfl ?_
  refine z_iald (q := 8) C dX9_orderName_7 hf rfl fun v2 hf => ?_
  refine z_iload_n (q := 9) (i := 3) C 3 dX9_orderName_8 rfl rfl rfl ?_
  refine z_callVi (q := 12) (As := [.int (0 : Int32), .int v2, .int i3]) C (fun o ho => m_X9_oldOne _ _ _ _ _ ho) zk9 vvX9_213 cdX9_oldOne pnX9 dX9_orderName_9 rfl (by decide) (Nat.le_of_ble_eq_true rfl) hf rfl fun v3 σ hf => ?_
  refine z_ifne (q := 15) (tgt := 17) C dX9_orderName_12 (by decide) rfl hf (fun c12 hf => ?_) (fun c12 hf => ?_)
  · refine z_aload_n (q := 18) (i := 0) C 0 dX9_orderName_17 rfl rfl rfl ?_
    refine z_getR (q := 21) C flX9_7 dX9_orderName_18 hf rfl fun v4 hf => ?_
    refine z_iload_n (q := 22) (i := 1) C 1 dX9_orderName_21 rfl rfl rfl ?_
    refine z_aload_n (q := 23) (i := 0) C 0 dX9_orderName_22 rfl rfl rfl ?_
    refine z_getI (q := 26) C flX9_210 dX9_orderName_23 hf rfl fun v5 hf => ?_
    refine z_iast (q := 27) C dX9_orderName_26 hf rfl fun σ hf => ?_
    refine z_iconst (q := 28) C (1 : Int32) dX9_orderName_27 ki_1 rfl ?_
    exact z_zreturn C rfl z_nb1 dX9_orderName_28 (Option.some.inj hf)
  · refine z_iconst (q := 16) C (0 : Int32) dX9_orderName_15 ki_0 rfl ?_
    exact z_zreturn C rfl z_nb0 dX9_orderName_16 (Option.some.inj hf)

