set_option maxRecDepth 100000
noncomputable def f_X0_init (a0 : Nat) (σ : ZT) : Option ZT :=
  bnd2 (nwA 5 (4 : Int32) σ) fun v1 σ =>
  bnd2 (nwO 1 1 σ) fun v2 σ =>
  (f_X1_init v2 σ).bind fun σ =>
  (stR 5 v1 (0 : Int32) v2 σ).bind fun σ =>
  bnd2 (nwO 1 1 σ) fun v4 σ =>
  (f_X1_init v4 σ).bind fun σ =>
  (stR 5 v1 (1 : Int32) v4 σ).bind fun σ =>
  bnd2 (nwO 1 1 σ) fun v6 σ =>
  (f_X1_init v6 σ).bind fun σ =>
  (stR 5 v1 (2 : Int32) v6 σ).bind fun σ =>
  bnd2 (nwO 1 1 σ) fun v8 σ =>
  (f_X1_init v8 σ).bind fun σ =>
  (stR 5 v1 (3 : Int32) v8 σ).bind fun σ =>
  (pR 0 0 a0 (some v1) σ).bind fun σ =>
  bnd2 (nwA 2 (900 : Int32) σ) fun v10 σ =>
  (pR 0 1 a0 (some v10) σ).bind fun σ =>
  (pI 0 3 a0 (-1 : Int32) σ).bind fun σ =>
  (pI 0 4 a0 (-1 : Int32) σ).bind fun σ =>
  bnd2 (nwO 2 8 σ) fun v11 σ =>
  (f_X2_init v11 σ).bind fun σ =>
  (pR 0 5 a0 (some v11) σ).bind fun σ =>
  bnd2 (nwO 3 7 σ) fun v13 σ =>
  (f_X3_init v13 σ).bind fun σ =>
  (pR 0 6 a0 (some v13) σ).bind fun σ =>
  (pL 0 9 a0 (1 : Int64) σ).bind fun σ =>
  bnd2 (nwO 4 2 σ) fun v15 σ =>
  (f_X4_init v15 σ).bind fun σ =>
  (pR 0 10 a0 (some v15) σ).bind fun σ =>
  bnd2 (nwA 9 (3 : Int32) σ) fun v17 σ =>
  (pR 0 11 a0 (some v17) σ).bind fun σ =>
  bnd2 (nwO 7 5 σ) fun v18 σ =>
  (f_X7_init v18 σ).bind fun σ =>
  (pR 0 13 a0 (some v18) σ).bind fun σ =>
  bnd2 (nwO 5 6 σ) fun v20 σ =>
  (f_X5_init v20 σ).bind fun σ =>
  (pR 0 14 a0 (some v20) σ).bind fun σ =>
  bnd2 (nwA 0 (129600 : Int32) σ) fun v22 σ =>
  (pR 0 15 a0 (some v22) σ).bind fun σ =>
  bnd2 (nwA 0 (129600 : Int32) σ) fun v23 σ =>
  (pR 0 16 a0 (some v23) σ).bind fun σ =>
  bnd2 (nwA 4 (129600 : Int32) σ) fun v24 σ =>
  (pR 0 17 a0 (some v24) σ).bind fun σ =>
  bnd2 (nwA 4 (129600 : Int32) σ) fun v25 σ =>
  (pR 0 19 a0 (some v25) σ).bind fun σ =>
  bnd2 (nwA 0 (129600 : Int32) σ) fun v26 σ =>
  (pR 0 20 a0 (some v26) σ).bind fun σ =>
  bnd2 (nwO 7 5 σ) fun v27 σ =>
  (f_X7_init v27 σ).bind fun σ =>
  (pR 0 21 a0 (some v27) σ).bind fun σ =>
  bnd2 (nwO 8 10 σ) fun v29 σ =>
  (f_X8_init v29 σ).bind fun σ =>
  (pR 0 23 a0 (some v29) σ).bind fun σ =>
  bnd2 (nwA 0 (6 : Int32) σ) fun v31 σ =>
  (pR 0 25 a0 (some v31) σ).bind fun σ =>
  bnd2 (nwA 0 (4 : Int32) σ) fun v32 σ =>
  (pR 0 26 a0 (some v32) σ).bind fun σ =>
  some σ
set_option maxHeartbeats 4000000 in
theorem m_X0_init {l : Launch} {G : ZG} (a0 : Nat) (σ : ZT) {out : ZT} (hf : f_X0_init a0 σ = some out) : ZM l G yX0_init cX0_init 1 none [] 5 [.ref a0] σ (.returned none) out := by
  refine ZM.of [(0, .ref a0)] rfl (Nat.le_of_ble_eq_true rfl) fun X (C : ZC G RX0 "<init>" cX0_init 1 none [] X 5) => ?_
  unfold f_X0_init at hf
  refine z_aload_n (q := 1) (i := 0) C 0 dX0_init_0 rfl rfl rfl ?_
  refine z_objInit (q := 4) C q182 dX0_init_1 rfl (by decide) (Nat.le_of_ble_eq_true rfl) ?_
  refine z_aload_n (q := 5) (i := 0) C 0 dX0_init_4 rfl rfl rfl ?_
  refine z_iconst (q := 6) C (4 : Int32) dX0_init_5 ki_4 rfl ?_
  refine z_anewarr (q := 9) C 5 (by decide) (by decide) rfl (by decide) q185 dX0_init_6 hf rfl fun v1 σ hf => ?_
  refine z_dup (q := 10) C dX0_init_9 rfl rfl ?_
  refine z_iconst (q := 11) C (0 : Int32) dX0_init_10 ki_0 rfl ?_
  refine z_new (q := 14) C zk1 zty1 q185 q187 q145 dX0_init_11 hf rfl fun v2 σ hf => ?_
  refine z_dup (q := 15) C dX0_init_14 rfl rfl ?_
  refine z_callIv (q := 18) (As := []) C (fun o ho => m_X1_init _ _ ho) viX0_19 pnX1 dX0_init_15 rfl (by decide) (Nat.le_of_ble_eq_true rfl) hf rfl fun σ hf => ?_
  refine z_aast (q := 19) C 5 (by decide) (by decide) dX0_init_18 hf rfl fun σ hf => ?_
  refine z_dup (q := 20) C dX0_init_19 rfl rfl ?_
  refine z_iconst (q := 21) C (1 : Int32) dX0_init_20 ki_1 rfl ?_
  refine z_new (q := 24) C zk1 zty1 q185 q187 q145 dX0_init_21 hf rfl fun v4 σ hf => ?_
  refine z_dup (q := 25) C dX0_init_24 rfl rfl ?_
  refine z_callIv (q := 28) (As := []) C (fun o ho => m_X1_init _ _ ho) viX0_19 pnX1 dX0_init_25 rfl (by decide) (Nat.le_of_ble_eq_true rfl) hf rfl fun σ hf => ?_
  refine z_aast (q := 29) C 5 (by decide) (by decide) dX0_init_28 hf rfl fun σ hf => ?_
  refine z_dup (q := 30) C dX0_init_29 rfl rfl ?_
  refine z_iconst (q := 31) C (2 : Int32) dX0_init_30 ki_2 rfl ?_
  refine z_new (q := 34) C zk1 zty1 q185 q187 q145 dX0_init_31 hf rfl fun v6 σ hf => ?_
  refine z_dup (q := 35) C dX0_init_34 rfl rfl ?_
  refine z_callIv (q := 38) (As := []) C (fun o ho => m_X1_init _ _ ho) viX0_19 pnX1 dX0_init_35 rfl (by decide) (Nat.le_of_ble_eq_true rfl) hf rfl fun σ hf => ?_
  refine z_aast (q := 39) C 5 (by decide) (by decide) dX0_init_38 hf rfl fun σ hf => ?_
  refine z_dup (q := 40) C dX0_init_39 rfl rfl ?_
  refine z_iconst (q := 41) C (3 : Int32) dX0_init_40 ki_3 rfl ?_
  refine z_new (q := 44) C zk1 zty1 q185 q187 q145 dX0_init_41 hf rfl fun v8 σ hf => ?_
  refine z_dup (q := 45) C dX0_init_44 rfl rfl ?_
  refine z_callIv (q := 48) (As := []) C (fun o ho => m_X1_init _ _ ho) viX0_19 pnX1 dX0_init_45 rfl (by decide) (Nat.le_of_ble_eq_true rfl) hf rfl fun σ hf => ?_
  refine z_aast (q := 49) C 5 (by decide) (by decide) dX0_init_48 hf rfl fun σ hf => ?_
  refine z_putR (q := 52) C puX0_20 rfl dX0_init_49 hf rfl fun σ hf => ?_
  refine z_aload_n (q := 53) (i := 0) C 0 dX0_init_52 rfl rfl rfl ?_
  refine z_sipush (q := 56) C (900 : Int32) dX0_init_53 ks_900 rfl ?_
  refine z_newarr (q := 58) C 2 (by decide) rfl q266 dX0_init_56 hf rfl fun v10 σ hf => ?_
  refine z_putR (q := 61) C puX0_24 rfl dX0_init_58 hf rfl fun σ hf => ?_
  refine z_aload_n (q := 62) (i := 0) C 0 dX0_init_61 rfl rfl rfl ?_
  refine z_iconst (q := 63) C (-1 : Int32) dX0_init_62 ki_m1 rfl ?_
  refine z_putI (q := 66) C puX0_27 dX0_init_63 hf rfl fun σ hf => ?_
  refine z_aload_n (q := 67) (i := 0) C 0 dX0_init_66 rfl rfl rfl ?_
  refine z_iconst (q := 68) C (-1 : Int32) dX0_init_67 ki_m1 rfl ?_
  refine z_putI (q := 71) C puX0_31 dX0_init_68 hf rfl fun σ hf => ?_
  refine z_aload_n (q := 72) (i := 0) C 0 dX0_init_71 rfl rfl rfl ?_
  refine z_new (q := 75) C zk2 zty2 q196 q197 q148 dX0_init_72 hf rfl fun v11 σ hf => ?_
  refine z_dup (q := 76) C dX0_init_75 rfl rfl ?_
  refine z_callIv (q := 79) (As := []) C (fun o ho => m_X2_init _ _ ho) viX0_36 pnX2 dX0_init_76 rfl (by decide) (Nat.le_of_ble_eq_true rfl) hf rfl fun σ hf => ?_
  refine z_putR (q := 82) C puX0_37 rfl dX0_init_79 hf rfl fun σ hf => ?_
  refine z_aload_n (q := 83) (i := 0) C 0 dX0_init_82 rfl rfl rfl ?_
  refine z_new (q := 86) C zk3 zty3 q267 q268 q149 dX0_init_83 hf rfl fun v13 σ hf => ?_
  refine z_dup (q := 87) C dX0_init_86 rfl rfl ?_
  refine z_callIv (q := 90) (As := []) C (fun o ho => m_X3_init _ _ ho) viX0_43 pnX3 dX0_init_87 rfl (by decide) (Nat.le_of_ble_eq_true rfl) hf rfl fun σ hf => ?_
  refine z_putR (q := 93) C puX0_44 rfl dX0_init_90 hf rfl fun σ hf => ?_
  refine z_aload_n (q := 94) (i := 0) C 0 dX0_init_93 rfl rfl rfl ?_
  refine z_lconst (q := 95) C (1 : Int64) dX0_init_94 rfl rfl ?_
  refine z_putL (q := 98) C puX0_48 dX0_init_95 hf rfl fun σ hf => ?_
  refine z_aload_n (q := 99) (i := 0) C 0 dX0_init_98 rfl rfl rfl ?_
  refine z_new (q := 102) C zk4 zty4 q286 q287 q150 dX0_init_99 hf rfl fun v15 σ hf => ?_
  refine z_dup (q := 103) C dX0_init_102 rfl rfl ?_
  refine z_callIv (q := 106) (As := []) C (fun o ho => m_X4_init _ _ ho) viX0_54 pnX4 dX0_init_103 rfl (by decide) (Nat.le_of_ble_eq_true rfl) hf rfl fun σ hf => ?_
  refine z_putR (q := 109) C puX0_55 rfl dX0_init_106 hf rfl fun σ hf => ?_
  refine z_aload_n (q := 110) (i := 0) C 0 dX0_init_109 rfl rfl rfl ?_
  refine z_iconst (q := 111) C (3 : Int32) dX0_init_110 ki_3 rfl ?_
  refine z_anewarr (q := 114) C 9 (by decide) (by decide) rfl (by decide) q286 dX0_init_111 hf rfl fun v17 σ hf => ?_
  refine z_putR (q := 117) C puX0_59 rfl dX0_init_114 hf rfl fun σ hf => ?_
  refine z_aload_n (q := 118) (i := 0) C 0 dX0_init_117 rfl rfl rfl ?_
  refine z_new (q := 121) C zk7 zty7 q404 q405 q153 dX0_init_118 hf rfl fun v18 σ hf => ?_
  refine z_dup (q := 122) C dX0_init_121 rfl rfl ?_
  refine z_callIv (q := 125) (As := []) C (fun o ho => m_X7_init _ _ ho) viX0_65 pnX7 dX0_init_122 rfl (by decide) (Nat.le_of_ble_eq_true rfl) hf rfl fun σ hf => ?_
  refine z_putR (q := 128) C puX0_66 rfl dX0_init_125 hf rfl fun σ hf => ?_
  refine z_aload_n (q := 129) (i := 0) C 0 dX0_init_128 rfl rfl rfl ?_
  refine z_new (q := 132) C zk5 zty5 q431 q293 q151 dX0_init_129 hf rfl fun v20 σ hf => ?_
  refine z_dup (q := 133) C dX0_init_132 rfl rfl ?_
  refine z_callIv (q := 136) (As := []) C (fun o ho => m_X5_init _ _ ho) viX0_72 pnX5 dX0_init_133 rfl (by decide) (Nat.le_of_ble_eq_true rfl) hf rfl fun σ hf => ?_
  refine z_putR (q := 139) C puX0_73 rfl dX0_init_136 hf rfl fun σ hf => ?_
  refine z_aload_n (q := 140) (i := 0) C 0 dX0_init_139 rfl rfl rfl ?_
  refine z_ldc (q := 142) C q433 dX0_init_140 rfl ?_
  refine z_newarr (q := 144) C 0 (by decide) rfl q367 dX0_init_142 hf rfl fun v22 σ hf => ?_
  refine z_putR (q := 147) C puX0_78 rfl dX0_init_144 hf rfl fun σ hf => ?_
  refine z_aload_n (q := 148) (i := 0) C 0 dX0_init_147 rfl rfl rfl ?_
  refine z_ldc (q := 150) C q433 dX0_init_148 rfl ?_
  refine z_newarr (q := 152) C 0 (by decide) rfl q367 dX0_init_150 hf rfl fun v23 σ hf => ?_
  refine z_putR (q := 155) C puX0_81 rfl dX0_init_152 hf rfl fun σ hf => ?_
  refine z_aload_n (q := 156) (i := 0) C 0 dX0_init_155 rfl rfl rfl ?_
  refine z_ldc (q := 158) C q433 dX0_init_156 rfl ?_
  refine z_newarr (q := 160) C 4 (by decide) rfl q486 dX0_init_158 hf rfl fun v24 σ hf => ?_
  refine z_putR (q := 163) C puX0_84 rfl dX0_init_160 hf rfl fun σ hf => ?_
  refine z_aload_n (q := 164) (i := 0) C 0 dX0_init_163 rfl rfl rfl ?_
  refine z_ldc (q := 166) C q433 dX0_init_164 rfl ?_
  refine z_newarr (q := 168) C 4 (by decide) rfl q486 dX0_init_166 hf rfl fun v25 σ hf => ?_
  refine z_putR (q := 171) C puX0_88 rfl dX0_init_168 hf rfl fun σ hf => ?_
  refine z_aload_n (q := 172) (i := 0) C 0 dX0_init_171 rfl rfl rfl ?_
  refine z_ldc (q := 174) C q433 dX0_init_172 rfl ?_
  refine z_newarr (q := 176) C 0 (by decide) rfl q367 dX0_init_174 hf rfl fun v26 σ hf => ?_
  refine z_putR (q := 179) C puX0_91 rfl dX0_init_176 hf rfl fun σ hf => ?_
  refine z_aload_n (q := 180) (i := 0) C 0 dX0_init_179 rfl rfl rfl ?_
  refine z_new (q := 183) C zk7 zty7 q404 q405 q153 dX0_init_180 hf rfl fun v27 σ hf => ?_
  refine z_dup (q := 184) C dX0_init_183 rfl rfl ?_
  refine z_callIv (q := 187) (As := []) C (fun o ho => m_X7_init _ _ ho) viX0_65 pnX7 dX0_init_184 rfl (by decide) (Nat.le_of_ble_eq_true rfl) hf rfl fun σ hf => ?_
  refine z_putR (q := 190) C puX0_94 rfl dX0_init_187 hf rfl fun σ hf => ?_
  refine z_aload_n (q := 191) (i := 0) C 0 dX0_init_190 rfl rfl rfl ?_
  refine z_new (q := 194) C zk8 zty8 q434 q435 q154 dX0_init_191 hf rfl fun v29 σ hf => ?_
  refine z_dup (q := 195) C dX0_init_194 rfl rfl ?_
  refine z_callIv (q := 198) (As := []) C (fun o ho => m_X8_init _ _ ho) viX0_99 pnX8 dX0_init_195 rfl (by decide) (Nat.le_of_ble_eq_true rfl) hf rfl fun σ hf => ?_
  refine z_putR (q := 201) C puX0_100 rfl dX0_init_198 hf rfl fun σ hf => ?_
  refine z_aload_n (q := 202) (i := 0) C 0 dX0_init_201 rfl rfl rfl ?_
  refine z_bipush (q := 204) C (6 : Int32) dX0_init_202 kb_6 rfl ?_
  refine z_newarr (q := 206) C 0 (by decide) rfl q367 dX0_init_204 hf rfl fun v31 σ hf => ?_
  refine z_putR (q := 209) C puX0_104 rfl dX0_init_206 hf rfl fun σ hf => ?_
  refine z_aload_n (q := 210) (i := 0) C 0 dX0_init_209 rfl rfl rfl ?_
  refine z_iconst (q := 211) C (4 : Int32) dX0_init_210 ki_4 rfl ?_
  refine z_newarr (q := 213) C 0 (by decide) rfl q367 dX0_init_211 hf rfl fun v32 σ hf => ?_
  refine z_putR (q := 216) C puX0_107 rfl dX0_init_213 hf rfl fun σ hf => ?_
  exact z_return C rfl dX0_init_216 (Option.some.inj hf)

noncomputable def f_X0_town (a0 : Nat) (i1 : Int32) (σ : ZT) : Option (Int32 × ZT) :=
  bnd2 (vc 0 a0 σ (f_X0_opens a0 i1 (900 : Int32) σ)) fun v1 σ =>
  if v1 = 0 then
  (some ((-1 : Int32), σ))
  else
  (bnd2 (nwO 6 9 σ) fun v2 σ =>
  (f_X6_init v2 σ).bind fun σ =>
  bnd2 (nwO 10 7 σ) fun v4 σ =>
  (f_X10_init v4 a0 i1 σ).bind fun σ =>
  bndXv (vc 10 v4 σ (f_X10_town v4 v2 σ)) (fun xx σ => vc 2 xx σ (bnd2 (vc 0 a0 σ (f_X0_faulty a0 xx σ)) fun v12 σ =>
  some (v12, σ))) fun σ =>
  (gR 0 10 a0 σ).bind fun v7 =>
  (gR 4 400 v7 σ).bind fun v8 =>
  (vc 5 v8 σ (f_X5_begin v8 v2 σ)).bind fun σ =>
  (gR 0 10 a0 σ).bind fun v10 =>
  (pR 4 401 v10 none σ).bind fun σ =>
  (gI 6 601 v2 σ).bind fun v11 =>
  some (v11, σ))
set_option maxHeartbeats 4000000 in
theorem m_X0_town {l : Launch} {G : ZG} (a0 : Nat) (i1 : Int32) (σ : ZT) {out : (Int32 × ZT)} (hf : f_X0_town a0 i1 σ = some out) : ZM l G yX0_town cX0_town 3 (some .int) [(13, 57, 58, 34)] 12 [.ref a0, .int i1] σ (.returned (some (.int out.1))) out.2 := by
  refine ZM.of [(0, .ref a0), (1, .int i1)] rfl (Nat.le_of_ble_eq_true rfl) fun X (C : ZC G RX0 "town" cX0_town 3 (some .int) [(13, 57, 58, 34)] X 12) => ?_
  unfold f_X0_town at hf
  refine z_aload_n (q := 1) (i := 0) C 0 dX0_town_0 rfl rfl rfl ?_
  refine z_iload_n (q := 2) (i := 1) C 1 dX0_town_1 rfl rfl rfl ?_
  refine z_sipush (q := 5) C (900 : Int32) dX0_town_2 ks_900 rfl ?_
  refine z_callVi (q := 8) (As := [.int i1, .int (900 : Int32)]) C (fun o ho => m_X0_opens _ _ _ _ ho) zk0 vvX0_222 cdX0_opens pnX0 dX0_town_5 rfl (by decide) (Nat.le_of_ble_eq_true rfl) hf rfl fun v1 σ hf => ?_
  refine z_ifne (q := 11) (tgt := 13) C dX0_town_8 (by decide) rfl hf (fun c8 hf => ?_) (fun c8 hf => ?_)
  · refine z_new (q := 16) C zk6 zty6 q708 q299 q152 dX0_town_13 hf rfl fun v2 σ hf => ?_
    refine z_dup (q := 17) C dX0_town_16 rfl rfl ?_
    refine z_callIv (q := 20) (As := []) C (fun o ho => m_X6_init _ _ ho) viX0_226 pnX6 dX0_town_17 rfl (by decide) (Nat.le_of_ble_eq_true rfl) hf rfl fun σ hf => ?_
    refine z_astore_n (q := 21) (i := 2) (lv' := [(2, .ref v2), (0, .ref a0), (1, .int i1)]) C dX0_town_20 rfl (by decide) rfl rfl ?_
    refine z_new (q := 24) C zk10 zty10 q710 q711 q162 dX0_town_21 hf rfl fun v4 σ hf => ?_
    refine z_dup (q := 25) C dX0_town_24 rfl rfl ?_
    refine z_aload_n (q := 26) (i := 0) C 1 dX0_town_25 rfl rfl rfl ?_
    refine z_iload_n (q := 27) (i := 1) C 2 dX0_town_26 rfl rfl rfl ?_
    refine z_callIv (q := 30) (As := [.ref a0, .int i1]) C (fun o ho => m_X10_init _ _ _ _ ho) viX0_229 pnX10 dX0_town_27 rfl (by decide) (Nat.le_of_ble_eq_true rfl) hf rfl fun σ hf => ?_
    refine z_aload_n (q := 31) (i := 2) C 0 dX0_town_30 rfl rfl rfl ?_
    refine z_callXVv (q := 34) (As := [.ref v2]) C (fun o ho => m_X10_town _ _ _ ho) zk10 vvX0_232 cdX10_town pnX10 dX0_town_31 rfl (by decide) (Nat.le_of_ble_eq_true rfl) hf rfl (fun xx σ hf T locs ls hP hL h1 h2 hl X0 => ?_) fun σ hf => ?_
    · refine zcaughtO (q := 58) C 0 rfl zk2 (by decide) (by decide) (fun j hj y hy => ?_) q196 (zNw_in q198 rfl) hf hP hL h1 h2 hl X0 rfl (fun hf => ?_)
      · exact absurd hj (Nat.not_lt_zero j)
      refine z_astore_n (q := 59) (i := 2) (lv' := [(2, .ref xx), (0, .ref a0), (1, .int i1)]) C dX0_town_58 rfl (by decide) rfl rfl ?_
      refine z_aload_n (q := 60) (i := 0) C 1 dX0_town_59 rfl rfl rfl ?_
      refine z_aload_n (q := 61) (i := 2) C 0 dX0_town_60 rfl rfl rfl ?_
      refine z_callVi (q := 64) (As := [.ref xx]) C (fun o ho => m_X0_faulty _ _ _ ho) zk0 vvX0_242 cdX0_faulty pnX0 dX0_town_61 rfl (by decide) (Nat.le_of_ble_eq_true rfl) hf rfl fun v12 σ hf => ?_
      exact z_ireturn C rfl dX0_town_64 (Option.some.inj hf)
    refine z_aload_n (q := 35) (i := 0) C 1 dX0_town_34 rfl rfl rfl ?_
    refine z_getR (q := 38) C flX0_55 dX0_town_35 hf rfl fun v7 hf => ?_
    refine z_getR (q := 41) C flX0_183 dX0_town_38 hf rfl fun v8 hf => ?_
    refine z_aload_n (q := 42) (i := 2) C 0 dX0_town_41 rfl rfl rfl ?_
    refine z_callVv (q := 45) (As := [.ref v2]) C (fun o ho => m_X5_begin _ _ _ ho) zk5 vvX0_235 cdX5_begin pnX5 dX0_town_42 rfl (by decide) (Nat.le_of_ble_eq_true rfl) hf rfl fun σ hf => ?_
    refine z_aload_n (q := 46) (i := 0) C 1 dX0_town_45 rfl rfl rfl ?_
    refine z_getR (q := 49) C flX0_55 dX0_town_46 hf rfl fun v10 hf => ?_
    refine z_null (q := 50) C dX0_town_49 rfl ?_
    refine z_putQ (q := 53) (v := none) C puX0_238 rfl dX0_town_50 hf rfl fun σ hf => ?_
    refine z_aload_n (q := 54) (i := 2) C 0 dX0_town_53 rfl rfl rfl ?_
    refine z_getI (q := 57) C flX0_200 dX0_town_54 hf rfl fun v11 hf => ?_
    exact z_ireturn C rfl dX0_town_57 (Option.some.inj hf)
  · refine z_iconst (q := 12) C (-1 : Int32) dX0_town_11 ki_m1 rfl ?_
    exact z_ireturn C rfl dX0_town_12 (Option.some.inj hf)

noncomputable def f_X0_orders (a0 : Nat) (i1 : Int32) (σ : ZT) : Option (Int32 × ZT) :=
  bnd2 (vc 0 a0 σ (f_X0_opens a0 i1 (300 : Int32) σ)) fun v1 σ =>
  if v1 = 0 then
  (some ((-1 : Int32), σ))
  else
  (bnd2 (nwO 16 3 σ) fun v2 σ =>
  (f_X16_init v2 (1 : Int32) σ).bind fun σ =>
  bnd2 (nwO 10 7 σ) fun v4 σ =>
  (f_X10_init v4 a0 i1 σ).bind fun σ =>
  bnd2 (vc 0 a0 σ (f_X0_town_2 a0 σ)) fun v6 σ =>
  bndXv (vc 10 v4 σ (f_X10_orders v4 v6 v2 σ)) (fun xx σ => vc 2 xx σ (bnd2 (vc 0 a0 σ (f_X0_faulty a0 xx σ)) fun v10 σ =>
  some (v10, σ))) fun σ =>
  (gR 0 10 a0 σ).bind fun v8 =>
  (pR 4 401 v8 (some v2) σ).bind fun σ =>
  (gI 10 1005 v4 σ).bind fun v9 =>
  some (v9, σ))
set_option maxHeartbeats 4000000 in
theorem m_X0_orders {l : Launch} {G : ZG} (a0 : Nat) (i1 : Int32) (σ : ZT) {out : (Int32 × ZT)} (hf : f_X0_orders a0 i1 σ = some out) : ZM l G yX0_orders cX0_orders 4 (some .int) [(13, 53, 54, 34)] 72 [.ref a0, .int i1] σ (.returned (some (.int out.1))) out.2 := by
  refine ZM.of [(0, .ref a0), (1, .int i1)] rfl (Nat.le_of_ble_eq_true rfl) fun X (C : ZC G RX0 "orders" cX0_orders 4 (some .int) [(13, 53, 54, 34)] X 72) => ?_
  unfold f_X0_orders at hf
  refine z_aload_n (q := 1) (i := 0) C 0 dX0_orders_0 rfl rfl rfl ?_
  refine z_iload_n (q := 2) (i := 1) C 1 dX0_orders_1 rfl rfl rfl ?_
  refine z_sipush (q := 5) C (300 : Int32) dX0_orders_2 ks_300 rfl ?_
  refine z_callVi (q := 8) (As := [.int i1, .int (300 : Int32)]) C (fun o ho => m_X0_opens _ _ _ _ ho) zk0 vvX0_222 cdX0_opens pnX0 dX0_orders_5 rfl (by decide) (Nat.le_of_ble_eq_true rfl) hf rfl fun v1 σ hf => ?_
  refine z_ifne (q := 11) (tgt := 13) C dX0_orders_8 (by decide) rfl hf (fun c8 hf => ?_) (fun c8 hf => ?_)
  · refine z_new (q := 16) C zk16 zty16 q1049 q1050 q172 dX0_orders_13 hf rfl fun v2 σ hf => ?_
    refine z_dup (q := 17) C dX0_orders_16 rfl rfl ?_
    refine z_iconst (q := 18) C (1 : Int32) dX0_orders_17 ki_1 rfl ?_
    refine z_callIv (q := 21) (As := [.int (1 : Int32)]) C (fun o ho => m_X16_init _ _ _ ho) viX0_248 pnX16 dX0_orders_18 rfl (by decide) (Nat.le_of_ble_eq_true rfl) hf rfl fun σ hf => ?_
    refine z_astore_n (q := 22) (i := 2) (lv' := [(2, .ref v2), (0, .ref a0), (1, .int i1)]) C dX0_orders_21 rfl (by decide) rfl rfl ?_
    refine z_new (q := 25) C zk10 zty10 q710 q711 q162 dX0_orders_22 hf rfl fun v4 σ hf => ?_
    refine z_dup (q := 26) C dX0_orders_25 rfl rfl ?_
    refine z_aload_n (q := 27) (i := 0) C 1 dX0_orders_26 rfl rfl rfl ?_
    refine z_iload_n (q := 28) (i := 1) C 2 dX0_orders_27 rfl rfl rfl ?_
    refine z_callIv (q := 31) (As := [.ref a0, .int i1]) C (fun o ho => m_X10_init _ _ _ _ ho) viX0_229 pnX10 dX0_orders_28 rfl (by decide) (Nat.le_of_ble_eq_true rfl) hf rfl fun σ hf => ?_
    refine z_astore_n (q := 32) (i := 3) (lv' := [(3, .ref v4), (2, .ref v2), (0, .ref a0), (1, .int i1)]) C dX0_orders_31 rfl (by decide) rfl rfl ?_
    refine z_aload_n (q := 33) (i := 3) C 0 dX0_orders_32 rfl rfl rfl ?_
    refine z_aload_n (q := 34) (i := 0) C 2 dX0_orders_33 rfl rfl rfl ?_
    refine z_callVr (q := 37) (As := []) C (fun o ho => m_X0_town_2 _ _ ho) zk0 vvX0_188 cdX0_town_2 pnX0 dX0_orders_34 rfl (by decide) (Nat.le_of_ble_eq_true rfl) hf rfl fun v6 σ hf => ?_
    refine z_aload_n (q := 38) (i := 2) C 1 dX0_orders_37 rfl rfl rfl ?_
    refine z_callXVv (q := 41) (As := [.ref v6, .ref v2]) C (fun o ho => m_X10_orders _ _ _ _ ho) zk10 vvX0_250 cdX10_orders pnX10 dX0_orders_38 rfl (by decide) (Nat.le_of_ble_eq_true rfl) hf rfl (fun xx σ hf T locs ls hP hL h1 h2 hl X0 => ?_) fun σ hf => ?_
    · refine zcaughtO (q := 54) C 0 rfl zk2 (by decide) (by decide) (fun j hj y hy => ?_) q196 (zNw_in q198 rfl) hf hP hL h1 h2 hl X0 rfl (fun hf => ?_)
      · exact absurd hj (Nat.not_lt_zero j)
      refine z_astore_n (q := 55) (i := 2) (lv' := [(2, .ref xx), (3, .ref v4), (0, .ref a0), (1, .int i1)]) C dX0_orders_54 rfl (by decide) rfl rfl ?_
      refine z_aload_n (q := 56) (i := 0) C 2 dX0_orders_55 rfl rfl rfl ?_
      refine z_aload_n (q := 57) (i := 2) C 0 dX0_orders_56 rfl rfl rfl ?_
      refine z_callVi (q := 60) (As := [.ref xx]) C (fun o ho => m_X0_faulty _ _ _ ho) zk0 vvX0_242 cdX0_faulty pnX0 dX0_orders_57 rfl (by decide) (Nat.le_of_ble_eq_true rfl) hf rfl fun v10 σ hf => ?_
      exact z_ireturn C rfl dX0_orders_60 (Option.some.inj hf)
    refine z_aload_n (q := 42) (i := 0) C 2 dX0_orders_41 rfl rfl rfl ?_
    refine z_getR (q := 45) C flX0_55 dX0_orders_42 hf rfl fun v8 hf => ?_
    refine z_aload_n (q := 46) (i := 2) C 1 dX0_orders_45 rfl rfl rfl ?_
    refine z_putR (q := 49) C puX0_238 rfl dX0_orders_46 hf rfl fun σ hf => ?_
    refine z_aload_n (q := 50) (i := 3) C 0 dX0_orders_49 rfl rfl rfl ?_
    refine z_getI (q := 53) C flX0_253 dX0_orders_50 hf rfl fun v9 hf => ?_
    exact z_ireturn C rfl dX0_orders_53 (Option.some.inj hf)
  · refine z_iconst (q := 12) C (-1 : Int32) dX0_orders_11 ki_m1 rfl ?_
    exact z_ireturn C rfl dX0_orders_12 (Option.some.inj hf)

noncomputable def f_X0_sortOf_J34 (w0_34 : Int32) (σ : ZT) : Option (Int32 × ZT) :=
  some (w0_34, σ)
noncomputable def f_X0_sortOf (a0 : Nat) (σ : ZT) : Option (Int32 × ZT) :=
  (izA 2 a0 σ).bind fun v1 =>
  if v1 = 0 then
  ((izA 3 a0 σ).bind fun v2 =>
  if v2 = 0 then
  ((izA 0 a0 σ).bind fun v3 =>
  if v3 = 0 then
  (f_X0_sortOf_J34 (3 : Int32) σ)
  else
  (f_X0_sortOf_J34 (2 : Int32) σ))
  else
  (f_X0_sortOf_J34 (1 : Int32) σ))
  else
  (f_X0_sortOf_J34 (0 : Int32) σ)
set_option maxHeartbeats 4000000 in
theorem m_X0_sortOf {l : Launch} {G : ZG} (a0 : Nat) (σ : ZT) {out : (Int32 × ZT)} (hf : f_X0_sortOf a0 σ = some out) : ZM l G yX0_sortOf cX0_sortOf 1 (some .int) [] 1 [.ref a0] σ (.returned (some (.int out.1))) out.2 := by
  refine ZM.of [(0, .ref a0)] rfl (Nat.le_of_ble_eq_true rfl) fun X (C : ZC G RX0 "sortOf" cX0_sortOf 1 (some .int) [] X 1) => ?_
  unfold f_X0_sortOf at hf
  have j34_0 : ∀ (w0_34 : Int32) (σ : ZT), f_X0_sortOf_J34 w0_34 σ = some out → ZW l G 1 X (ZQ G X (.returned (some (.int out.1))) out.2) σ 34 [] [.int w0_34] := by
    intro w0_34 σ hf
    unfold f_X0_sortOf_J34 at hf
    exact z_ireturn C rfl dX0_sortOf_34 (Option.some.inj hf)
  refine z_aload_n (q := 1) (i := 0) C 0 dX0_sortOf_0 rfl rfl rfl ?_
  refine z_instA (q := 4) C 2 (by decide) q665 dX0_sortOf_1 hf rfl fun v1 hf => ?_
  refine z_ifeq (q := 7) (tgt := 11) C dX0_sortOf_4 (by decide) rfl hf (fun c4 hf => ?_) (fun c4 hf => ?_)
  · refine z_aload_n (q := 12) (i := 0) C 0 dX0_sortOf_11 rfl rfl rfl ?_
    refine z_instA (q := 15) C 3 (by decide) q666 dX0_sortOf_12 hf rfl fun v2 hf => ?_
    refine z_ifeq (q := 18) (tgt := 22) C dX0_sortOf_15 (by decide) rfl hf (fun c15 hf => ?_) (fun c15 hf => ?_)
    · refine z_aload_n (q := 23) (i := 0) C 0 dX0_sortOf_22 rfl rfl rfl ?_
      refine z_instA (q := 26) C 0 (by decide) q667 dX0_sortOf_23 hf rfl fun v3 hf => ?_
      refine z_ifeq (q := 29) (tgt := 33) C dX0_sortOf_26 (by decide) rfl hf (fun c26 hf => ?_) (fun c26 hf => ?_)
      · refine z_iconst (q := 34) C (3 : Int32) dX0_sortOf_33 ki_3 rfl ?_
        refine z_lv [] rfl ?_
        exact j34_0 (3 : Int32) σ hf
      · refine z_iconst (q := 30) C (2 : Int32) dX0_sortOf_29 ki_2 rfl ?_
        refine z_goto (q := 34) C dX0_sortOf_30 (by decide) ?_
        refine z_lv [] rfl ?_
        exact j34_0 (2 : Int32) σ hf
    · refine z_iconst (q := 19) C (1 : Int32) dX0_sortOf_18 ki_1 rfl ?_
      refine z_goto (q := 34) C dX0_sortOf_19 (by decide) ?_
      refine z_lv [] rfl ?_
      exact j34_0 (1 : Int32) σ hf
  · refine z_iconst (q := 8) C (0 : Int32) dX0_sortOf_7 ki_0 rfl ?_
    refine z_goto (q := 34) C dX0_sortOf_8 (by decide) ?_
    refine z_lv [] rfl ?_
    exact j34_0 (0 : Int32) σ hf

noncomputable def f_X0_sizeOf_J52 (w0_52 : Int32) (σ : ZT) : Option (Int32 × ZT) :=
  some (w0_52, σ)
noncomputable def f_X0_sizeOf (a0 : Nat) (σ : ZT) : Option (Int32 × ZT) :=
  (izA 2 a0 σ).bind fun v1 =>
  if v1 = 0 then
  ((izA 3 a0 σ).bind fun v2 =>
  if v2 = 0 then
  ((izA 0 a0 σ).bind fun v3 =>
  if v3 = 0 then
  ((ckA 1 a0 σ).bind fun _ =>
  (zlen 1 a0 σ).bind fun v4 =>
  f_X0_sizeOf_J52 v4 σ)
  else
  ((ckA 0 a0 σ).bind fun _ =>
  (zlen 0 a0 σ).bind fun v5 =>
  f_X0_sizeOf_J52 v5 σ))
  else
  ((ckA 3 a0 σ).bind fun _ =>
  (zlen 3 a0 σ).bind fun v6 =>
  some (v6, σ)))
  else
  ((ckA 2 a0 σ).bind fun _ =>
  (zlen 2 a0 σ).bind fun v7 =>
  some (v7, σ))
set_option maxHeartbeats 4000000 in
theorem m_X0_sizeOf {l : Launch} {G : ZG} (a0 : Nat) (σ : ZT) {out : (Int32 × ZT)} (hf : f_X0_sizeOf a0 σ = some out) : ZM l G yX0_sizeOf cX0_sizeOf 2 (some .int) [] 1 [.ref a0] σ (.returned (some (.int out.1))) out.2 := by
  refine ZM.of [(0, .ref a0)] rfl (Nat.le_of_ble_eq_true rfl) fun X (C : ZC G RX0 "sizeOf" cX0_sizeOf 2 (some .int) [] X 1) => ?_
  unfold f_X0_sizeOf at hf
  have j52_0 : ∀ (w0_52 : Int32) (σ : ZT), f_X0_sizeOf_J52 w0_52 σ = some out → ZW l G 2 X (ZQ G X (.returned (some (.int out.1))) out.2) σ 52 [] [.int w0_52] := by
    intro w0_52 σ hf
    unfold f_X0_sizeOf_J52 at hf
    exact z_ireturn C rfl dX0_sizeOf_52 (Option.some.inj hf)
  refine z_aload_n (q := 1) (i := 0) C 0 dX0_sizeOf_0 rfl rfl rfl ?_
  refine z_instA (q := 4) C 2 (by decide) q665 dX0_sizeOf_1 hf rfl fun v1 hf => ?_
  refine z_ifeq (q := 7) (tgt := 15) C dX0_sizeOf_4 (by decide) rfl hf (fun c4 hf => ?_) (fun c4 hf => ?_)
  · refine z_aload_n (q := 16) (i := 0) C 0 dX0_sizeOf_15 rfl rfl rfl ?_
    refine z_instA (q := 19) C 3 (by decide) q666 dX0_sizeOf_16 hf rfl fun v2 hf => ?_
    refine z_ifeq (q := 22) (tgt := 30) C dX0_sizeOf_19 (by decide) rfl hf (fun c19 hf => ?_) (fun c19 hf => ?_)
    · refine z_aload_n (q := 31) (i := 0) C 0 dX0_sizeOf_30 rfl rfl rfl ?_
      refine z_instA (q := 34) C 0 (by decide) q667 dX0_sizeOf_31 hf rfl fun v3 hf => ?_
      refine z_ifeq (q := 37) (tgt := 47) C dX0_sizeOf_34 (by decide) rfl hf (fun c34 hf => ?_) (fun c34 hf => ?_)
      · refine z_aload_n (q := 48) (i := 0) C 0 dX0_sizeOf_47 rfl rfl rfl ?_
        refine z_castA (q := 51) C 1 (by decide) q668 dX0_sizeOf_48 hf rfl fun hf => ?_
        refine z_alen (q := 52) C 1 (by decide) dX0_sizeOf_51 hf rfl fun v4 hf => ?_
        refine z_lv [] rfl ?_
        exact j52_0 v4 σ hf
      · refine z_aload_n (q := 38) (i := 0) C 0 dX0_sizeOf_37 rfl rfl rfl ?_
        refine z_castA (q := 41) C 0 (by decide) q667 dX0_sizeOf_38 hf rfl fun hf => ?_
        refine z_astore_n (q := 42) (i := 1) (lv' := [(1, .ref a0), (0, .ref a0)]) C dX0_sizeOf_41 rfl (by decide) rfl rfl ?_
        refine z_aload_n (q := 43) (i := 1) C 0 dX0_sizeOf_42 rfl rfl rfl ?_
        refine z_alen (q := 44) C 0 (by decide) dX0_sizeOf_43 hf rfl fun v5 hf => ?_
        refine z_goto (q := 52) C dX0_sizeOf_44 (by decide) ?_
        refine z_lv [] rfl ?_
        exact j52_0 v5 σ hf
    · refine z_aload_n (q := 23) (i := 0) C 0 dX0_sizeOf_22 rfl rfl rfl ?_
      refine z_castA (q := 26) C 3 (by decide) q666 dX0_sizeOf_23 hf rfl fun hf => ?_
      refine z_astore_n (q := 27) (i := 1) (lv' := [(1, .ref a0), (0, .ref a0)]) C dX0_sizeOf_26 rfl (by decide) rfl rfl ?_
      refine z_aload_n (q := 28) (i := 1) C 0 dX0_sizeOf_27 rfl rfl rfl ?_
      refine z_alen (q := 29) C 3 (by decide) dX0_sizeOf_28 hf rfl fun v6 hf => ?_
      exact z_ireturn C rfl dX0_sizeOf_29 (Option.some.inj hf)
  · refine z_aload_n (q := 8) (i := 0) C 0 dX0_sizeOf_7 rfl rfl rfl ?_
    refine z_castA (q := 11) C 2 (by decide) q665 dX0_sizeOf_8 hf rfl fun hf => ?_
    refine z_astore_n (q := 12) (i := 1) (lv' := [(1, .ref a0), (0, .ref a0)]) C dX0_sizeOf_11 rfl (by decide) rfl rfl ?_
    refine z_aload_n (q := 13) (i := 1) C 0 dX0_sizeOf_12 rfl rfl rfl ?_
    refine z_alen (q := 14) C 2 (by decide) dX0_sizeOf_13 hf rfl fun v7 hf => ?_
    exact z_ireturn C rfl dX0_sizeOf_14 (Option.some.inj hf)

noncomputable def f_X0_number_J59 (w0_59 : Int64) (σ : ZT) : Option (Int64 × ZT) :=
  some (w0_59, σ)
noncomputable def f_X0_number (a0 : Nat) (i1 : Int32) (σ : ZT) : Option (Int64 × ZT) :=
  (izA 2 a0 σ).bind fun v1 =>
  if v1 = 0 then
  ((izA 3 a0 σ).bind fun v2 =>
  if v2 = 0 then
  ((izA 0 a0 σ).bind fun v3 =>
  if v3 = 0 then
  ((ckA 1 a0 σ).bind fun _ =>
  (ldL a0 i1 σ).bind fun v4 =>
  f_X0_number_J59 v4 σ)
  else
  ((ckA 0 a0 σ).bind fun _ =>
  (ldI 0 a0 i1 σ).bind fun v5 =>
  f_X0_number_J59 (v5.toInt64) σ))
  else
  ((ckA 3 a0 σ).bind fun _ =>
  (ldI 3 a0 i1 σ).bind fun v6 =>
  some ((v6.toInt64), σ)))
  else
  ((ckA 2 a0 σ).bind fun _ =>
  (ldI 2 a0 i1 σ).bind fun v7 =>
  some ((v7.toInt64), σ))
set_option maxHeartbeats 4000000 in
theorem m_X0_number {l : Launch} {G : ZG} (a0 : Nat) (i1 : Int32) (σ : ZT) {out : (Int64 × ZT)} (hf : f_X0_number a0 i1 σ = some out) : ZM l G yX0_number cX0_number 3 (some .long) [] 1 [.ref a0, .int i1] σ (.returned (some (.long out.1))) out.2 := by
  refine ZM.of [(0, .ref a0), (1, .int i1)] rfl (Nat.le_of_ble_eq_true rfl) fun X (C : ZC G RX0 "number" cX0_number 3 (some .long) [] X 1) => ?_
  unfold f_X0_number at hf
  have j59_0 : ∀ (w0_59 : Int64) (σ : ZT), f_X0_number_J59 w0_59 σ = some out → ZW l G 3 X (ZQ G X (.returned (some (.long out.1))) out.2) σ 59 [] [.long w0_59] := by
    intro w0_59 σ hf
    unfold f_X0_number_J59 at hf
    exact z_lreturn C rfl dX0_number_59 (Option.some.inj hf)
  refine z_aload_n (q := 1) (i := 0) C 0 dX0_number_0 rfl rfl rfl ?_
  refine z_instA (q := 4) C 2 (by decide) q665 dX0_number_1 hf rfl fun v1 hf => ?_
  refine z_ifeq (q := 7) (tgt := 17) C dX0_number_4 (by decide) rfl hf (fun c4 hf => ?_) (fun c4 hf => ?_)
  · refine z_aload_n (q := 18) (i := 0) C 0 dX0_number_17 rfl rfl rfl ?_
    refine z_instA (q := 21) C 3 (by decide) q666 dX0_number_18 hf rfl fun v2 hf => ?_
    refine z_ifeq (q := 24) (tgt := 34) C dX0_number_21 (by decide) rfl hf (fun c21 hf => ?_) (fun c21 hf => ?_)
    · refine z_aload_n (q := 35) (i := 0) C 0 dX0_number_34 rfl rfl rfl ?_
      refine z_instA (q := 38) C 0 (by decide) q667 dX0_number_35 hf rfl fun v3 hf => ?_
      refine z_ifeq (q := 41) (tgt := 53) C dX0_number_38 (by decide) rfl hf (fun c38 hf => ?_) (fun c38 hf => ?_)
      · refine z_aload_n (q := 54) (i := 0) C 0 dX0_number_53 rfl rfl rfl ?_
        refine z_castA (q := 57) C 1 (by decide) q668 dX0_number_54 hf rfl fun hf => ?_
        refine z_iload_n (q := 58) (i := 1) C 1 dX0_number_57 rfl rfl rfl ?_
        refine z_lald (q := 59) C dX0_number_58 hf rfl fun v4 hf => ?_
        refine z_lv [] rfl ?_
        exact j59_0 v4 σ hf
      · refine z_aload_n (q := 42) (i := 0) C 0 dX0_number_41 rfl rfl rfl ?_
        refine z_castA (q := 45) C 0 (by decide) q667 dX0_number_42 hf rfl fun hf => ?_
        refine z_astore_n (q := 46) (i := 2) (lv' := [(2, .ref a0), (0, .ref a0), (1, .int i1)]) C dX0_number_45 rfl (by decide) rfl rfl ?_
        refine z_aload_n (q := 47) (i := 2) C 0 dX0_number_46 rfl rfl rfl ?_
        refine z_iload_n (q := 48) (i := 1) C 2 dX0_number_47 rfl rfl rfl ?_
        refine z_iald (q := 49) C dX0_number_48 hf rfl fun v5 hf => ?_
        refine z_i2l (q := 50) C dX0_number_49 rfl ?_
        refine z_goto (q := 59) C dX0_number_50 (by decide) ?_
        refine z_lv [] rfl ?_
        exact j59_0 (v5.toInt64) σ hf
    · refine z_aload_n (q := 25) (i := 0) C 0 dX0_number_24 rfl rfl rfl ?_
      refine z_castA (q := 28) C 3 (by decide) q666 dX0_number_25 hf rfl fun hf => ?_
      refine z_astore_n (q := 29) (i := 2) (lv' := [(2, .ref a0), (0, .ref a0), (1, .int i1)]) C dX0_number_28 rfl (by decide) rfl rfl ?_
      refine z_aload_n (q := 30) (i := 2) C 0 dX0_number_29 rfl rfl rfl ?_
      refine z_iload_n (q := 31) (i := 1) C 2 dX0_number_30 rfl rfl rfl ?_
      refine z_sald (q := 32) C dX0_number_31 hf rfl fun v6 hf => ?_
      refine z_i2l (q := 33) C dX0_number_32 rfl ?_
      exact z_lreturn C rfl dX0_number_33 (Option.some.inj hf)
  · refine z_aload_n (q := 8) (i := 0) C 0 dX0_number_7 rfl rfl rfl ?_
    refine z_castA (q := 11) C 2 (by decide) q665 dX0_number_8 hf rfl fun hf => ?_
    refine z_astore_n (q := 12) (i := 2) (lv' := [(2, .ref a0), (0, .ref a0), (1, .int i1)]) C dX0_number_11 rfl (by decide) rfl rfl ?_
    refine z_aload_n (q := 13) (i := 2) C 0 dX0_number_12 rfl rfl rfl ?_
    refine z_iload_n (q := 14) (i := 1) C 2 dX0_number_13 rfl rfl rfl ?_
    refine z_bald (q := 15) C dX0_number_14 hf rfl fun v7 hf => ?_
    refine z_i2l (q := 16) C dX0_number_15 rfl ?_
    exact z_lreturn C rfl dX0_number_16 (Option.some.inj hf)

noncomputable def f_X0_put_J75  (σ : ZT) : Option ZT :=
  some σ
noncomputable def f_X0_put (a0 : Nat) (i1 : Int32) (l2 : Int64) (σ : ZT) : Option ZT :=
  (izA 2 a0 σ).bind fun v1 =>
  if v1 = 0 then
  ((izA 3 a0 σ).bind fun v2 =>
  if v2 = 0 then
  ((izA 0 a0 σ).bind fun v3 =>
  if v3 = 0 then
  ((ckA 1 a0 σ).bind fun _ =>
  (stL a0 i1 l2 σ).bind fun σ =>
  f_X0_put_J75  σ)
  else
  ((ckA 0 a0 σ).bind fun _ =>
  (stI a0 i1 (l2.toInt32) σ).bind fun σ =>
  f_X0_put_J75  σ))
  else
  ((ckA 3 a0 σ).bind fun _ =>
  (stS a0 i1 ((l2.toInt32).toInt16.toInt32) σ).bind fun σ =>
  f_X0_put_J75  σ))
  else
  ((ckA 2 a0 σ).bind fun _ =>
  (stB a0 i1 ((l2.toInt32).toInt8.toInt32) σ).bind fun σ =>
  f_X0_put_J75  σ)
set_option maxHeartbeats 4000000 in
theorem m_X0_put {l : Launch} {G : ZG} (a0 : Nat) (i1 : Int32) (l2 : Int64) (σ : ZT) {out : ZT} (hf : f_X0_put a0 i1 l2 σ = some out) : ZM l G yX0_put cX0_put 7 none [] 1 [.ref a0, .int i1, .long l2] σ (.returned none) out := by
  refine ZM.of [(0, .ref a0), (1, .int i1), (2, .long l2)] rfl (Nat.le_of_ble_eq_true rfl) fun X (C : ZC G RX0 "put" cX0_put 7 none [] X 1) => ?_
  unfold f_X0_put at hf
  have j75_0 : ∀  (σ : ZT), f_X0_put_J75  σ = some out → ZW l G 7 X (ZQ G X (.returned none) out) σ 75 [] [] := by
    intro  σ hf
    unfold f_X0_put_J75 at hf
    exact z_return C rfl dX0_put_75 (Option.some.inj hf)
  refine z_aload_n (q := 1) (i := 0) C 0 dX0_put_0 rfl rfl rfl ?_
  refine z_instA (q := 4) C 2 (by decide) q665 dX0_put_1 hf rfl fun v1 hf => ?_
  refine z_ifeq (q := 7) (tgt := 23) C dX0_put_4 (by decide) rfl hf (fun c4 hf => ?_) (fun c4 hf => ?_)
  · refine z_aload_n (q := 24) (i := 0) C 0 dX0_put_23 rfl rfl rfl ?_
    refine z_instA (q := 27) C 3 (by decide) q666 dX0_put_24 hf rfl fun v2 hf => ?_
    refine z_ifeq (q := 30) (tgt := 46) C dX0_put_27 (by decide) rfl hf (fun c27 hf => ?_) (fun c27 hf => ?_)
    · refine z_aload_n (q := 47) (i := 0) C 0 dX0_put_46 rfl rfl rfl ?_
      refine z_instA (q := 50) C 0 (by decide) q667 dX0_put_47 hf rfl fun v3 hf => ?_
      refine z_ifeq (q := 53) (tgt := 68) C dX0_put_50 (by decide) rfl hf (fun c50 hf => ?_) (fun c50 hf => ?_)
      · refine z_aload_n (q := 69) (i := 0) C 0 dX0_put_68 rfl rfl rfl ?_
        refine z_castA (q := 72) C 1 (by decide) q668 dX0_put_69 hf rfl fun hf => ?_
        refine z_iload_n (q := 73) (i := 1) C 1 dX0_put_72 rfl rfl rfl ?_
        refine z_lload_n (q := 74) (i := 2) C 2 dX0_put_73 rfl rfl rfl ?_
        refine z_last (q := 75) C dX0_put_74 hf rfl fun σ hf => ?_
        refine z_lv [] rfl ?_
        exact j75_0  σ hf
      · refine z_aload_n (q := 54) (i := 0) C 0 dX0_put_53 rfl rfl rfl ?_
        refine z_castA (q := 57) C 0 (by decide) q667 dX0_put_54 hf rfl fun hf => ?_
        refine z_astore (q := 59) (i := 6) (lv' := [(6, .ref a0), (0, .ref a0), (1, .int i1), (2, .long l2)]) C dX0_put_57 (by decide) rfl rfl ?_
        refine z_aload (q := 61) (i := 6) C 0 dX0_put_59 rfl rfl ?_
        refine z_iload_n (q := 62) (i := 1) C 2 dX0_put_61 rfl rfl rfl ?_
        refine z_lload_n (q := 63) (i := 2) C 3 dX0_put_62 rfl rfl rfl ?_
        refine z_l2i (q := 64) C dX0_put_63 rfl ?_
        refine z_iast (q := 65) C dX0_put_64 hf rfl fun σ hf => ?_
        refine z_goto (q := 75) C dX0_put_65 (by decide) ?_
        refine z_lv [] rfl ?_
        exact j75_0  σ hf
    · refine z_aload_n (q := 31) (i := 0) C 0 dX0_put_30 rfl rfl rfl ?_
      refine z_castA (q := 34) C 3 (by decide) q666 dX0_put_31 hf rfl fun hf => ?_
      refine z_astore (q := 36) (i := 5) (lv' := [(5, .ref a0), (0, .ref a0), (1, .int i1), (2, .long l2)]) C dX0_put_34 (by decide) rfl rfl ?_
      refine z_aload (q := 38) (i := 5) C 0 dX0_put_36 rfl rfl ?_
      refine z_iload_n (q := 39) (i := 1) C 2 dX0_put_38 rfl rfl rfl ?_
      refine z_lload_n (q := 40) (i := 2) C 3 dX0_put_39 rfl rfl rfl ?_
      refine z_l2i (q := 41) C dX0_put_40 rfl ?_
      refine z_i2s (q := 42) C dX0_put_41 rfl ?_
      refine z_sast (q := 43) C dX0_put_42 hf rfl fun σ hf => ?_
      refine z_goto (q := 75) C dX0_put_43 (by decide) ?_
      refine z_lv [] rfl ?_
      exact j75_0  σ hf
  · refine z_aload_n (q := 8) (i := 0) C 0 dX0_put_7 rfl rfl rfl ?_
    refine z_castA (q := 11) C 2 (by decide) q665 dX0_put_8 hf rfl fun hf => ?_
    refine z_astore (q := 13) (i := 4) (lv' := [(4, .ref a0), (0, .ref a0), (1, .int i1), (2, .long l2)]) C dX0_put_11 (by decide) rfl rfl ?_
    refine z_aload (q := 15) (i := 4) C 0 dX0_put_13 rfl rfl ?_
    refine z_iload_n (q := 16) (i := 1) C 2 dX0_put_15 rfl rfl rfl ?_
    refine z_lload_n (q := 17) (i := 2) C 3 dX0_put_16 rfl rfl rfl ?_
    refine z_l2i (q := 18) C dX0_put_17 rfl ?_
    refine z_i2b (q := 19) C dX0_put_18 rfl ?_
    refine z_bast (q := 20) C dX0_put_19 hf rfl fun σ hf => ?_
    refine z_goto (q := 75) C dX0_put_20 (by decide) ?_
    refine z_lv [] rfl ?_
    exact j75_0  σ hf

noncomputable def f_X0_row_J35 (w0_35 : Nat) (σ : ZT) : Option (Nat × ZT) :=
  some (w0_35, σ)
noncomputable def f_X0_row (i0 : Int32) (i1 : Int32) (σ : ZT) : Option (Nat × ZT) :=
  if i0 = 0 then
  (bnd2 (nwA 2 i1 σ) fun v4 σ =>
  f_X0_row_J35 v4 σ)
  else
  (if i0 = (1 : Int32) then
  (bnd2 (nwA 3 i1 σ) fun v3 σ =>
  f_X0_row_J35 v3 σ)
  else
  (if i0 = (2 : Int32) then
  (bnd2 (nwA 0 i1 σ) fun v2 σ =>
  f_X0_row_J35 v2 σ)
  else
  (bnd2 (nwA 1 i1 σ) fun v1 σ =>
  f_X0_row_J35 v1 σ)))
set_option maxHeartbeats 4000000 in
theorem m_X0_row {l : Launch} {G : ZG} (i0 : Int32) (i1 : Int32) (σ : ZT) {out : (Nat × ZT)} (hf : f_X0_row i0 i1 σ = some out) : ZM l G yX0_row cX0_row 2 (some (.object "java/lang/Object")) [] 1 [.int i0, .int i1] σ (.returned (some (.ref out.1))) out.2 := by
  refine ZM.of [(0, .int i0), (1, .int i1)] rfl (Nat.le_of_ble_eq_true rfl) fun X (C : ZC G RX0 "row" cX0_row 2 (some (.object "java/lang/Object")) [] X 1) => ?_
  unfold f_X0_row at hf
  have j35_0 : ∀ (w0_35 : Nat) (σ : ZT), f_X0_row_J35 w0_35 σ = some out → ZW l G 2 X (ZQ G X (.returned (some (.ref out.1))) out.2) σ 35 [] [.ref w0_35] := by
    intro w0_35 σ hf
    unfold f_X0_row_J35 at hf
    exact z_areturn C rfl dX0_row_35 (Option.some.inj hf)
  refine z_iload_n (q := 1) (i := 0) C 0 dX0_row_0 rfl rfl rfl ?_
  refine z_ifne (q := 4) (tgt := 10) C dX0_row_1 (by decide) rfl hf (fun c1 hf => ?_) (fun c1 hf => ?_)
  · refine z_iload_n (q := 11) (i := 0) C 0 dX0_row_10 rfl rfl rfl ?_
    refine z_iconst (q := 12) C (1 : Int32) dX0_row_11 ki_1 rfl ?_
    refine z_icmpne (q := 15) (tgt := 21) C dX0_row_12 (by decide) rfl hf (fun c12 hf => ?_) (fun c12 hf => ?_)
    · refine z_iload_n (q := 22) (i := 0) C 0 dX0_row_21 rfl rfl rfl ?_
      refine z_iconst (q := 23) C (2 : Int32) dX0_row_22 ki_2 rfl ?_
      refine z_icmpne (q := 26) (tgt := 32) C dX0_row_23 (by decide) rfl hf (fun c23 hf => ?_) (fun c23 hf => ?_)
      · refine z_iload_n (q := 33) (i := 1) C 1 dX0_row_32 rfl rfl rfl ?_
        refine z_newarr (q := 35) C 1 (by decide) rfl q366 dX0_row_33 hf rfl fun v1 σ hf => ?_
        refine z_lv [] rfl ?_
        exact j35_0 v1 σ hf
      · refine z_iload_n (q := 27) (i := 1) C 1 dX0_row_26 rfl rfl rfl ?_
        refine z_newarr (q := 29) C 0 (by decide) rfl q367 dX0_row_27 hf rfl fun v2 σ hf => ?_
        refine z_goto (q := 35) C dX0_row_29 (by decide) ?_
        refine z_lv [] rfl ?_
        exact j35_0 v2 σ hf
    · refine z_iload_n (q := 16) (i := 1) C 1 dX0_row_15 rfl rfl rfl ?_
      refine z_newarr (q := 18) C 3 (by decide) rfl q634 dX0_row_16 hf rfl fun v3 σ hf => ?_
      refine z_goto (q := 35) C dX0_row_18 (by decide) ?_
      refine z_lv [] rfl ?_
      exact j35_0 v3 σ hf
  · refine z_iload_n (q := 5) (i := 1) C 1 dX0_row_4 rfl rfl rfl ?_
    refine z_newarr (q := 7) C 2 (by decide) rfl q266 dX0_row_5 hf rfl fun v4 σ hf => ?_
    refine z_goto (q := 35) C dX0_row_7 (by decide) ?_
    refine z_lv [] rfl ?_
    exact j35_0 v4 σ hf

noncomputable def f_X0_rope_J243 (w0_243 : Int32) (σ : ZT) : Option (Int32 × ZT) :=
  some (w0_243, σ)
noncomputable def f_X0_rope_J227 (a0_227 : Nat) (i3_227 : Int32) (i5_227 : Int32) (i6_227 : Int32) (w0_227 : Int32) (w1_227 : Nat) (σ : ZT) : Option (Int32 × ZT) :=
  bndXv (vc 0 w1_227 σ (f_X0_want w1_227 w0_227 (7 : Int32) σ)) (fun xx σ => vc 3 xx σ (bnd2 (vc 0 a0_227 σ (f_X0_none a0_227 xx σ)) fun v33 σ =>
  some (v33, σ))) fun σ =>
  if i3_227 = 0 then
  (f_X0_rope_J243 i5_227 σ)
  else
  (f_X0_rope_J243 i6_227 σ)
noncomputable def f_X0_rope_J208_151 (a0_208 : Nat) (i2_208 : Int32) (i3_208 : Int32) (a4_208 : Nat) (i5_208 : Int32) (i6_208 : Int32) (i7_208 : Int32) (σ : ZT) : Option ((Int32 × Int32 × Int32 × ZT) ⊕ (Int32 × Int32 × ZT)) :=
  some (.inl (i5_208, i6_208, (i7_208 + (1 : Int32)), σ))
noncomputable def f_X0_rope_L151 (c0_151 : Nat) (c2_151 : Int32) (c3_151 : Int32) (c4_151 : Nat) (i_11 : Int32) (i_12 : Int32) (i_13 : Int32) (σ : ZT) : Option ((Int32 × Int32 × Int32 × ZT) ⊕ (Int32 × Int32 × ZT)) :=
  if i_13 < c2_151 then
  (bnd2 (f_X0_number c4_151 ((2 : Int32) * i_13) σ) fun v14 σ =>
  bnd2 (f_X0_number c4_151 (((2 : Int32) * i_13) + (1 : Int32)) σ) fun v15 σ =>
  if (lg_cmp v15 (1 : Int64)) = 0 then
  (f_X0_rope_J208_151 c0_151 c2_151 c3_151 c4_151 i_11 (if (v14.toInt32) < i_12 then (v14.toInt32) else i_12) i_13 σ)
  else
  (f_X0_rope_J208_151 c0_151 c2_151 c3_151 c4_151 (if i_11 < ((v14.toInt32) + (1 : Int32)) then ((v14.toInt32) + (1 : Int32)) else i_11) i_12 i_13 σ))
  else
  (some (.inr (i_11, i_12, σ)))
noncomputable def f_X0_rope_J130_80 (a0_130 : Nat) (i2_130 : Int32) (i3_130 : Int32) (a4_130 : Nat) (i5_130 : Int32) (w0_130 : Int32) (w1_130 : Nat) (σ : ZT) : Option ((Int32 × ZT) ⊕ ((Int32 × ZT) ⊕ ZT)) :=
  bndXv (vc 0 w1_130 σ (f_X0_want w1_130 w0_130 (5 : Int32) σ)) (fun xx σ => vc 3 xx σ (bnd2 (vc 0 a0_130 σ (f_X0_none a0_130 xx σ)) fun v23 σ =>
  some (.inr (.inl (v23, σ))))) fun σ =>
  some (.inl ((i5_130 + (1 : Int32)), σ))
noncomputable def f_X0_rope_J129_80 (a0_129 : Nat) (i2_129 : Int32) (i3_129 : Int32) (a4_129 : Nat) (i5_129 : Int32) (w0_129 : Nat) (σ : ZT) : Option ((Int32 × ZT) ⊕ ((Int32 × ZT) ⊕ ZT)) :=
  f_X0_rope_J130_80 a0_129 i2_129 i3_129 a4_129 i5_129 (0 : Int32) w0_129 σ
noncomputable def f_X0_rope_L80 (c0_80 : Nat) (c2_80 : Int32) (c3_80 : Int32) (c4_80 : Nat) (i_10 : Int32) (σ : ZT) : Option ((Int32 × ZT) ⊕ ((Int32 × ZT) ⊕ ZT)) :=
  if i_10 < c2_80 then
  (bnd2 (f_X0_number c4_80 ((2 : Int32) * i_10) σ) fun v18 σ =>
  bnd2 (f_X0_isIn v18 (0 : Int64) (9999 : Int64) σ) fun v19 σ =>
  if v19 = 0 then
  (f_X0_rope_J129_80 c0_80 c2_80 c3_80 c4_80 i_10 c0_80 σ)
  else
  (bnd2 (f_X0_number c4_80 (((2 : Int32) * i_10) + (1 : Int32)) σ) fun v20 σ =>
  bnd2 (f_X0_isIn v20 (0 : Int64) (1 : Int64) σ) fun v21 σ =>
  if v21 = 0 then
  (f_X0_rope_J129_80 c0_80 c2_80 c3_80 c4_80 i_10 c0_80 σ)
  else
  (f_X0_rope_J130_80 c0_80 c2_80 c3_80 c4_80 i_10 (1 : Int32) c0_80 σ)))
  else
  (some (.inr (.inr σ)))
noncomputable def f_X0_rope_J73 (a0_73 : Nat) (i2_73 : Int32) (i3_73 : Int32) (a4_73 : Nat) (w0_73 : Int32) (w1_73 : Nat) (σ : ZT) : Option (Int32 × ZT) :=
  bndXv (vc 0 w1_73 σ (f_X0_want w1_73 w0_73 (3 : Int32) σ)) (fun xx σ => vc 3 xx σ (bnd2 (vc 0 a0_73 σ (f_X0_none a0_73 xx σ)) fun v31 σ =>
  some (v31, σ))) fun σ =>
  (loopC (fun s : (Int32 × ZT) => f_X0_rope_L80 a0_73 i2_73 i3_73 a4_73 s.1 s.2) ((0 : Int32), σ)).bind fun x => (match x with
  | .inl o => some o
  | .inr σ => (loopC (fun s : (Int32 × Int32 × Int32 × ZT) => f_X0_rope_L151 a0_73 i2_73 i3_73 a4_73 s.1 s.2.1 s.2.2.1 s.2.2.2) ((0 : Int32), (9999 : Int32), (0 : Int32), σ)).bind fun x => (match x with
  | (x29, x30, σ) => if x30 < x29 then
  (f_X0_rope_J227 a0_73 i3_73 x29 x30 (0 : Int32) a0_73 σ)
  else
  (f_X0_rope_J227 a0_73 i3_73 x29 x30 (1 : Int32) a0_73 σ)))
noncomputable def f_X0_rope_J45 (a0_45 : Nat) (i1_45 : Int32) (i2_45 : Int32) (i3_45 : Int32) (w0_45 : Int32) (w1_45 : Nat) (σ : ZT) : Option (Int32 × ZT) :=
  bndXv (vc 0 w1_45 σ (f_X0_want w1_45 w0_45 (1 : Int32) σ)) (fun xx σ => vc 3 xx σ (bnd2 (vc 0 a0_45 σ (f_X0_none a0_45 xx σ)) fun v8 σ =>
  some (v8, σ))) fun σ =>
  bndX (vc 0 a0_45 σ (f_X0_on a0_45 i1_45 σ)) (fun xx σ => vc 3 xx σ (bnd2 (vc 0 a0_45 σ (f_X0_none a0_45 xx σ)) fun v7 σ =>
  some (v7, σ))) fun v5 σ =>
  bnd2 (f_X0_sizeOf v5 σ) fun v6 σ =>
  if v6 < ((2 : Int32) * i2_45) then
  (f_X0_rope_J73 a0_45 i2_45 i3_45 v5 (0 : Int32) a0_45 σ)
  else
  (f_X0_rope_J73 a0_45 i2_45 i3_45 v5 (1 : Int32) a0_45 σ)
noncomputable def f_X0_rope_J44 (a0_44 : Nat) (i1_44 : Int32) (i2_44 : Int32) (i3_44 : Int32) (w0_44 : Nat) (σ : ZT) : Option (Int32 × ZT) :=
  f_X0_rope_J45 a0_44 i1_44 i2_44 i3_44 (0 : Int32) w0_44 σ
noncomputable def f_X0_rope (a0 : Nat) (i1 : Int32) (i2 : Int32) (i3 : Int32) (σ : ZT) : Option (Int32 × ZT) :=
  (pI 0 7 a0 (0 : Int32) σ).bind fun σ =>
  bnd2 (f_X0_isIn (i1.toInt64) (0 : Int64) (3 : Int64) σ) fun v1 σ =>
  if v1 = 0 then
  (f_X0_rope_J44 a0 i1 i2 i3 a0 σ)
  else
  (bnd2 (f_X0_isIn (i2.toInt64) (1 : Int64) (30 : Int64) σ) fun v2 σ =>
  if v2 = 0 then
  (f_X0_rope_J44 a0 i1 i2 i3 a0 σ)
  else
  (bnd2 (f_X0_isIn (i3.toInt64) (0 : Int64) (1 : Int64) σ) fun v3 σ =>
  if v3 = 0 then
  (f_X0_rope_J44 a0 i1 i2 i3 a0 σ)
  else
  (f_X0_rope_J45 a0 i1 i2 i3 (1 : Int32) a0 σ)))
set_option maxHeartbeats 4000000 in
theorem m_X0_rope {l : Launch} {G : ZG} (a0 : Nat) (i1 : Int32) (i2 : Int32) (i3 : Int32) (σ : ZT) {out : (Int32 × ZT)} (hf : f_X0_rope a0 i1 i2 i3 σ = some out) : ZM l G yX0_rope cX0_rope 9 (some .int) [(5, 243, 244, 41)] 6 [.ref a0, .int i1, .int i2, .int i3] σ (.returned (some (.int out.1))) out.2 := by
  refine ZM.of [(0, .ref a0), (1, .int i1), (2, .int i2), (3, .int i3)] rfl (Nat.le_of_ble_eq_true rfl) fun X (C : ZC G RX0 "rope" cX0_rope 9 (some .int) [(5, 243, 244, 41)] X 6) => ?_
  unfold f_X0_rope at hf
  have j243_0 : ∀ (w0_243 : Int32) (σ : ZT), f_X0_rope_J243 w0_243 σ = some out → ZW l G 9 X (ZQ G X (.returned (some (.int out.1))) out.2) σ 243 [] [.int w0_243] := by
    intro w0_243 σ hf
    unfold f_X0_rope_J243 at hf
    exact z_ireturn C rfl dX0_rope_243 (Option.some.inj hf)
  have j227_0 : ∀ (a0_227 : Nat) (i3_227 : Int32) (i5_227 : Int32) (i6_227 : Int32) (w0_227 : Int32) (w1_227 : Nat) (σ : ZT), f_X0_rope_J227 a0_227 i3_227 i5_227 i6_227 w0_227 w1_227 σ = some out → ZW l G 9 X (ZQ G X (.returned (some (.int out.1))) out.2) σ 227 [(0, .ref a0_227), (3, .int i3_227), (5, .int i5_227), (6, .int i6_227)] [.int w0_227, .ref w1_227] := by
    intro a0_227 i3_227 i5_227 i6_227 w0_227 w1_227 σ hf
    unfold f_X0_rope_J227 at hf
    refine z_bipush (q := 229) C (7 : Int32) dX0_rope_227 kb_7 rfl ?_
    refine z_callXVv (q := 232) (As := [.int w0_227, .int (7 : Int32)]) C (fun o ho => m_X0_want _ _ _ _ ho) zk0 vvX0_135 cdX0_want pnX0 dX0_rope_229 rfl (by decide) (Nat.le_of_ble_eq_true rfl) hf rfl (fun xx σ hf T locs ls hP hL h1 h2 hl X0 => ?_) fun σ hf => ?_
    · refine zcaughtO (q := 244) C 0 rfl zk3 (by decide) (by decide) (fun j hj y hy => ?_) q267 (zNw_in q269 rfl) hf hP hL h1 h2 hl X0 rfl (fun hf => ?_)
      · exact absurd hj (Nat.not_lt_zero j)
      refine z_astore (q := 246) (i := 4) (lv' := [(4, .ref xx), (0, .ref a0_227), (3, .int i3_227), (5, .int i5_227), (6, .int i6_227)]) C dX0_rope_244 (by decide) rfl rfl ?_
      refine z_aload_n (q := 247) (i := 0) C 1 dX0_rope_246 rfl rfl rfl ?_
      refine z_aload (q := 249) (i := 4) C 0 dX0_rope_247 rfl rfl ?_
      refine z_callVi (q := 252) (As := [.ref xx]) C (fun o ho => m_X0_none _ _ _ ho) zk0 vvX0_167 cdX0_none pnX0 dX0_rope_249 rfl (by decide) (Nat.le_of_ble_eq_true rfl) hf rfl fun v24 σ hf => ?_
      exact z_ireturn C rfl dX0_rope_252 (Option.some.inj hf)
    refine z_iload_n (q := 233) (i := 3) C 1 dX0_rope_232 rfl rfl rfl ?_
    refine z_ifne (q := 236) (tgt := 241) C dX0_rope_233 (by decide) rfl hf (fun c233 hf => ?_) (fun c233 hf => ?_)
    · refine z_iload (q := 243) (i := 6) C 3 dX0_rope_241 rfl rfl ?_
      refine z_lv [] rfl ?_
      exact j243_0 i6_227 σ hf
    · refine z_iload (q := 238) (i := 5) C 2 dX0_rope_236 rfl rfl ?_
      refine z_goto (q := 243) C dX0_rope_238 (by decide) ?_
      refine z_lv [] rfl ?_
      exact j243_0 i5_227 σ hf
  have j73_0 : ∀ (a0_73 : Nat) (i2_73 : Int32) (i3_73 : Int32) (a4_73 : Nat) (w0_73 : Int32) (w1_73 : Nat) (σ : ZT), f_X0_rope_J73 a0_73 i2_73 i3_73 a4_73 w0_73 w1_73 σ = some out → ZW l G 9 X (ZQ G X (.returned (some (.int out.1))) out.2) σ 73 [(0, .ref a0_73), (2, .int i2_73), (3, .int i3_73), (4, .ref a4_73)] [.int w0_73, .ref w1_73] := by
    intro a0_73 i2_73 i3_73 a4_73 w0_73 w1_73 σ hf
    unfold f_X0_rope_J73 at hf
    refine z_iconst (q := 74) C (3 : Int32) dX0_rope_73 ki_3 rfl ?_
    refine z_callXVv (q := 77) (As := [.int w0_73, .int (3 : Int32)]) C (fun o ho => m_X0_want _ _ _ _ ho) zk0 vvX0_135 cdX0_want pnX0 dX0_rope_74 rfl (by decide) (Nat.le_of_ble_eq_true rfl) hf rfl (fun xx σ hf T locs ls hP hL h1 h2 hl X0 => ?_) fun σ hf => ?_
    · refine zcaughtO (q := 244) C 0 rfl zk3 (by decide) (by decide) (fun j hj y hy => ?_) q267 (zNw_in q269 rfl) hf hP hL h1 h2 hl X0 rfl (fun hf => ?_)
      · exact absurd hj (Nat.not_lt_zero j)
      refine z_astore (q := 246) (i := 4) (lv' := [(4, .ref xx), (0, .ref a0_73), (2, .int i2_73), (3, .int i3_73)]) C dX0_rope_244 (by decide) rfl rfl ?_
      refine z_aload_n (q := 247) (i := 0) C 1 dX0_rope_246 rfl rfl rfl ?_
      refine z_aload (q := 249) (i := 4) C 0 dX0_rope_247 rfl rfl ?_
      refine z_callVi (q := 252) (As := [.ref xx]) C (fun o ho => m_X0_none _ _ _ ho) zk0 vvX0_167 cdX0_none pnX0 dX0_rope_249 rfl (by decide) (Nat.le_of_ble_eq_true rfl) hf rfl fun v22 σ hf => ?_
      exact z_ireturn C rfl dX0_rope_252 (Option.some.inj hf)
    refine z_iconst (q := 78) C (0 : Int32) dX0_rope_77 ki_0 rfl ?_
    refine z_istore (q := 80) (i := 5) (lv' := [(5, .int (0 : Int32)), (0, .ref a0_73), (2, .int i2_73), (3, .int i3_73), (4, .ref a4_73)]) C dX0_rope_78 (by decide) rfl rfl ?_
    refine z_lv [1, 2, 3, 4, 0] rfl ?_
    obtain ⟨r1, hr1, hk1⟩ := Option.bind_eq_some_iff.mp hf
    refine loopC_ind (P := fun s => ZW l G 9 X (ZQ G X (.returned (some (.int out.1))) out.2) s.2 80 [(0, .ref a0_73), (2, .int i2_73), (3, .int i3_73), (4, .ref a4_73), (5, .int s.1)] []) (fun s x1 hf hx1 => ?_) hr1
    obtain ⟨i_10, σ⟩ := s
    unfold f_X0_rope_L80 at hf
    try dsimp only at hf
    try dsimp only
    have j130_1 : ∀ (i5_130 : Int32) (w0_130 : Int32) (w1_130 : Nat) (σ : ZT), f_X0_rope_J130_80 a0_73 i2_73 i3_73 a4_73 i5_130 w0_130 w1_130 σ = some x1 → ZW l G 9 X (ZQ G X (.returned (some (.int out.1))) out.2) σ 130 [(0, .ref a0_73), (2, .int i2_73), (3, .int i3_73), (4, .ref a4_73), (5, .int i5_130)] [.int w0_130, .ref w1_130] := by
      intro i5_130 w0_130 w1_130 σ hf
      unfold f_X0_rope_J130_80 at hf
      refine z_iconst (q := 131) C (5 : Int32) dX0_rope_130 ki_5 rfl ?_
      refine z_callXVv (q := 134) (As := [.int w0_130, .int (5 : Int32)]) C (fun o ho => m_X0_want _ _ _ _ ho) zk0 vvX0_135 cdX0_want pnX0 dX0_rope_131 rfl (by decide) (Nat.le_of_ble_eq_true rfl) hf rfl (fun xx σ hf T locs ls hP hL h1 h2 hl X0 => ?_) fun σ hf => ?_
      · refine zcaughtO (q := 244) C 0 rfl zk3 (by decide) (by decide) (fun j hj y hy => ?_) q267 (zNw_in q269 rfl) hf hP hL h1 h2 hl X0 rfl (fun hf => ?_)
        · exact absurd hj (Nat.not_lt_zero j)
        refine z_astore (q := 246) (i := 4) (lv' := [(4, .ref xx), (0, .ref a0_73), (2, .int i2_73), (3, .int i3_73), (5, .int i5_130)]) C dX0_rope_244 (by decide) rfl rfl ?_
        refine z_aload_n (q := 247) (i := 0) C 1 dX0_rope_246 rfl rfl rfl ?_
        refine z_aload (q := 249) (i := 4) C 0 dX0_rope_247 rfl rfl ?_
        refine z_callVi (q := 252) (As := [.ref xx]) C (fun o ho => m_X0_none _ _ _ ho) zk0 vvX0_167 cdX0_none pnX0 dX0_rope_249 rfl (by decide) (Nat.le_of_ble_eq_true rfl) hf rfl fun v21 σ hf => ?_
        have e1 := zl_x hf hx1
        have hf := hk1
        rw [← e1] at hf
        try dsimp only at hf
        exact z_ireturn C rfl dX0_rope_252 (Option.some.inj hf)
      refine z_iinc (q := 137) (i := 5) (lv' := [(5, .int (i5_130 + (1 : Int32))), (0, .ref a0_73), (2, .int i2_73), (3, .int i3_73), (4, .ref a4_73)]) C 4 (i5_130 + (1 : Int32)) dX0_rope_134 rfl (kn_1 _) (by decide) rfl rfl ?_
      refine z_goto (q := 80) C dX0_rope_137 (by decide) ?_
      refine z_lv [1, 2, 3, 4, 0] rfl ?_
      have hc1 := zl_c hf hx1
      exact hc1
    have j129_1 : ∀ (i5_129 : Int32) (w0_129 : Nat) (σ : ZT), f_X0_rope_J129_80 a0_73 i2_73 i3_73 a4_73 i5_129 w0_129 σ = some x1 → ZW l G 9 X (ZQ G X (.returned (some (.int out.1))) out.2) σ 129 [(0, .ref a0_73), (2, .int i2_73), (3, .int i3_73), (4, .ref a4_73), (5, .int i5_129)] [.ref w0_129] := by
      intro i5_129 w0_129 σ hf
      unfold f_X0_rope_J129_80 at hf
      refine z_iconst (q := 130) C (0 : Int32) dX0_rope_129 ki_0 rfl ?_
      exact j130_1 i5_129 (0 : Int32) w0_129 σ hf
    refine z_iload (q := 82) (i := 5) C 4 dX0_rope_80 rfl rfl ?_
    refine z_iload_n (q := 83) (i := 2) C 1 dX0_rope_82 rfl rfl rfl ?_
    refine z_icmpge (q := 86) (tgt := 140) C dX0_rope_83 (by decide) rfl hf (fun c83 hf => ?_) (fun c83 hf => ?_)
    · have e1 := zl_x hf hx1
      have hf := hk1
      rw [← e1] at hf
      try dsimp only at hf
      refine z_iconst (q := 141) C (0 : Int32) dX0_rope_140 ki_0 rfl ?_
      refine z_istore (q := 143) (i := 5) (lv' := [(5, .int (0 : Int32)), (0, .ref a0_73), (2, .int i2_73), (3, .int i3_73), (4, .ref a4_73)]) C dX0_rope_141 (by decide) rfl rfl ?_
      refine z_sipush (q := 146) C (9999 : Int32) dX0_rope_143 ks_9999 rfl ?_
      refine z_istore (q := 148) (i := 6) (lv' := [(6, .int (9999 : Int32)), (5, .int (0 : Int32)), (0, .ref a0_73), (2, .int i2_73), (3, .int i3_73), (4, .ref a4_73)]) C dX0_rope_146 (by decide) rfl rfl ?_
      refine z_iconst (q := 149) C (0 : Int32) dX0_rope_148 ki_0 rfl ?_
      refine z_istore (q := 151) (i := 7) (lv' := [(7, .int (0 : Int32)), (6, .int (9999 : Int32)), (5, .int (0 : Int32)), (0, .ref a0_73), (2, .int i2_73), (3, .int i3_73), (4, .ref a4_73)]) C dX0_rope_149 (by decide) rfl rfl ?_
      refine z_lv [3, 4, 5, 6, 2, 1, 0] rfl ?_
      obtain ⟨r1, hr1, hk1⟩ := Option.bind_eq_some_iff.mp hf
      refine loopC_ind (P := fun s => ZW l G 9 X (ZQ G X (.returned (some (.int out.1))) out.2) s.2.2.2 151 [(0, .ref a0_73), (2, .int i2_73), (3, .int i3_73), (4, .ref a4_73), (5, .int s.1), (6, .int s.2.1), (7, .int s.2.2.1)] []) (fun s x1 hf hx1 => ?_) hr1
      obtain ⟨i_11, i_12, i_13, σ⟩ := s
      unfold f_X0_rope_L151 at hf
      try dsimp only at hf
      try dsimp only
      have j208_1 : ∀ (i5_208 : Int32) (i6_208 : Int32) (i7_208 : Int32) (σ : ZT), f_X0_rope_J208_151 a0_73 i2_73 i3_73 a4_73 i5_208 i6_208 i7_208 σ = some x1 → ZW l G 9 X (ZQ G X (.returned (some (.int out.1))) out.2) σ 208 [(0, .ref a0_73), (2, .int i2_73), (3, .int i3_73), (4, .ref a4_73), (5, .int i5_208), (6, .int i6_208), (7, .int i7_208)] [] := by
        intro i5_208 i6_208 i7_208 σ hf
        unfold f_X0_rope_J208_151 at hf
        refine z_iinc (q := 211) (i := 7) (lv' := [(7, .int (i7_208 + (1 : Int32))), (0, .ref a0_73), (2, .int i2_73), (3, .int i3_73), (4, .ref a4_73), (5, .int i5_208), (6, .int i6_208)]) C 6 (i7_208 + (1 : Int32)) dX0_rope_208 rfl (kn_1 _) (by decide) rfl rfl ?_
        refine z_goto (q := 151) C dX0_rope_211 (by decide) ?_
        refine z_lv [1, 2, 3, 4, 5, 6, 0] rfl ?_
        have hc1 := zl_c hf hx1
        exact hc1
      refine z_iload (q := 153) (i := 7) C 6 dX0_rope_151 rfl rfl ?_
      refine z_iload_n (q := 154) (i := 2) C 1 dX0_rope_153 rfl rfl rfl ?_
      refine z_icmpge (q := 157) (tgt := 214) C dX0_rope_154 (by decide) rfl hf (fun c154 hf => ?_) (fun c154 hf => ?_)
      · have e1 := zl_x hf hx1
        have hf := hk1
        rw [← e1] at hf
        try dsimp only at hf
        refine z_aload_n (q := 215) (i := 0) C 0 dX0_rope_214 rfl rfl rfl ?_
        refine z_iload (q := 217) (i := 5) C 4 dX0_rope_215 rfl rfl ?_
        refine z_iload (q := 219) (i := 6) C 5 dX0_rope_217 rfl rfl ?_
        refine z_icmpgt (q := 222) (tgt := 226) C dX0_rope_219 (by decide) rfl hf (fun c219 hf => ?_) (fun c219 hf => ?_)
        · refine z_iconst (q := 227) C (0 : Int32) dX0_rope_226 ki_0 rfl ?_
          refine z_lv [0, 2, 4, 5] rfl ?_
          exact j227_0 a0_73 i3_73 i_11 i_12 (0 : Int32) a0_73 σ hf
        · refine z_iconst (q := 223) C (1 : Int32) dX0_rope_222 ki_1 rfl ?_
          refine z_goto (q := 227) C dX0_rope_223 (by decide) ?_
          refine z_lv [0, 2, 4, 5] rfl ?_
          exact j227_0 a0_73 i3_73 i_11 i_12 (1 : Int32) a0_73 σ hf
      · refine z_aload (q := 159) (i := 4) C 3 dX0_rope_157 rfl rfl ?_
        refine z_iconst (q := 160) C (2 : Int32) dX0_rope_159 ki_2 rfl ?_
        refine z_iload (q := 162) (i := 7) C 6 dX0_rope_160 rfl rfl ?_
        refine z_imul (q := 163) C dX0_rope_162 rfl ?_
        refine z_callSl (q := 166) (As := [.ref a4_73, .int ((2 : Int32) * i_13)]) C (fun o ho => m_X0_number _ _ _ ho) vsX0_161 cdX0_number pnX0 dX0_rope_163 rfl (by decide) (Nat.le_of_ble_eq_true rfl) hf rfl fun v14 σ hf => ?_
        refine z_l2i (q := 167) C dX0_rope_166 rfl ?_
        refine z_istore (q := 169) (i := 8) (lv' := [(8, .int (v14.toInt32)), (0, .ref a0_73), (2, .int i2_73), (3, .int i3_73), (4, .ref a4_73), (5, .int i_11), (6, .int i_12), (7, .int i_13)]) C dX0_rope_167 (by decide) rfl rfl ?_
        refine z_aload (q := 171) (i := 4) C 4 dX0_rope_169 rfl rfl ?_
        refine z_iconst (q := 172) C (2 : Int32) dX0_rope_171 ki_2 rfl ?_
        refine z_iload (q := 174) (i := 7) C 7 dX0_rope_172 rfl rfl ?_
        refine z_imul (q := 175) C dX0_rope_174 rfl ?_
        refine z_iconst (q := 176) C (1 : Int32) dX0_rope_175 ki_1 rfl ?_
        refine z_iadd (q := 177) C dX0_rope_176 rfl ?_
        refine z_callSl (q := 180) (As := [.ref a4_73, .int (((2 : Int32) * i_13) + (1 : Int32))]) C (fun o ho => m_X0_number _ _ _ ho) vsX0_161 cdX0_number pnX0 dX0_rope_177 rfl (by decide) (Nat.le_of_ble_eq_true rfl) hf rfl fun v15 σ hf => ?_
        refine z_lconst (q := 181) C (1 : Int64) dX0_rope_180 rfl rfl ?_
        refine z_lcmp (q := 182) C dX0_rope_181 rfl ?_
        refine z_ifne (q := 185) (tgt := 197) C dX0_rope_182 (by decide) rfl hf (fun c182 hf => ?_) (fun c182 hf => ?_)
        · refine z_iload (q := 199) (i := 5) C 5 dX0_rope_197 rfl rfl ?_
          refine z_iload (q := 201) (i := 8) C 0 dX0_rope_199 rfl rfl ?_
          refine z_iconst (q := 202) C (1 : Int32) dX0_rope_201 ki_1 rfl ?_
          refine z_iadd (q := 203) C dX0_rope_202 rfl ?_
          refine z_mmax (q := 206) C q1426 dX0_rope_203 (by decide) (Nat.le_of_ble_eq_true rfl) rfl ?_
          refine z_istore (q := 208) (i := 5) (lv' := [(5, .int (if i_11 < ((v14.toInt32) + (1 : Int32)) then ((v14.toInt32) + (1 : Int32)) else i_11)), (8, .int (v14.toInt32)), (0, .ref a0_73), (2, .int i2_73), (3, .int i3_73), (4, .ref a4_73), (6, .int i_12), (7, .int i_13)]) C dX0_rope_206 (by decide) rfl rfl ?_
          refine z_lv [2, 3, 4, 5, 0, 6, 7] rfl ?_
          exact j208_1 (if i_11 < ((v14.toInt32) + (1 : Int32)) then ((v14.toInt32) + (1 : Int32)) else i_11) i_12 i_13 σ hf
        · refine z_iload (q := 187) (i := 6) C 6 dX0_rope_185 rfl rfl ?_
          refine z_iload (q := 189) (i := 8) C 0 dX0_rope_187 rfl rfl ?_
          refine z_mmin (q := 192) C q1476 dX0_rope_189 (by decide) (Nat.le_of_ble_eq_true rfl) rfl ?_
          refine z_istore (q := 194) (i := 6) (lv' := [(6, .int (if (v14.toInt32) < i_12 then (v14.toInt32) else i_12)), (8, .int (v14.toInt32)), (0, .ref a0_73), (2, .int i2_73), (3, .int i3_73), (4, .ref a4_73), (5, .int i_11), (7, .int i_13)]) C dX0_rope_192 (by decide) rfl rfl ?_
          refine z_goto (q := 208) C dX0_rope_194 (by decide) ?_
          refine z_lv [2, 3, 4, 5, 6, 0, 7] rfl ?_
          exact j208_1 i_11 (if (v14.toInt32) < i_12 then (v14.toInt32) else i_12) i_13 σ hf
    · refine z_aload_n (q := 87) (i := 0) C 0 dX0_rope_86 rfl rfl rfl ?_
      refine z_aload (q := 89) (i := 4) C 3 dX0_rope_87 rfl rfl ?_
      refine z_iconst (q := 90) C (2 : Int32) dX0_rope_89 ki_2 rfl ?_
      refine z_iload (q := 92) (i := 5) C 4 dX0_rope_90 rfl rfl ?_
      refine z_imul (q := 93) C dX0_rope_92 rfl ?_
      refine z_callSl (q := 96) (As := [.ref a4_73, .int ((2 : Int32) * i_10)]) C (fun o ho => m_X0_number _ _ _ ho) vsX0_161 cdX0_number pnX0 dX0_rope_93 rfl (by decide) (Nat.le_of_ble_eq_true rfl) hf rfl fun v16 σ hf => ?_
      refine z_lconst (q := 97) C (0 : Int64) dX0_rope_96 rfl rfl ?_
      refine z_ldc2 (q := 100) C q1475 dX0_rope_97 rfl ?_
      refine z_callSi (q := 103) (As := [.long v16, .long (0 : Int64), .long (9999 : Int64)]) C (fun o ho => m_X0_isIn _ _ _ _ ho) vsX0_196 cdX0_isIn pnX0 dX0_rope_100 rfl (by decide) (Nat.le_of_ble_eq_true rfl) hf rfl fun v17 σ hf => ?_
      refine z_ifeq (q := 106) (tgt := 129) C dX0_rope_103 (by decide) rfl hf (fun c103 hf => ?_) (fun c103 hf => ?_)
      · exact j129_1 i_10 a0_73 σ hf
      · refine z_aload (q := 108) (i := 4) C 3 dX0_rope_106 rfl rfl ?_
        refine z_iconst (q := 109) C (2 : Int32) dX0_rope_108 ki_2 rfl ?_
        refine z_iload (q := 111) (i := 5) C 4 dX0_rope_109 rfl rfl ?_
        refine z_imul (q := 112) C dX0_rope_111 rfl ?_
        refine z_iconst (q := 113) C (1 : Int32) dX0_rope_112 ki_1 rfl ?_
        refine z_iadd (q := 114) C dX0_rope_113 rfl ?_
        refine z_callSl (q := 117) (As := [.ref a4_73, .int (((2 : Int32) * i_10) + (1 : Int32))]) C (fun o ho => m_X0_number _ _ _ ho) vsX0_161 cdX0_number pnX0 dX0_rope_114 rfl (by decide) (Nat.le_of_ble_eq_true rfl) hf rfl fun v18 σ hf => ?_
        refine z_lconst (q := 118) C (0 : Int64) dX0_rope_117 rfl rfl ?_
        refine z_lconst (q := 119) C (1 : Int64) dX0_rope_118 rfl rfl ?_
        refine z_callSi (q := 122) (As := [.long v18, .long (0 : Int64), .long (1 : Int64)]) C (fun o ho => m_X0_isIn _ _ _ _ ho) vsX0_196 cdX0_isIn pnX0 dX0_rope_119 rfl (by decide) (Nat.le_of_ble_eq_true rfl) hf rfl fun v19 σ hf => ?_
        refine z_ifeq (q := 125) (tgt := 129) C dX0_rope_122 (by decide) rfl hf (fun c122 hf => ?_) (fun c122 hf => ?_)
        · exact j129_1 i_10 a0_73 σ hf
        · refine z_iconst (q := 126) C (1 : Int32) dX0_rope_125 ki_1 rfl ?_
          refine z_goto (q := 130) C dX0_rope_126 (by decide) ?_
          exact j130_1 i_10 (1 : Int32) a0_73 σ hf
  have j45_0 : ∀ (a0_45 : Nat) (i1_45 : Int32) (i2_45 : Int32) (i3_45 : Int32) (w0_45 : Int32) (w1_45 : Nat) (σ : ZT), f_X0_rope_J45 a0_45 i1_45 i2_45 i3_45 w0_45 w1_45 σ = some out → ZW l G 9 X (ZQ G X (.returned (some (.int out.1))) out.2) σ 45 [(0, .ref a0_45), (1, .int i1_45), (2, .int i2_45), (3, .int i3_45)] [.int w0_45, .ref w1_45] := by
    intro a0_45 i1_45 i2_45 i3_45 w0_45 w1_45 σ hf
    unfold f_X0_rope_J45 at hf
    refine z_iconst (q := 46) C (1 : Int32) dX0_rope_45 ki_1 rfl ?_
    refine z_callXVv (q := 49) (As := [.int w0_45, .int (1 : Int32)]) C (fun o ho => m_X0_want _ _ _ _ ho) zk0 vvX0_135 cdX0_want pnX0 dX0_rope_46 rfl (by decide) (Nat.le_of_ble_eq_true rfl) hf rfl (fun xx σ hf T locs ls hP hL h1 h2 hl X0 => ?_) fun σ hf => ?_
    · refine zcaughtO (q := 244) C 0 rfl zk3 (by decide) (by decide) (fun j hj y hy => ?_) q267 (zNw_in q269 rfl) hf hP hL h1 h2 hl X0 rfl (fun hf => ?_)
      · exact absurd hj (Nat.not_lt_zero j)
      refine z_astore (q := 246) (i := 4) (lv' := [(4, .ref xx), (0, .ref a0_45), (1, .int i1_45), (2, .int i2_45), (3, .int i3_45)]) C dX0_rope_244 (by decide) rfl rfl ?_
      refine z_aload_n (q := 247) (i := 0) C 1 dX0_rope_246 rfl rfl rfl ?_
      refine z_aload (q := 249) (i := 4) C 0 dX0_rope_247 rfl rfl ?_
      refine z_callVi (q := 252) (As := [.ref xx]) C (fun o ho => m_X0_none _ _ _ ho) zk0 vvX0_167 cdX0_none pnX0 dX0_rope_249 rfl (by decide) (Nat.le_of_ble_eq_true rfl) hf rfl fun v8 σ hf => ?_
      exact z_ireturn C rfl dX0_rope_252 (Option.some.inj hf)
    refine z_aload_n (q := 50) (i := 0) C 0 dX0_rope_49 rfl rfl rfl ?_
    refine z_iload_n (q := 51) (i := 1) C 1 dX0_rope_50 rfl rfl rfl ?_
    refine z_callXVr (q := 54) (As := [.int i1_45]) C (fun o ho => m_X0_on _ _ _ ho) zk0 vvX0_151 cdX0_on pnX0 dX0_rope_51 rfl (by decide) (Nat.le_of_ble_eq_true rfl) hf rfl (fun xx σ hf T locs ls hP hL h1 h2 hl X0 => ?_) fun v5 σ hf => ?_
    · refine zcaughtO (q := 244) C 0 rfl zk3 (by decide) (by decide) (fun j hj y hy => ?_) q267 (zNw_in q269 rfl) hf hP hL h1 h2 hl X0 rfl (fun hf => ?_)
      · exact absurd hj (Nat.not_lt_zero j)
      refine z_astore (q := 246) (i := 4) (lv' := [(4, .ref xx), (0, .ref a0_45), (1, .int i1_45), (2, .int i2_45), (3, .int i3_45)]) C dX0_rope_244 (by decide) rfl rfl ?_
      refine z_aload_n (q := 247) (i := 0) C 1 dX0_rope_246 rfl rfl rfl ?_
      refine z_aload (q := 249) (i := 4) C 0 dX0_rope_247 rfl rfl ?_
      refine z_callVi (q := 252) (As := [.ref xx]) C (fun o ho => m_X0_none _ _ _ ho) zk0 vvX0_167 cdX0_none pnX0 dX0_rope_249 rfl (by decide) (Nat.le_of_ble_eq_true rfl) hf rfl fun v7 σ hf => ?_
      exact z_ireturn C rfl dX0_rope_252 (Option.some.inj hf)
    refine z_astore (q := 56) (i := 4) (lv' := [(4, .ref v5), (0, .ref a0_45), (1, .int i1_45), (2, .int i2_45), (3, .int i3_45)]) C dX0_rope_54 (by decide) rfl rfl ?_
    refine z_aload_n (q := 57) (i := 0) C 1 dX0_rope_56 rfl rfl rfl ?_
    refine z_iconst (q := 58) C (2 : Int32) dX0_rope_57 ki_2 rfl ?_
    refine z_iload_n (q := 59) (i := 2) C 3 dX0_rope_58 rfl rfl rfl ?_
    refine z_imul (q := 60) C dX0_rope_59 rfl ?_
    refine z_aload (q := 62) (i := 4) C 0 dX0_rope_60 rfl rfl ?_
    refine z_callSi (q := 65) (As := [.ref v5]) C (fun o ho => m_X0_sizeOf _ _ ho) vsX0_472 cdX0_sizeOf pnX0 dX0_rope_62 rfl (by decide) (Nat.le_of_ble_eq_true rfl) hf rfl fun v6 σ hf => ?_
    refine z_icmpgt (q := 68) (tgt := 72) C dX0_rope_65 (by decide) rfl hf (fun c65 hf => ?_) (fun c65 hf => ?_)
    · refine z_iconst (q := 73) C (0 : Int32) dX0_rope_72 ki_0 rfl ?_
      refine z_lv [1, 3, 4, 0] rfl ?_
      exact j73_0 a0_45 i2_45 i3_45 v5 (0 : Int32) a0_45 σ hf
    · refine z_iconst (q := 69) C (1 : Int32) dX0_rope_68 ki_1 rfl ?_
      refine z_goto (q := 73) C dX0_rope_69 (by decide) ?_
      refine z_lv [1, 3, 4, 0] rfl ?_
      exact j73_0 a0_45 i2_45 i3_45 v5 (1 : Int32) a0_45 σ hf
  have j44_0 : ∀ (a0_44 : Nat) (i1_44 : Int32) (i2_44 : Int32) (i3_44 : Int32) (w0_44 : Nat) (σ : ZT), f_X0_rope_J44 a0_44 i1_44 i2_44 i3_44 w0_44 σ = some out → ZW l G 9 X (ZQ G X (.returned (some (.int out.1))) out.2) σ 44 [(0, .ref a0_44), (1, .int i1_44), (2, .int i2_44), (3, .int i3_44)] [.ref w0_44] := by
    intro a0_44 i1_44 i2_44 i3_44 w0_44 σ hf
    unfold f_X0_rope_J44 at hf
    refine z_iconst (q := 45) C (0 : Int32) dX0_rope_44 ki_0 rfl ?_
    exact j45_0 a0_44 i1_44 i2_44 i3_44 (0 : Int32) w0_44 σ hf
  refine z_aload_n (q := 1) (i := 0) C 0 dX0_rope_0 rfl rfl rfl ?_
  refine z_iconst (q := 2) C (0 : Int32) dX0_rope_1 ki_0 rfl ?_
  refine z_putI (q := 5) C puX0_110 dX0_rope_2 hf rfl fun σ hf => ?_
  refine z_aload_n (q := 6) (i := 0) C 0 dX0_rope_5 rfl rfl rfl ?_
  refine z_iload_n (q := 7) (i := 1) C 1 dX0_rope_6 rfl rfl rfl ?_
  refine z_i2l (q := 8) C dX0_rope_7 rfl ?_
  refine z_lconst (q := 9) C (0 : Int64) dX0_rope_8 rfl rfl ?_
  refine z_ldc2 (q := 12) C q1216 dX0_rope_9 rfl ?_
  refine z_callSi (q := 15) (As := [.long (i1.toInt64), .long (0 : Int64), .long (3 : Int64)]) C (fun o ho => m_X0_isIn _ _ _ _ ho) vsX0_196 cdX0_isIn pnX0 dX0_rope_12 rfl (by decide) (Nat.le_of_ble_eq_true rfl) hf rfl fun v1 σ hf => ?_
  refine z_ifeq (q := 18) (tgt := 44) C dX0_rope_15 (by decide) rfl hf (fun c15 hf => ?_) (fun c15 hf => ?_)
  · exact j44_0 a0 i1 i2 i3 a0 σ hf
  · refine z_iload_n (q := 19) (i := 2) C 2 dX0_rope_18 rfl rfl rfl ?_
    refine z_i2l (q := 20) C dX0_rope_19 rfl ?_
    refine z_lconst (q := 21) C (1 : Int64) dX0_rope_20 rfl rfl ?_
    refine z_ldc2 (q := 24) C q1471 dX0_rope_21 rfl ?_
    refine z_callSi (q := 27) (As := [.long (i2.toInt64), .long (1 : Int64), .long (30 : Int64)]) C (fun o ho => m_X0_isIn _ _ _ _ ho) vsX0_196 cdX0_isIn pnX0 dX0_rope_24 rfl (by decide) (Nat.le_of_ble_eq_true rfl) hf rfl fun v2 σ hf => ?_
    refine z_ifeq (q := 30) (tgt := 44) C dX0_rope_27 (by decide) rfl hf (fun c27 hf => ?_) (fun c27 hf => ?_)
    · exact j44_0 a0 i1 i2 i3 a0 σ hf
    · refine z_iload_n (q := 31) (i := 3) C 3 dX0_rope_30 rfl rfl rfl ?_
      refine z_i2l (q := 32) C dX0_rope_31 rfl ?_
      refine z_lconst (q := 33) C (0 : Int64) dX0_rope_32 rfl rfl ?_
      refine z_lconst (q := 34) C (1 : Int64) dX0_rope_33 rfl rfl ?_
      refine z_callSi (q := 37) (As := [.long (i3.toInt64), .long (0 : Int64), .long (1 : Int64)]) C (fun o ho => m_X0_isIn _ _ _ _ ho) vsX0_196 cdX0_isIn pnX0 dX0_rope_34 rfl (by decide) (Nat.le_of_ble_eq_true rfl) hf rfl fun v3 σ hf => ?_
      refine z_ifeq (q := 40) (tgt := 44) C dX0_rope_37 (by decide) rfl hf (fun c37 hf => ?_) (fun c37 hf => ?_)
      · exact j44_0 a0 i1 i2 i3 a0 σ hf
      · refine z_iconst (q := 41) C (1 : Int32) dX0_rope_40 ki_1 rfl ?_
        refine z_goto (q := 45) C dX0_rope_41 (by decide) ?_
        exact j45_0 a0 i1 i2 i3 (1 : Int32) a0 σ hf

