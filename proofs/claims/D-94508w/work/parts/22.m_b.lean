set_option maxRecDepth 100000
noncomputable def f_X9_aMan (a0 : Nat) (i1 : Int32) (σ : ZT) : Option (Int32 × ZT) :=
  bnd2 (vc 9 a0 σ (f_X9_orderName a0 i1 (2 : Int32) (14 : Int32) σ)) fun v1 σ =>
  (rz v1).bind fun z2 =>
  some (z2, σ)
set_option maxHeartbeats 4000000 in
theorem m_X9_aMan {l : Launch} {G : ZG} (a0 : Nat) (i1 : Int32) (σ : ZT) {out : (Int32 × ZT)} (hf : f_X9_aMan a0 i1 σ = some out) : ZM l G yX9_aMan cX9_aMan 2 (some .boolean) [] 10 [.ref a0, .int i1] σ (.returned (some (.int out.1))) out.2 := by
  refine ZM.of [(0, .ref a0), (1, .int i1)] rfl (Nat.le_of_ble_eq_true rfl) fun X (C : ZC G RX9 "aMan" cX9_aMan 2 (some .boolean) [] X 10) => ?_
  unfold f_X9_aMan at hf
  refine z_aload_n (q := 1) (i := 0) C 0 dX9_aMan_0 rfl rfl rfl ?_
  refine z_iload_n (q := 2) (i := 1) C 1 dX9_aMan_1 rfl rfl rfl ?_
  refine z_iconst (q := 3) C (2 : Int32) dX9_aMan_2 ki_2 rfl ?_
  refine z_bipush (q := 5) C (14 : Int32) dX9_aMan_3 kb_14 rfl ?_
  refine z_callVi (q := 8) (As := [.int i1, .int (2 : Int32), .int (14 : Int32)]) C (fun o ho => m_X9_orderName _ _ _ _ _ ho) zk9 vvX9_261 cdX9_orderName pnX9 dX9_aMan_5 rfl (by decide) (Nat.le_of_ble_eq_true rfl) hf rfl fun v1 σ hf => ?_
  refine z_rz C hf fun hn hf => ?_
  exact z_zreturn C rfl hn dX9_aMan_8 (Option.some.inj hf)

noncomputable def f_X9_aTest_J96 (w0_96 : Int32) (σ : ZT) : Option (Int32 × ZT) :=
  (rz w0_96).bind fun z10 =>
  some (z10, σ)
noncomputable def f_X9_aTest_J91  (σ : ZT) : Option (Int32 × ZT) :=
  f_X9_aTest_J96 (1 : Int32) σ
noncomputable def f_X9_aTest_J95  (σ : ZT) : Option (Int32 × ZT) :=
  f_X9_aTest_J96 (0 : Int32) σ
noncomputable def f_X9_aTest_J31 (a0_31 : Nat) (i1_31 : Int32) (i2_31 : Int32) (σ : ZT) : Option (Int32 × ZT) :=
  (gR 9 900 a0_31 σ).bind fun v4 =>
  (stI v4 i1_31 ((2400 : Int32) + i2_31) σ).bind fun σ =>
  (vc 9 a0_31 σ (f_X9_ahead a0_31 σ)).bind fun σ =>
  if i2_31 = (25 : Int32) then
  (bnd2 (vc 9 a0_31 σ (f_X9_orderName a0_31 (i1_31 + (1 : Int32)) (1 : Int32) (6 : Int32) σ)) fun v8 σ =>
  (rz v8).bind fun z9 =>
  some (z9, σ))
  else
  (bnd2 (vc 9 a0_31 σ (f_X9_aMan a0_31 (i1_31 + (1 : Int32)) σ)) fun v6 σ =>
  if v6 = 0 then
  (f_X9_aTest_J95  σ)
  else
  (if i2_31 = (26 : Int32) then
  (f_X9_aTest_J91  σ)
  else
  (bnd2 (vc 9 a0_31 σ (f_X9_orderName a0_31 (i1_31 + (2 : Int32)) (0 : Int32) (0 : Int32) σ)) fun v7 σ =>
  if v7 = 0 then
  (f_X9_aTest_J95  σ)
  else
  (f_X9_aTest_J91  σ))))
noncomputable def f_X9_aTest (a0 : Nat) (i1 : Int32) (σ : ZT) : Option (Int32 × ZT) :=
  bnd2 (vc 9 a0 σ (f_X9_inWords a0 30 σ)) fun v1 σ =>
  if v1 = (15 : Int32) then
  (f_X9_aTest_J31 a0 i1 v1 σ)
  else
  (if v1 = (25 : Int32) then
  (f_X9_aTest_J31 a0 i1 v1 σ)
  else
  (if v1 = (26 : Int32) then
  (f_X9_aTest_J31 a0 i1 v1 σ)
  else
  (bnd2 (vc 9 a0 σ (f_X9_fails a0 (2 : Int32) σ)) fun v2 σ =>
  (rz v2).bind fun z3 =>
  some (z3, σ))))
set_option maxHeartbeats 4000000 in
theorem m_X9_aTest {l : Launch} {G : ZG} (a0 : Nat) (i1 : Int32) (σ : ZT) {out : (Int32 × ZT)} (hf : f_X9_aTest a0 i1 σ = some out) : ZM l G yX9_aTest cX9_aTest 3 (some .boolean) [] 11 [.ref a0, .int i1] σ (.returned (some (.int out.1))) out.2 := by
  refine ZM.of [(0, .ref a0), (1, .int i1)] rfl (Nat.le_of_ble_eq_true rfl) fun X (C : ZC G RX9 "aTest" cX9_aTest 3 (some .boolean) [] X 11) => ?_
  unfold f_X9_aTest at hf
  have j96_0 : ∀ (w0_96 : Int32) (σ : ZT), f_X9_aTest_J96 w0_96 σ = some out → ZW l G 3 X (ZQ G X (.returned (some (.int out.1))) out.2) σ 96 [] [.int w0_96] := by
    intro w0_96 σ hf
    unfold f_X9_aTest_J96 at hf
    refine z_rz C hf fun hn hf => ?_
    exact z_zreturn C rfl hn dX9_aTest_96 (Option.some.inj hf)
  have j95_0 : ∀  (σ : ZT), f_X9_aTest_J95  σ = some out → ZW l G 3 X (ZQ G X (.returned (some (.int out.1))) out.2) σ 95 [] [] := by
    intro  σ hf
    unfold f_X9_aTest_J95 at hf
    refine z_iconst (q := 96) C (0 : Int32) dX9_aTest_95 ki_0 rfl ?_
    exact j96_0 (0 : Int32) σ hf
  have j91_0 : ∀  (σ : ZT), f_X9_aTest_J91  σ = some out → ZW l G 3 X (ZQ G X (.returned (some (.int out.1))) out.2) σ 91 [] [] := by
    intro  σ hf
    unfold f_X9_aTest_J91 at hf
    refine z_iconst (q := 92) C (1 : Int32) dX9_aTest_91 ki_1 rfl ?_
    refine z_goto (q := 96) C dX9_aTest_92 (by decide) ?_
    exact j96_0 (1 : Int32) σ hf
  have j31_0 : ∀ (a0_31 : Nat) (i1_31 : Int32) (i2_31 : Int32) (σ : ZT), f_X9_aTest_J31 a0_31 i1_31 i2_31 σ = some out → ZW l G 3 X (ZQ G X (.returned (some (.int out.1))) out.2) σ 31 [(0, .ref a0_31), (1, .int i1_31), (2, .int i2_31)] [] := by
    intro a0_31 i1_31 i2_31 σ hf
    unfold f_X9_aTest_J31 at hf
    refine z_aload_n (q := 32) (i := 0) C 0 dX9_aTest_31 rfl rfl rfl ?_
    refine z_getR (q := 35) C flX9_7 dX9_aTest_32 hf rfl fun v4 hf => ?_
    refine z_iload_n (q := 36) (i := 1) C 1 dX9_aTest_35 rfl rfl rfl ?_
    refine z_sipush (q := 39) C (2400 : Int32) dX9_aTest_36 ks_2400 rfl ?_
    refine z_iload_n (q := 40) (i := 2) C 2 dX9_aTest_39 rfl rfl rfl ?_
    refine z_iadd (q := 41) C dX9_aTest_40 rfl ?_
    refine z_iast (q := 42) C dX9_aTest_41 hf rfl fun σ hf => ?_
    refine z_aload_n (q := 43) (i := 0) C 0 dX9_aTest_42 rfl rfl rfl ?_
    refine z_callVv (q := 46) (As := []) C (fun o ho => m_X9_ahead _ _ ho) zk9 vvX9_180 cdX9_ahead pnX9 dX9_aTest_43 rfl (by decide) (Nat.le_of_ble_eq_true rfl) hf rfl fun σ hf => ?_
    refine z_iload_n (q := 47) (i := 2) C 2 dX9_aTest_46 rfl rfl rfl ?_
    refine z_bipush (q := 49) C (25 : Int32) dX9_aTest_47 kb_25 rfl ?_
    refine z_icmpne (q := 52) (tgt := 63) C dX9_aTest_49 (by decide) rfl hf (fun c49 hf => ?_) (fun c49 hf => ?_)
    · refine z_aload_n (q := 64) (i := 0) C 0 dX9_aTest_63 rfl rfl rfl ?_
      refine z_iload_n (q := 65) (i := 1) C 1 dX9_aTest_64 rfl rfl rfl ?_
      refine z_iconst (q := 66) C (1 : Int32) dX9_aTest_65 ki_1 rfl ?_
      refine z_iadd (q := 67) C dX9_aTest_66 rfl ?_
      refine z_callVi (q := 70) (As := [.int (i1_31 + (1 : Int32))]) C (fun o ho => m_X9_aMan _ _ _ ho) zk9 vvX9_264 cdX9_aMan pnX9 dX9_aTest_67 rfl (by decide) (Nat.le_of_ble_eq_true rfl) hf rfl fun v6 σ hf => ?_
      refine z_ifeq (q := 73) (tgt := 95) C dX9_aTest_70 (by decide) rfl hf (fun c70 hf => ?_) (fun c70 hf => ?_)
      · refine z_lv [] rfl ?_
        exact j95_0  σ hf
      · refine z_iload_n (q := 74) (i := 2) C 2 dX9_aTest_73 rfl rfl rfl ?_
        refine z_bipush (q := 76) C (26 : Int32) dX9_aTest_74 kb_26 rfl ?_
        refine z_icmpeq (q := 79) (tgt := 91) C dX9_aTest_76 (by decide) rfl hf (fun c76 hf => ?_) (fun c76 hf => ?_)
        · refine z_lv [] rfl ?_
          exact j91_0  σ hf
        · refine z_aload_n (q := 80) (i := 0) C 0 dX9_aTest_79 rfl rfl rfl ?_
          refine z_iload_n (q := 81) (i := 1) C 1 dX9_aTest_80 rfl rfl rfl ?_
          refine z_iconst (q := 82) C (2 : Int32) dX9_aTest_81 ki_2 rfl ?_
          refine z_iadd (q := 83) C dX9_aTest_82 rfl ?_
          refine z_iconst (q := 84) C (0 : Int32) dX9_aTest_83 ki_0 rfl ?_
          refine z_iconst (q := 85) C (0 : Int32) dX9_aTest_84 ki_0 rfl ?_
          refine z_callVi (q := 88) (As := [.int (i1_31 + (2 : Int32)), .int (0 : Int32), .int (0 : Int32)]) C (fun o ho => m_X9_orderName _ _ _ _ _ ho) zk9 vvX9_261 cdX9_orderName pnX9 dX9_aTest_85 rfl (by decide) (Nat.le_of_ble_eq_true rfl) hf rfl fun v7 σ hf => ?_
          refine z_ifeq (q := 91) (tgt := 95) C dX9_aTest_88 (by decide) rfl hf (fun c88 hf => ?_) (fun c88 hf => ?_)
          · refine z_lv [] rfl ?_
            exact j95_0  σ hf
          · refine z_lv [] rfl ?_
            exact j91_0  σ hf
    · refine z_aload_n (q := 53) (i := 0) C 0 dX9_aTest_52 rfl rfl rfl ?_
      refine z_iload_n (q := 54) (i := 1) C 1 dX9_aTest_53 rfl rfl rfl ?_
      refine z_iconst (q := 55) C (1 : Int32) dX9_aTest_54 ki_1 rfl ?_
      refine z_iadd (q := 56) C dX9_aTest_55 rfl ?_
      refine z_iconst (q := 57) C (1 : Int32) dX9_aTest_56 ki_1 rfl ?_
      refine z_bipush (q := 59) C (6 : Int32) dX9_aTest_57 kb_6 rfl ?_
      refine z_callVi (q := 62) (As := [.int (i1_31 + (1 : Int32)), .int (1 : Int32), .int (6 : Int32)]) C (fun o ho => m_X9_orderName _ _ _ _ _ ho) zk9 vvX9_261 cdX9_orderName pnX9 dX9_aTest_59 rfl (by decide) (Nat.le_of_ble_eq_true rfl) hf rfl fun v8 σ hf => ?_
      refine z_rz C hf fun hn hf => ?_
      exact z_zreturn C rfl hn dX9_aTest_62 (Option.some.inj hf)
  refine z_aload_n (q := 1) (i := 0) C 0 dX9_aTest_0 rfl rfl rfl ?_
  refine z_ldcS (q := 3) C 30 (by decide) rfl rfl dX9_aTest_1 rfl ?_
  refine z_callVi (q := 6) (As := [.ref (gS G 30)]) C (fun o ho => m_X9_inWords _ _ _ ho) zk9 vvX9_189 cdX9_inWords pnX9 dX9_aTest_3 rfl (by decide) (Nat.le_of_ble_eq_true rfl) hf rfl fun v1 σ hf => ?_
  refine z_istore_n (q := 7) (i := 2) (lv' := [(2, .int v1), (0, .ref a0), (1, .int i1)]) C dX9_aTest_6 rfl (by decide) rfl rfl ?_
  refine z_iload_n (q := 8) (i := 2) C 0 dX9_aTest_7 rfl rfl rfl ?_
  refine z_bipush (q := 10) C (15 : Int32) dX9_aTest_8 kb_15 rfl ?_
  refine z_icmpeq (q := 13) (tgt := 31) C dX9_aTest_10 (by decide) rfl hf (fun c10 hf => ?_) (fun c10 hf => ?_)
  · refine z_lv [1, 2, 0] rfl ?_
    exact j31_0 a0 i1 v1 σ hf
  · refine z_iload_n (q := 14) (i := 2) C 0 dX9_aTest_13 rfl rfl rfl ?_
    refine z_bipush (q := 16) C (25 : Int32) dX9_aTest_14 kb_25 rfl ?_
    refine z_icmpeq (q := 19) (tgt := 31) C dX9_aTest_16 (by decide) rfl hf (fun c16 hf => ?_) (fun c16 hf => ?_)
    · refine z_lv [1, 2, 0] rfl ?_
      exact j31_0 a0 i1 v1 σ hf
    · refine z_iload_n (q := 20) (i := 2) C 0 dX9_aTest_19 rfl rfl rfl ?_
      refine z_bipush (q := 22) C (26 : Int32) dX9_aTest_20 kb_26 rfl ?_
      refine z_icmpeq (q := 25) (tgt := 31) C dX9_aTest_22 (by decide) rfl hf (fun c22 hf => ?_) (fun c22 hf => ?_)
      · refine z_lv [1, 2, 0] rfl ?_
        exact j31_0 a0 i1 v1 σ hf
      · refine z_aload_n (q := 26) (i := 0) C 1 dX9_aTest_25 rfl rfl rfl ?_
        refine z_iconst (q := 27) C (2 : Int32) dX9_aTest_26 ki_2 rfl ?_
        refine z_callVi (q := 30) (As := [.int (2 : Int32)]) C (fun o ho => m_X9_fails _ _ _ ho) zk9 vvX9_186 cdX9_fails pnX9 dX9_aTest_27 rfl (by decide) (Nat.le_of_ble_eq_true rfl) hf rfl fun v2 σ hf => ?_
        refine z_rz C hf fun hn hf => ?_
        exact z_zreturn C rfl hn dX9_aTest_30 (Option.some.inj hf)

noncomputable def f_X9_order_J91 (w0_91 : Int32) (σ : ZT) : Option (Int32 × ZT) :=
  (rz w0_91).bind fun z21 =>
  some (z21, σ)
noncomputable def f_X9_order_J90  (σ : ZT) : Option (Int32 × ZT) :=
  f_X9_order_J91 (0 : Int32) σ
noncomputable def f_X9_order_J181 (w0_181 : Int32) (σ : ZT) : Option (Int32 × ZT) :=
  (rz w0_181).bind fun z26 =>
  some (z26, σ)
noncomputable def f_X9_order_J180  (σ : ZT) : Option (Int32 × ZT) :=
  f_X9_order_J181 (0 : Int32) σ
noncomputable def f_X9_order_J142 (a0_142 : Nat) (i2_142 : Int32) (σ : ZT) : Option (Int32 × ZT) :=
  bnd2 (vc 9 a0_142 σ (f_X9_aMan a0_142 (i2_142 + (2 : Int32)) σ)) fun v22 σ =>
  if v22 = 0 then
  (f_X9_order_J180  σ)
  else
  (bnd2 (vc 9 a0_142 σ (f_X9_wantWord a0_142 30 (21 : Int32) σ)) fun v23 σ =>
  if v23 = 0 then
  (f_X9_order_J180  σ)
  else
  (bnd2 (vc 9 a0_142 σ (f_X9_orderName a0_142 (i2_142 + (3 : Int32)) (1 : Int32) (6 : Int32) σ)) fun v24 σ =>
  if v24 = 0 then
  (f_X9_order_J180  σ)
  else
  (f_X9_order_J181 (1 : Int32) σ)))
noncomputable def f_X9_order_J210 (w0_210 : Int32) (σ : ZT) : Option (Int32 × ZT) :=
  (rz w0_210).bind fun z25 =>
  some (z25, σ)
noncomputable def f_X9_order_J209  (σ : ZT) : Option (Int32 × ZT) :=
  f_X9_order_J210 (0 : Int32) σ
noncomputable def f_X9_order (a0 : Nat) (i1 : Int32) (i2 : Int32) (σ : ZT) : Option (Int32 × ZT) :=
  if i1 = (19 : Int32) then
  (bnd2 (vc 9 a0 σ (f_X9_aMan a0 (i2 + (1 : Int32)) σ)) fun v1 σ =>
  if v1 = 0 then
  (f_X9_order_J90  σ)
  else
  (bnd2 (vc 9 a0 σ (f_X9_wantWord a0 30 (21 : Int32) σ)) fun v2 σ =>
  if v2 = 0 then
  (f_X9_order_J90  σ)
  else
  (bnd2 (vc 9 a0 σ (f_X9_orderName a0 (i2 + (3 : Int32)) (1 : Int32) (6 : Int32) σ)) fun v3 σ =>
  if v3 = 0 then
  (f_X9_order_J90  σ)
  else
  (f_X9_order_J91 (1 : Int32) σ))))
  else if i1 = (20 : Int32) then
  (bnd2 (vc 9 a0 σ (f_X9_aMan a0 (i2 + (1 : Int32)) σ)) fun v4 σ =>
  if v4 = 0 then
  (some ((0 : Int32), σ))
  else
  (bnd2 (vc 9 a0 σ (f_X9_isName a0 30 σ)) fun v5 σ =>
  if v5 = 0 then
  (f_X9_order_J142 a0 i2 σ)
  else
  ((gR 9 900 a0 σ).bind fun v6 =>
  (ldI 0 v6 (2 : Int32) σ).bind fun v7 =>
  bnd2 (vc 9 a0 σ (f_X9_findHere a0 (14 : Int32) v7 σ)) fun v8 σ =>
  (gR 9 900 a0 σ).bind fun v9 =>
  (ldI 0 v9 (i2 + (1 : Int32)) σ).bind fun v10 =>
  if v8 = v10 then
  (bnd2 (vc 9 a0 σ (f_X9_fails a0 (5 : Int32) σ)) fun v11 σ =>
  (rz v11).bind fun z12 =>
  some (z12, σ))
  else
  (f_X9_order_J142 a0 i2 σ))))
  else if i1 = (21 : Int32) then
  (some ((1 : Int32), σ))
  else if i1 = (22 : Int32) then
  (bnd2 (vc 9 a0 σ (f_X9_aMan a0 (i2 + (1 : Int32)) σ)) fun v13 σ =>
  if v13 = 0 then
  (f_X9_order_J209  σ)
  else
  (bnd2 (vc 9 a0 σ (f_X9_orderName a0 (i2 + (3 : Int32)) (3 : Int32) (18 : Int32) σ)) fun v14 σ =>
  if v14 = 0 then
  (f_X9_order_J209  σ)
  else
  (f_X9_order_J210 (1 : Int32) σ)))
  else if i1 = (23 : Int32) then
  (bnd2 (vc 9 a0 σ (f_X9_aMan a0 (i2 + (1 : Int32)) σ)) fun v15 σ =>
  (rz v15).bind fun z16 =>
  some (z16, σ))
  else if i1 = (24 : Int32) then
  (bnd2 (vc 9 a0 σ (f_X9_aTest a0 i2 σ)) fun v17 σ =>
  (rz v17).bind fun z18 =>
  some (z18, σ))
  else if i1 = (25 : Int32) then
  (some ((1 : Int32), σ))
  else if i1 = (26 : Int32) then
  (some ((1 : Int32), σ))
  else if i1 = (27 : Int32) then
  (bnd2 (vc 9 a0 σ (f_X9_number a0 (i2 + (1 : Int32)) (1 : Int32) (99 : Int32) σ)) fun v19 σ =>
  (rz v19).bind fun z20 =>
  some (z20, σ))
  else (some ((1 : Int32), σ))
set_option maxHeartbeats 4000000 in
theorem m_X9_order {l : Launch} {G : ZG} (a0 : Nat) (i1 : Int32) (i2 : Int32) (σ : ZT) {out : (Int32 × ZT)} (hf : f_X9_order a0 i1 i2 σ = some out) : ZM l G yX9_order cX9_order 3 (some .boolean) [] 12 [.ref a0, .int i1, .int i2] σ (.returned (some (.int out.1))) out.2 := by
  refine ZM.of [(0, .ref a0), (1, .int i1), (2, .int i2)] rfl (Nat.le_of_ble_eq_true rfl) fun X (C : ZC G RX9 "order" cX9_order 3 (some .boolean) [] X 12) => ?_
  unfold f_X9_order at hf
  have j210_0 : ∀ (w0_210 : Int32) (σ : ZT), f_X9_order_J210 w0_210 σ = some out → ZW l G 3 X (ZQ G X (.returned (some (.int out.1))) out.2) σ 210 [] [.int w0_210] := by
    intro w0_210 σ hf
    unfold f_X9_order_J210 at hf
    refine z_rz C hf fun hn hf => ?_
    exact z_zreturn C rfl hn dX9_order_210 (Option.some.inj hf)
  have j209_0 : ∀  (σ : ZT), f_X9_order_J209  σ = some out → ZW l G 3 X (ZQ G X (.returned (some (.int out.1))) out.2) σ 209 [] [] := by
    intro  σ hf
    unfold f_X9_order_J209 at hf
    refine z_iconst (q := 210) C (0 : Int32) dX9_order_209 ki_0 rfl ?_
    exact j210_0 (0 : Int32) σ hf
  have j181_0 : ∀ (w0_181 : Int32) (σ : ZT), f_X9_order_J181 w0_181 σ = some out → ZW l G 3 X (ZQ G X (.returned (some (.int out.1))) out.2) σ 181 [] [.int w0_181] := by
    intro w0_181 σ hf
    unfold f_X9_order_J181 at hf
    refine z_rz C hf fun hn hf => ?_
    exact z_zreturn C rfl hn dX9_order_181 (Option.some.inj hf)
  have j180_0 : ∀  (σ : ZT), f_X9_order_J180  σ = some out → ZW l G 3 X (ZQ G X (.returned (some (.int out.1))) out.2) σ 180 [] [] := by
    intro  σ hf
    unfold f_X9_order_J180 at hf
    refine z_iconst (q := 181) C (0 : Int32) dX9_order_180 ki_0 rfl ?_
    exact j181_0 (0 : Int32) σ hf
  have j142_0 : ∀ (a0_142 : Nat) (i2_142 : Int32) (σ : ZT), f_X9_order_J142 a0_142 i2_142 σ = some out → ZW l G 3 X (ZQ G X (.returned (some (.int out.1))) out.2) σ 142 [(0, .ref a0_142), (2, .int i2_142)] [] := by
    intro a0_142 i2_142 σ hf
    unfold f_X9_order_J142 at hf
    refine z_aload_n (q := 143) (i := 0) C 0 dX9_order_142 rfl rfl rfl ?_
    refine z_iload_n (q := 144) (i := 2) C 1 dX9_order_143 rfl rfl rfl ?_
    refine z_iconst (q := 145) C (2 : Int32) dX9_order_144 ki_2 rfl ?_
    refine z_iadd (q := 146) C dX9_order_145 rfl ?_
    refine z_callVi (q := 149) (As := [.int (i2_142 + (2 : Int32))]) C (fun o ho => m_X9_aMan _ _ _ ho) zk9 vvX9_264 cdX9_aMan pnX9 dX9_order_146 rfl (by decide) (Nat.le_of_ble_eq_true rfl) hf rfl fun v22 σ hf => ?_
    refine z_ifeq (q := 152) (tgt := 180) C dX9_order_149 (by decide) rfl hf (fun c149 hf => ?_) (fun c149 hf => ?_)
    · refine z_lv [] rfl ?_
      exact j180_0  σ hf
    · refine z_aload_n (q := 153) (i := 0) C 0 dX9_order_152 rfl rfl rfl ?_
      refine z_ldcS (q := 155) C 30 (by decide) rfl rfl dX9_order_153 rfl ?_
      refine z_bipush (q := 157) C (21 : Int32) dX9_order_155 kb_21 rfl ?_
      refine z_callVi (q := 160) (As := [.ref (gS G 30), .int (21 : Int32)]) C (fun o ho => m_X9_wantWord _ _ _ _ ho) zk9 vvX9_220 cdX9_wantWord pnX9 dX9_order_157 rfl (by decide) (Nat.le_of_ble_eq_true rfl) hf rfl fun v23 σ hf => ?_
      refine z_ifeq (q := 163) (tgt := 180) C dX9_order_160 (by decide) rfl hf (fun c160 hf => ?_) (fun c160 hf => ?_)
      · refine z_lv [] rfl ?_
        exact j180_0  σ hf
      · refine z_aload_n (q := 164) (i := 0) C 0 dX9_order_163 rfl rfl rfl ?_
        refine z_iload_n (q := 165) (i := 2) C 1 dX9_order_164 rfl rfl rfl ?_
        refine z_iconst (q := 166) C (3 : Int32) dX9_order_165 ki_3 rfl ?_
        refine z_iadd (q := 167) C dX9_order_166 rfl ?_
        refine z_iconst (q := 168) C (1 : Int32) dX9_order_167 ki_1 rfl ?_
        refine z_bipush (q := 170) C (6 : Int32) dX9_order_168 kb_6 rfl ?_
        refine z_callVi (q := 173) (As := [.int (i2_142 + (3 : Int32)), .int (1 : Int32), .int (6 : Int32)]) C (fun o ho => m_X9_orderName _ _ _ _ _ ho) zk9 vvX9_261 cdX9_orderName pnX9 dX9_order_170 rfl (by decide) (Nat.le_of_ble_eq_true rfl) hf rfl fun v24 σ hf => ?_
        refine z_ifeq (q := 176) (tgt := 180) C dX9_order_173 (by decide) rfl hf (fun c173 hf => ?_) (fun c173 hf => ?_)
        · refine z_lv [] rfl ?_
          exact j180_0  σ hf
        · refine z_iconst (q := 177) C (1 : Int32) dX9_order_176 ki_1 rfl ?_
          refine z_goto (q := 181) C dX9_order_177 (by decide) ?_
          refine z_lv [] rfl ?_
          exact j181_0 (1 : Int32) σ hf
  have j91_0 : ∀ (w0_91 : Int32) (σ : ZT), f_X9_order_J91 w0_91 σ = some out → ZW l G 3 X (ZQ G X (.returned (some (.int out.1))) out.2) σ 91 [] [.int w0_91] := by
    intro w0_91 σ hf
    unfold f_X9_order_J91 at hf
    refine z_rz C hf fun hn hf => ?_
    exact z_zreturn C rfl hn dX9_order_91 (Option.some.inj hf)
  have j90_0 : ∀  (σ : ZT), f_X9_order_J90  σ = some out → ZW l G 3 X (ZQ G X (.returned (some (.int out.1))) out.2) σ 90 [] [] := by
    intro  σ hf
    unfold f_X9_order_J90 at hf
    refine z_iconst (q := 91) C (0 : Int32) dX9_order_90 ki_0 rfl ?_
    exact j91_0 (0 : Int32) σ hf
  refine z_iload_n (q := 1) (i := 1) C 1 dX9_order_0 rfl rfl rfl ?_
  by_cases c1_19 : i1 = (19 : Int32)
  · rw [if_pos c1_19] at hf
    refine z_tableIn (tgt := 52) C 19 dX9_order_1 (by rw [c1_19]; rfl) (by decide) (by decide) rfl (by decide) ?_
    refine z_aload_n (q := 53) (i := 0) C 0 dX9_order_52 rfl rfl rfl ?_
    refine z_iload_n (q := 54) (i := 2) C 2 dX9_order_53 rfl rfl rfl ?_
    refine z_iconst (q := 55) C (1 : Int32) dX9_order_54 ki_1 rfl ?_
    refine z_iadd (q := 56) C dX9_order_55 rfl ?_
    refine z_callVi (q := 59) (As := [.int (i2 + (1 : Int32))]) C (fun o ho => m_X9_aMan _ _ _ ho) zk9 vvX9_264 cdX9_aMan pnX9 dX9_order_56 rfl (by decide) (Nat.le_of_ble_eq_true rfl) hf rfl fun v1 σ hf => ?_
    refine z_ifeq (q := 62) (tgt := 90) C dX9_order_59 (by decide) rfl hf (fun c59 hf => ?_) (fun c59 hf => ?_)
    · refine z_lv [] rfl ?_
      exact j90_0  σ hf
    · refine z_aload_n (q := 63) (i := 0) C 0 dX9_order_62 rfl rfl rfl ?_
      refine z_ldcS (q := 65) C 30 (by decide) rfl rfl dX9_order_63 rfl ?_
      refine z_bipush (q := 67) C (21 : Int32) dX9_order_65 kb_21 rfl ?_
      refine z_callVi (q := 70) (As := [.ref (gS G 30), .int (21 : Int32)]) C (fun o ho => m_X9_wantWord _ _ _ _ ho) zk9 vvX9_220 cdX9_wantWord pnX9 dX9_order_67 rfl (by decide) (Nat.le_of_ble_eq_true rfl) hf rfl fun v2 σ hf => ?_
      refine z_ifeq (q := 73) (tgt := 90) C dX9_order_70 (by decide) rfl hf (fun c70 hf => ?_) (fun c70 hf => ?_)
      · refine z_lv [] rfl ?_
        exact j90_0  σ hf
      · refine z_aload_n (q := 74) (i := 0) C 0 dX9_order_73 rfl rfl rfl ?_
        refine z_iload_n (q := 75) (i := 2) C 2 dX9_order_74 rfl rfl rfl ?_
        refine z_iconst (q := 76) C (3 : Int32) dX9_order_75 ki_3 rfl ?_
        refine z_iadd (q := 77) C dX9_order_76 rfl ?_
        refine z_iconst (q := 78) C (1 : Int32) dX9_order_77 ki_1 rfl ?_
        refine z_bipush (q := 80) C (6 : Int32) dX9_order_78 kb_6 rfl ?_
        refine z_callVi (q := 83) (As := [.int (i2 + (3 : Int32)), .int (1 : Int32), .int (6 : Int32)]) C (fun o ho => m_X9_orderName _ _ _ _ _ ho) zk9 vvX9_261 cdX9_orderName pnX9 dX9_order_80 rfl (by decide) (Nat.le_of_ble_eq_true rfl) hf rfl fun v3 σ hf => ?_
        refine z_ifeq (q := 86) (tgt := 90) C dX9_order_83 (by decide) rfl hf (fun c83 hf => ?_) (fun c83 hf => ?_)
        · refine z_lv [] rfl ?_
          exact j90_0  σ hf
        · refine z_iconst (q := 87) C (1 : Int32) dX9_order_86 ki_1 rfl ?_
          refine z_goto (q := 91) C dX9_order_87 (by decide) ?_
          refine z_lv [] rfl ?_
          exact j91_0 (1 : Int32) σ hf
  rw [if_neg c1_19] at hf
  by_cases c1_20 : i1 = (20 : Int32)
  · rw [if_pos c1_20] at hf
    refine z_tableIn (tgt := 92) C 20 dX9_order_1 (by rw [c1_20]; rfl) (by decide) (by decide) rfl (by decide) ?_
    refine z_aload_n (q := 93) (i := 0) C 0 dX9_order_92 rfl rfl rfl ?_
    refine z_iload_n (q := 94) (i := 2) C 2 dX9_order_93 rfl rfl rfl ?_
    refine z_iconst (q := 95) C (1 : Int32) dX9_order_94 ki_1 rfl ?_
    refine z_iadd (q := 96) C dX9_order_95 rfl ?_
    refine z_callVi (q := 99) (As := [.int (i2 + (1 : Int32))]) C (fun o ho => m_X9_aMan _ _ _ ho) zk9 vvX9_264 cdX9_aMan pnX9 dX9_order_96 rfl (by decide) (Nat.le_of_ble_eq_true rfl) hf rfl fun v4 σ hf => ?_
    refine z_ifne (q := 102) (tgt := 104) C dX9_order_99 (by decide) rfl hf (fun c99 hf => ?_) (fun c99 hf => ?_)
    · refine z_aload_n (q := 105) (i := 0) C 0 dX9_order_104 rfl rfl rfl ?_
      refine z_ldcS (q := 107) C 30 (by decide) rfl rfl dX9_order_105 rfl ?_
      refine z_callVi (q := 110) (As := [.ref (gS G 30)]) C (fun o ho => m_X9_isName _ _ _ ho) zk9 vvX9_202 cdX9_isName pnX9 dX9_order_107 rfl (by decide) (Nat.le_of_ble_eq_true rfl) hf rfl fun v5 σ hf => ?_
      refine z_ifeq (q := 113) (tgt := 142) C dX9_order_110 (by decide) rfl hf (fun c110 hf => ?_) (fun c110 hf => ?_)
      · refine z_lv [0, 2] rfl ?_
        exact j142_0 a0 i2 σ hf
      · refine z_aload_n (q := 114) (i := 0) C 0 dX9_order_113 rfl rfl rfl ?_
        refine z_bipush (q := 116) C (14 : Int32) dX9_order_114 kb_14 rfl ?_
        refine z_aload_n (q := 117) (i := 0) C 0 dX9_order_116 rfl rfl rfl ?_
        refine z_getR (q := 120) C flX9_7 dX9_order_117 hf rfl fun v6 hf => ?_
        refine z_iconst (q := 121) C (2 : Int32) dX9_order_120 ki_2 rfl ?_
        refine z_iald (q := 122) C dX9_order_121 hf rfl fun v7 hf => ?_
        refine z_callVi (q := 125) (As := [.int (14 : Int32), .int v7]) C (fun o ho => m_X9_findHere _ _ _ _ ho) zk9 vvX9_197 cdX9_findHere pnX9 dX9_order_122 rfl (by decide) (Nat.le_of_ble_eq_true rfl) hf rfl fun v8 σ hf => ?_
        refine z_aload_n (q := 126) (i := 0) C 0 dX9_order_125 rfl rfl rfl ?_
        refine z_getR (q := 129) C flX9_7 dX9_order_126 hf rfl fun v9 hf => ?_
        refine z_iload_n (q := 130) (i := 2) C 2 dX9_order_129 rfl rfl rfl ?_
        refine z_iconst (q := 131) C (1 : Int32) dX9_order_130 ki_1 rfl ?_
        refine z_iadd (q := 132) C dX9_order_131 rfl ?_
        refine z_iald (q := 133) C dX9_order_132 hf rfl fun v10 hf => ?_
        refine z_icmpne (q := 136) (tgt := 142) C dX9_order_133 (by decide) rfl hf (fun c133 hf => ?_) (fun c133 hf => ?_)
        · refine z_lv [0, 2] rfl ?_
          exact j142_0 a0 i2 σ hf
        · refine z_aload_n (q := 137) (i := 0) C 0 dX9_order_136 rfl rfl rfl ?_
          refine z_iconst (q := 138) C (5 : Int32) dX9_order_137 ki_5 rfl ?_
          refine z_callVi (q := 141) (As := [.int (5 : Int32)]) C (fun o ho => m_X9_fails _ _ _ ho) zk9 vvX9_186 cdX9_fails pnX9 dX9_order_138 rfl (by decide) (Nat.le_of_ble_eq_true rfl) hf rfl fun v11 σ hf => ?_
          refine z_rz C hf fun hn hf => ?_
          exact z_zreturn C rfl hn dX9_order_141 (Option.some.inj hf)
    · refine z_iconst (q := 103) C (0 : Int32) dX9_order_102 ki_0 rfl ?_
      exact z_zreturn C rfl z_nb0 dX9_order_103 (Option.some.inj hf)
  rw [if_neg c1_20] at hf
  by_cases c1_21 : i1 = (21 : Int32)
  · rw [if_pos c1_21] at hf
    refine z_tableIn (tgt := 236) C 21 dX9_order_1 (by rw [c1_21]; rfl) (by decide) (by decide) rfl (by decide) ?_
    refine z_iconst (q := 237) C (1 : Int32) dX9_order_236 ki_1 rfl ?_
    exact z_zreturn C rfl z_nb1 dX9_order_237 (Option.some.inj hf)
  rw [if_neg c1_21] at hf
  by_cases c1_22 : i1 = (22 : Int32)
  · rw [if_pos c1_22] at hf
    refine z_tableIn (tgt := 182) C 22 dX9_order_1 (by rw [c1_22]; rfl) (by decide) (by decide) rfl (by decide) ?_
    refine z_aload_n (q := 183) (i := 0) C 0 dX9_order_182 rfl rfl rfl ?_
    refine z_iload_n (q := 184) (i := 2) C 2 dX9_order_183 rfl rfl rfl ?_
    refine z_iconst (q := 185) C (1 : Int32) dX9_order_184 ki_1 rfl ?_
    refine z_iadd (q := 186) C dX9_order_185 rfl ?_
    refine z_callVi (q := 189) (As := [.int (i2 + (1 : Int32))]) C (fun o ho => m_X9_aMan _ _ _ ho) zk9 vvX9_264 cdX9_aMan pnX9 dX9_order_186 rfl (by decide) (Nat.le_of_ble_eq_true rfl) hf rfl fun v13 σ hf => ?_
    refine z_ifeq (q := 192) (tgt := 209) C dX9_order_189 (by decide) rfl hf (fun c189 hf => ?_) (fun c189 hf => ?_)
    · refine z_lv [] rfl ?_
      exact j209_0  σ hf
    · refine z_aload_n (q := 193) (i := 0) C 0 dX9_order_192 rfl rfl rfl ?_
      refine z_iload_n (q := 194) (i := 2) C 2 dX9_order_193 rfl rfl rfl ?_
      refine z_iconst (q := 195) C (3 : Int32) dX9_order_194 ki_3 rfl ?_
      refine z_iadd (q := 196) C dX9_order_195 rfl ?_
      refine z_iconst (q := 197) C (3 : Int32) dX9_order_196 ki_3 rfl ?_
      refine z_bipush (q := 199) C (18 : Int32) dX9_order_197 kb_18 rfl ?_
      refine z_callVi (q := 202) (As := [.int (i2 + (3 : Int32)), .int (3 : Int32), .int (18 : Int32)]) C (fun o ho => m_X9_orderName _ _ _ _ _ ho) zk9 vvX9_261 cdX9_orderName pnX9 dX9_order_199 rfl (by decide) (Nat.le_of_ble_eq_true rfl) hf rfl fun v14 σ hf => ?_
      refine z_ifeq (q := 205) (tgt := 209) C dX9_order_202 (by decide) rfl hf (fun c202 hf => ?_) (fun c202 hf => ?_)
      · refine z_lv [] rfl ?_
        exact j209_0  σ hf
      · refine z_iconst (q := 206) C (1 : Int32) dX9_order_205 ki_1 rfl ?_
        refine z_goto (q := 210) C dX9_order_206 (by decide) ?_
        refine z_lv [] rfl ?_
        exact j210_0 (1 : Int32) σ hf
  rw [if_neg c1_22] at hf
  by_cases c1_23 : i1 = (23 : Int32)
  · rw [if_pos c1_23] at hf
    refine z_tableIn (tgt := 211) C 23 dX9_order_1 (by rw [c1_23]; rfl) (by decide) (by decide) rfl (by decide) ?_
    refine z_aload_n (q := 212) (i := 0) C 0 dX9_order_211 rfl rfl rfl ?_
    refine z_iload_n (q := 213) (i := 2) C 2 dX9_order_212 rfl rfl rfl ?_
    refine z_iconst (q := 214) C (1 : Int32) dX9_order_213 ki_1 rfl ?_
    refine z_iadd (q := 215) C dX9_order_214 rfl ?_
    refine z_callVi (q := 218) (As := [.int (i2 + (1 : Int32))]) C (fun o ho => m_X9_aMan _ _ _ ho) zk9 vvX9_264 cdX9_aMan pnX9 dX9_order_215 rfl (by decide) (Nat.le_of_ble_eq_true rfl) hf rfl fun v15 σ hf => ?_
    refine z_rz C hf fun hn hf => ?_
    exact z_zreturn C rfl hn dX9_order_218 (Option.some.inj hf)
  rw [if_neg c1_23] at hf
  by_cases c1_24 : i1 = (24 : Int32)
  · rw [if_pos c1_24] at hf
    refine z_tableIn (tgt := 230) C 24 dX9_order_1 (by rw [c1_24]; rfl) (by decide) (by decide) rfl (by decide) ?_
    refine z_aload_n (q := 231) (i := 0) C 0 dX9_order_230 rfl rfl rfl ?_
    refine z_iload_n (q := 232) (i := 2) C 2 dX9_order_231 rfl rfl rfl ?_
    refine z_callVi (q := 235) (As := [.int i2]) C (fun o ho => m_X9_aTest _ _ _ ho) zk9 vvX9_267 cdX9_aTest pnX9 dX9_order_232 rfl (by decide) (Nat.le_of_ble_eq_true rfl) hf rfl fun v17 σ hf => ?_
    refine z_rz C hf fun hn hf => ?_
    exact z_zreturn C rfl hn dX9_order_235 (Option.some.inj hf)
  rw [if_neg c1_24] at hf
  by_cases c1_25 : i1 = (25 : Int32)
  · rw [if_pos c1_25] at hf
    refine z_tableIn (tgt := 236) C 25 dX9_order_1 (by rw [c1_25]; rfl) (by decide) (by decide) rfl (by decide) ?_
    refine z_iconst (q := 237) C (1 : Int32) dX9_order_236 ki_1 rfl ?_
    exact z_zreturn C rfl z_nb1 dX9_order_237 (Option.some.inj hf)
  rw [if_neg c1_25] at hf
  by_cases c1_26 : i1 = (26 : Int32)
  · rw [if_pos c1_26] at hf
    refine z_tableIn (tgt := 236) C 26 dX9_order_1 (by rw [c1_26]; rfl) (by decide) (by decide) rfl (by decide) ?_
    refine z_iconst (q := 237) C (1 : Int32) dX9_order_236 ki_1 rfl ?_
    exact z_zreturn C rfl z_nb1 dX9_order_237 (Option.some.inj hf)
  rw [if_neg c1_26] at hf
  by_cases c1_27 : i1 = (27 : Int32)
  · rw [if_pos c1_27] at hf
    refine z_tableIn (tgt := 219) C 27 dX9_order_1 (by rw [c1_27]; rfl) (by decide) (by decide) rfl (by decide) ?_
    refine z_aload_n (q := 220) (i := 0) C 0 dX9_order_219 rfl rfl rfl ?_
    refine z_iload_n (q := 221) (i := 2) C 2 dX9_order_220 rfl rfl rfl ?_
    refine z_iconst (q := 222) C (1 : Int32) dX9_order_221 ki_1 rfl ?_
    refine z_iadd (q := 223) C dX9_order_222 rfl ?_
    refine z_iconst (q := 224) C (1 : Int32) dX9_order_223 ki_1 rfl ?_
    refine z_bipush (q := 226) C (99 : Int32) dX9_order_224 kb_99 rfl ?_
    refine z_callVi (q := 229) (As := [.int (i2 + (1 : Int32)), .int (1 : Int32), .int (99 : Int32)]) C (fun o ho => m_X9_number _ _ _ _ _ ho) zk9 vvX9_227 cdX9_number pnX9 dX9_order_226 rfl (by decide) (Nat.le_of_ble_eq_true rfl) hf rfl fun v19 σ hf => ?_
    refine z_rz C hf fun hn hf => ?_
    exact z_zreturn C rfl hn dX9_order_229 (Option.some.inj hf)
  rw [if_neg c1_27] at hf
  refine z_tableOut (tgt := 236) C dX9_order_1 (by have n19 := lv_neT c1_19 (a := 19) rfl; have n20 := lv_neT c1_20 (a := 20) rfl; have n21 := lv_neT c1_21 (a := 21) rfl; have n22 := lv_neT c1_22 (a := 22) rfl; have n23 := lv_neT c1_23 (a := 23) rfl; have n24 := lv_neT c1_24 (a := 24) rfl; have n25 := lv_neT c1_25 (a := 25) rfl; have n26 := lv_neT c1_26 (a := 26) rfl; have n27 := lv_neT c1_27 (a := 27) rfl; omega) (by decide) ?_
  refine z_iconst (q := 237) C (1 : Int32) dX9_order_236 ki_1 rfl ?_
  exact z_zreturn C rfl z_nb1 dX9_order_237 (Option.some.inj hf)

noncomputable def f_X9_step_J103 (a0_103 : Nat) (σ : ZT) : Option (Int32 × ZT) :=
  bnd2 (vc 9 a0_103 σ (f_X9_fails a0_103 (2 : Int32) σ)) fun v8 σ =>
  (rz v8).bind fun z9 =>
  some (z9, σ)
noncomputable def f_X9_step_J311 (a0_311 : Nat) (σ : ZT) : Option (Int32 × ZT) :=
  bnd2 (vc 9 a0_311 σ (f_X9_wantSign a0_311 (59 : Int32) σ)) fun v40 σ =>
  (rz v40).bind fun z41 =>
  some (z41, σ)
noncomputable def f_X9_step_J255 (a0_255 : Nat) (i1_255 : Int32) (i2_255 : Int32) (i3_255 : Int32) (σ : ZT) : Option (Int32 × ZT) :=
  if i1_255 = (28 : Int32) then
  ((gI 9 922 a0_255 σ).bind fun v31 =>
  (pI 9 922 a0_255 (v31 - (1 : Int32)) σ).bind fun σ =>
  (gR 9 900 a0_255 σ).bind fun v32 =>
  (gR 9 921 a0_255 σ).bind fun v33 =>
  (gI 9 922 a0_255 σ).bind fun v34 =>
  (ldI 0 v33 v34 σ).bind fun v35 =>
  (stI v32 (i3_255 + (4 : Int32)) v35 σ).bind fun σ =>
  (gR 9 900 a0_255 σ).bind fun v36 =>
  (gR 9 921 a0_255 σ).bind fun v37 =>
  (gI 9 922 a0_255 σ).bind fun v38 =>
  (ldI 0 v37 v38 σ).bind fun v39 =>
  (stI v36 (((1840 : Int32) + ((5 : Int32) * v39)) + (4 : Int32)) i2_255 σ).bind fun σ =>
  f_X9_step_J311 a0_255 σ)
  else
  (f_X9_step_J311 a0_255 σ)
noncomputable def f_X9_step_L181 (c0_181 : Nat) (c1_181 : Int32) (c2_181 : Int32) (c3_181 : Int32) (c4_181 : Int32) (i_15 : Int32) (σ : ZT) : Option ((Int32 × ZT) ⊕ ZT) :=
  if i_15 < (5 : Int32) then
  ((gR 9 900 c0_181 σ).bind fun v23 =>
  (stI v23 (c3_181 + i_15) (-1 : Int32) σ).bind fun σ =>
  some (.inl ((i_15 + (1 : Int32)), σ)))
  else
  (some (.inr σ))
noncomputable def f_X9_step_J167 (a0_167 : Nat) (i1_167 : Int32) (i2_167 : Int32) (i3_167 : Int32) (i4_167 : Int32) (w0_167 : Int32) (w1_167 : Int32) (w2_167 : Nat) (σ : ZT) : Option (Int32 × ZT) :=
  (pI 9 923 w2_167 (w1_167 + w0_167) σ).bind fun σ =>
  (gR 9 900 a0_167 σ).bind fun v14 =>
  (stI v14 i3_167 i1_167 σ).bind fun σ =>
  (loopC (fun s : (Int32 × ZT) => f_X9_step_L181 a0_167 i1_167 i2_167 i3_167 i4_167 s.1 s.2) ((1 : Int32), σ)).bind fun σ =>
  (gR 9 900 a0_167 σ).bind fun v24 =>
  (ldI 0 v24 (1724 : Int32) σ).bind fun v25 =>
  (stI v24 (1724 : Int32) (v25 + (1 : Int32)) σ).bind fun σ =>
  (vc 9 a0_167 σ (f_X9_ahead a0_167 σ)).bind fun σ =>
  bnd2 (vc 9 a0_167 σ (f_X9_order a0_167 i1_167 i3_167 σ)) fun v27 σ =>
  if v27 = 0 then
  (some ((0 : Int32), σ))
  else
  (if i4_167 = 0 then
  (f_X9_step_J255 a0_167 i1_167 i2_167 i3_167 σ)
  else
  ((gR 9 921 a0_167 σ).bind fun v28 =>
  (gI 9 922 a0_167 σ).bind fun v29 =>
  (stI v28 v29 i2_167 σ).bind fun σ =>
  (gI 9 922 a0_167 σ).bind fun v30 =>
  (pI 9 922 a0_167 (v30 + (1 : Int32)) σ).bind fun σ =>
  f_X9_step_J255 a0_167 i1_167 i2_167 i3_167 σ))
noncomputable def f_X9_step_J151 (a0_151 : Nat) (i1_151 : Int32) (i2_151 : Int32) (i3_151 : Int32) (i4_151 : Int32) (σ : ZT) : Option (Int32 × ZT) :=
  (gI 9 923 a0_151 σ).bind fun v13 =>
  if i1_151 = (28 : Int32) then
  (f_X9_step_J167 a0_151 i1_151 i2_151 i3_151 i4_151 (0 : Int32) v13 a0_151 σ)
  else
  (f_X9_step_J167 a0_151 i1_151 i2_151 i3_151 i4_151 (1 : Int32) v13 a0_151 σ)
noncomputable def f_X9_step_J131 (a0_131 : Nat) (i1_131 : Int32) (i2_131 : Int32) (i3_131 : Int32) (i4_131 : Int32) (σ : ZT) : Option (Int32 × ZT) :=
  if i4_131 = 0 then
  (f_X9_step_J151 a0_131 i1_131 i2_131 i3_131 i4_131 σ)
  else
  ((gI 9 922 a0_131 σ).bind fun v10 =>
  if v10 = (3 : Int32) then
  (bnd2 (vc 9 a0_131 σ (f_X9_fails a0_131 (7 : Int32) σ)) fun v11 σ =>
  (rz v11).bind fun z12 =>
  some (z12, σ))
  else
  (f_X9_step_J151 a0_131 i1_131 i2_131 i3_131 i4_131 σ))
noncomputable def f_X9_step_J109 (a0_109 : Nat) (i1_109 : Int32) (i2_109 : Int32) (i3_109 : Int32) (i4_109 : Int32) (σ : ZT) : Option (Int32 × ZT) :=
  if i1_109 = (28 : Int32) then
  (f_X9_step_J131 a0_109 i1_109 i2_109 i3_109 i4_109 σ)
  else
  ((gI 9 923 a0_109 σ).bind fun v5 =>
  if v5 = (30 : Int32) then
  (bnd2 (vc 9 a0_109 σ (f_X9_fails a0_109 (6 : Int32) σ)) fun v6 σ =>
  (rz v6).bind fun z7 =>
  some (z7, σ))
  else
  (f_X9_step_J131 a0_109 i1_109 i2_109 i3_109 i4_109 σ))
noncomputable def f_X9_step_J72 (a0_72 : Nat) (i1_72 : Int32) (i2_72 : Int32) (i3_72 : Int32) (i4_72 : Int32) (w0_72 : Int32) (σ : ZT) : Option (Int32 × ZT) :=
  if w0_72 = 0 then
  (if i4_72 = 0 then
  (if i1_72 = (29 : Int32) then
  (f_X9_step_J109 a0_72 i1_72 i2_72 i3_72 i4_72 σ)
  else
  (if i1_72 = (28 : Int32) then
  ((gI 9 922 a0_72 σ).bind fun v4 =>
  if v4 = 0 then
  (f_X9_step_J103 a0_72 σ)
  else
  (f_X9_step_J109 a0_72 i1_72 i2_72 i3_72 i4_72 σ))
  else
  (f_X9_step_J103 a0_72 σ)))
  else
  (f_X9_step_J109 a0_72 i1_72 i2_72 i3_72 i4_72 σ))
  else
  (f_X9_step_J109 a0_72 i1_72 i2_72 i3_72 i4_72 σ)
noncomputable def f_X9_step_J67 (a0_67 : Nat) (i1_67 : Int32) (i2_67 : Int32) (i3_67 : Int32) (i4_67 : Int32) (σ : ZT) : Option (Int32 × ZT) :=
  f_X9_step_J72 a0_67 i1_67 i2_67 i3_67 i4_67 (1 : Int32) σ
noncomputable def f_X9_step_J41 (a0_41 : Nat) (i1_41 : Int32) (i2_41 : Int32) (i3_41 : Int32) (w0_41 : Int32) (σ : ZT) : Option (Int32 × ZT) :=
  if i1_41 = (19 : Int32) then
  (f_X9_step_J67 a0_41 i1_41 i2_41 i3_41 w0_41 σ)
  else
  (if i1_41 = (20 : Int32) then
  (f_X9_step_J67 a0_41 i1_41 i2_41 i3_41 w0_41 σ)
  else
  (if i1_41 = (22 : Int32) then
  (f_X9_step_J67 a0_41 i1_41 i2_41 i3_41 w0_41 σ)
  else
  (if i1_41 = (23 : Int32) then
  (f_X9_step_J67 a0_41 i1_41 i2_41 i3_41 w0_41 σ)
  else
  (f_X9_step_J72 a0_41 i1_41 i2_41 i3_41 w0_41 (0 : Int32) σ))))
noncomputable def f_X9_step_J36 (a0_36 : Nat) (i1_36 : Int32) (i2_36 : Int32) (i3_36 : Int32) (σ : ZT) : Option (Int32 × ZT) :=
  f_X9_step_J41 a0_36 i1_36 i2_36 i3_36 (1 : Int32) σ
noncomputable def f_X9_step (a0 : Nat) (σ : ZT) : Option (Int32 × ZT) :=
  bnd2 (vc 9 a0 σ (f_X9_inWords a0 30 σ)) fun v1 σ =>
  (gR 9 900 a0 σ).bind fun v2 =>
  (ldI 0 v2 (1724 : Int32) σ).bind fun v3 =>
  if v1 = (24 : Int32) then
  (f_X9_step_J36 a0 v1 v3 ((1840 : Int32) + ((5 : Int32) * v3)) σ)
  else
  (if v1 = (27 : Int32) then
  (f_X9_step_J36 a0 v1 v3 ((1840 : Int32) + ((5 : Int32) * v3)) σ)
  else
  (f_X9_step_J41 a0 v1 v3 ((1840 : Int32) + ((5 : Int32) * v3)) (0 : Int32) σ))
set_option maxHeartbeats 4000000 in
theorem m_X9_step {l : Launch} {G : ZG} (a0 : Nat) (σ : ZT) {out : (Int32 × ZT)} (hf : f_X9_step a0 σ = some out) : ZM l G yX9_step cX9_step 7 (some .boolean) [] 13 [.ref a0] σ (.returned (some (.int out.1))) out.2 := by
  refine ZM.of [(0, .ref a0)] rfl (Nat.le_of_ble_eq_true rfl) fun X (C : ZC G RX9 "step" cX9_step 7 (some .boolean) [] X 13) => ?_
  unfold f_X9_step at hf
  have j311_0 : ∀ (a0_311 : Nat) (σ : ZT), f_X9_step_J311 a0_311 σ = some out → ZW l G 7 X (ZQ G X (.returned (some (.int out.1))) out.2) σ 311 [(0, .ref a0_311)] [] := by
    intro a0_311 σ hf
    unfold f_X9_step_J311 at hf
    refine z_aload_n (q := 312) (i := 0) C 0 dX9_step_311 rfl rfl rfl ?_
    refine z_bipush (q := 314) C (59 : Int32) dX9_step_312 kb_59 rfl ?_
    refine z_callVi (q := 317) (As := [.int (59 : Int32)]) C (fun o ho => m_X9_wantSign _ _ _ ho) zk9 vvX9_242 cdX9_wantSign pnX9 dX9_step_314 rfl (by decide) (Nat.le_of_ble_eq_true rfl) hf rfl fun v33 σ hf => ?_
    refine z_rz C hf fun hn hf => ?_
    exact z_zreturn C rfl hn dX9_step_317 (Option.some.inj hf)
  have j255_0 : ∀ (a0_255 : Nat) (i1_255 : Int32) (i2_255 : Int32) (i3_255 : Int32) (σ : ZT), f_X9_step_J255 a0_255 i1_255 i2_255 i3_255 σ = some out → ZW l G 7 X (ZQ G X (.returned (some (.int out.1))) out.2) σ 255 [(0, .ref a0_255), (1, .int i1_255), (2, .int i2_255), (3, .int i3_255)] [] := by
    intro a0_255 i1_255 i2_255 i3_255 σ hf
    unfold f_X9_step_J255 at hf
    refine z_iload_n (q := 256) (i := 1) C 1 dX9_step_255 rfl rfl rfl ?_
    refine z_bipush (q := 258) C (28 : Int32) dX9_step_256 kb_28 rfl ?_
    refine z_icmpne (q := 261) (tgt := 311) C dX9_step_258 (by decide) rfl hf (fun c258 hf => ?_) (fun c258 hf => ?_)
    · refine z_lv [0] rfl ?_
      exact j311_0 a0_255 σ hf
    · refine z_aload_n (q := 262) (i := 0) C 0 dX9_step_261 rfl rfl rfl ?_
      refine z_dup (q := 263) C dX9_step_262 rfl rfl ?_
      refine z_getI (q := 266) C flX9_270 dX9_step_263 hf rfl fun v24 hf => ?_
      refine z_iconst (q := 267) C (1 : Int32) dX9_step_266 ki_1 rfl ?_
      refine z_isub (q := 268) C dX9_step_267 rfl ?_
      refine z_putI (q := 271) C puX9_270 dX9_step_268 hf rfl fun σ hf => ?_
      refine z_aload_n (q := 272) (i := 0) C 0 dX9_step_271 rfl rfl rfl ?_
      refine z_getR (q := 275) C flX9_7 dX9_step_272 hf rfl fun v25 hf => ?_
      refine z_iload_n (q := 276) (i := 3) C 3 dX9_step_275 rfl rfl rfl ?_
      refine z_iconst (q := 277) C (4 : Int32) dX9_step_276 ki_4 rfl ?_
      refine z_iadd (q := 278) C dX9_step_277 rfl ?_
      refine z_aload_n (q := 279) (i := 0) C 0 dX9_step_278 rfl rfl rfl ?_
      refine z_getR (q := 282) C flX9_44 dX9_step_279 hf rfl fun v26 hf => ?_
      refine z_aload_n (q := 283) (i := 0) C 0 dX9_step_282 rfl rfl rfl ?_
      refine z_getI (q := 286) C flX9_270 dX9_step_283 hf rfl fun v27 hf => ?_
      refine z_iald (q := 287) C dX9_step_286 hf rfl fun v28 hf => ?_
      refine z_iast (q := 288) C dX9_step_287 hf rfl fun σ hf => ?_
      refine z_aload_n (q := 289) (i := 0) C 0 dX9_step_288 rfl rfl rfl ?_
      refine z_getR (q := 292) C flX9_7 dX9_step_289 hf rfl fun v29 hf => ?_
      refine z_sipush (q := 295) C (1840 : Int32) dX9_step_292 ks_1840 rfl ?_
      refine z_iconst (q := 296) C (5 : Int32) dX9_step_295 ki_5 rfl ?_
      refine z_aload_n (q := 297) (i := 0) C 0 dX9_step_296 rfl rfl rfl ?_
      refine z_getR (q := 300) C flX9_44 dX9_step_297 hf rfl fun v30 hf => ?_
      refine z_aload_n (q := 301) (i := 0) C 0 dX9_step_300 rfl rfl rfl ?_
      refine z_getI (q := 304) C flX9_270 dX9_step_301 hf rfl fun v31 hf => ?_
      refine z_iald (q := 305) C dX9_step_304 hf rfl fun v32 hf => ?_
      refine z_imul (q := 306) C dX9_step_305 rfl ?_
      refine z_iadd (q := 307) C dX9_step_306 rfl ?_
      refine z_iconst (q := 308) C (4 : Int32) dX9_step_307 ki_4 rfl ?_
      refine z_iadd (q := 309) C dX9_step_308 rfl ?_
      refine z_iload_n (q := 310) (i := 2) C 2 dX9_step_309 rfl rfl rfl ?_
      refine z_iast (q := 311) C dX9_step_310 hf rfl fun σ hf => ?_
      refine z_lv [0] rfl ?_
      exact j311_0 a0_255 σ hf
  have j167_0 : ∀ (a0_167 : Nat) (i1_167 : Int32) (i2_167 : Int32) (i3_167 : Int32) (i4_167 : Int32) (w0_167 : Int32) (w1_167 : Int32) (w2_167 : Nat) (σ : ZT), f_X9_step_J167 a0_167 i1_167 i2_167 i3_167 i4_167 w0_167 w1_167 w2_167 σ = some out → ZW l G 7 X (ZQ G X (.returned (some (.int out.1))) out.2) σ 167 [(0, .ref a0_167), (1, .int i1_167), (2, .int i2_167), (3, .int i3_167), (4, .int i4_167)] [.int w0_167, .int w1_167, .ref w2_167] := by
    intro a0_167 i1_167 i2_167 i3_167 i4_167 w0_167 w1_167 w2_167 σ hf
    unfold f_X9_step_J167 at hf
    refine z_iadd (q := 168) C dX9_step_167 rfl ?_
    refine z_putI (q := 171) C puX9_273 dX9_step_168 hf rfl fun σ hf => ?_
    refine z_aload_n (q := 172) (i := 0) C 0 dX9_step_171 rfl rfl rfl ?_
    refine z_getR (q := 175) C flX9_7 dX9_step_172 hf rfl fun v14 hf => ?_
    refine z_iload_n (q := 176) (i := 3) C 3 dX9_step_175 rfl rfl rfl ?_
    refine z_iload_n (q := 177) (i := 1) C 1 dX9_step_176 rfl rfl rfl ?_
    refine z_iast (q := 178) C dX9_step_177 hf rfl fun σ hf => ?_
    refine z_iconst (q := 179) C (1 : Int32) dX9_step_178 ki_1 rfl ?_
    refine z_istore (q := 181) (i := 6) (lv' := [(6, .int (1 : Int32)), (0, .ref a0_167), (1, .int i1_167), (2, .int i2_167), (3, .int i3_167), (4, .int i4_167)]) C dX9_step_179 (by decide) rfl rfl ?_
    refine z_lv [1, 2, 3, 4, 5, 0] rfl ?_
    obtain ⟨r1, hr1, hk1⟩ := Option.bind_eq_some_iff.mp hf
    refine loopC_ind (P := fun s => ZW l G 7 X (ZQ G X (.returned (some (.int out.1))) out.2) s.2 181 [(0, .ref a0_167), (1, .int i1_167), (2, .int i2_167), (3, .int i3_167), (4, .int i4_167), (6, .int s.1)] []) (fun s x1 hf hx1 => ?_) hr1
    obtain ⟨i_15, σ⟩ := s
    unfold f_X9_step_L181 at hf
    try dsimp only at hf
    try dsimp only
    refine z_iload (q := 183) (i := 6) C 5 dX9_step_181 rfl rfl ?_
    refine z_iconst (q := 184) C (5 : Int32) dX9_step_183 ki_5 rfl ?_
    refine z_icmpge (q := 187) (tgt := 203) C dX9_step_184 (by decide) rfl hf (fun c184 hf => ?_) (fun c184 hf => ?_)
    · have e1 := zl_x hf hx1
      have hf := hk1
      rw [← e1] at hf
      try dsimp only at hf
      refine z_aload_n (q := 204) (i := 0) C 0 dX9_step_203 rfl rfl rfl ?_
      refine z_getR (q := 207) C flX9_7 dX9_step_204 hf rfl fun v16 hf => ?_
      refine z_sipush (q := 210) C (1724 : Int32) dX9_step_207 ks_1724 rfl ?_
      refine z_dup2 (q := 211) C dX9_step_210 rfl rfl rfl ?_
      refine z_iald (q := 212) C dX9_step_211 hf rfl fun v17 hf => ?_
      refine z_iconst (q := 213) C (1 : Int32) dX9_step_212 ki_1 rfl ?_
      refine z_iadd (q := 214) C dX9_step_213 rfl ?_
      refine z_iast (q := 215) C dX9_step_214 hf rfl fun σ hf => ?_
      refine z_aload_n (q := 216) (i := 0) C 0 dX9_step_215 rfl rfl rfl ?_
      refine z_callVv (q := 219) (As := []) C (fun o ho => m_X9_ahead _ _ ho) zk9 vvX9_180 cdX9_ahead pnX9 dX9_step_216 rfl (by decide) (Nat.le_of_ble_eq_true rfl) hf rfl fun σ hf => ?_
      refine z_aload_n (q := 220) (i := 0) C 0 dX9_step_219 rfl rfl rfl ?_
      refine z_iload_n (q := 221) (i := 1) C 1 dX9_step_220 rfl rfl rfl ?_
      refine z_iload_n (q := 222) (i := 3) C 3 dX9_step_221 rfl rfl rfl ?_
      refine z_callVi (q := 225) (As := [.int i1_167, .int i3_167]) C (fun o ho => m_X9_order _ _ _ _ ho) zk9 vvX9_276 cdX9_order pnX9 dX9_step_222 rfl (by decide) (Nat.le_of_ble_eq_true rfl) hf rfl fun v19 σ hf => ?_
      refine z_ifne (q := 228) (tgt := 230) C dX9_step_225 (by decide) rfl hf (fun c225 hf => ?_) (fun c225 hf => ?_)
      · refine z_iload (q := 232) (i := 4) C 4 dX9_step_230 rfl rfl ?_
        refine z_ifeq (q := 235) (tgt := 255) C dX9_step_232 (by decide) rfl hf (fun c232 hf => ?_) (fun c232 hf => ?_)
        · refine z_lv [0, 1, 2, 3] rfl ?_
          exact j255_0 a0_167 i1_167 i2_167 i3_167 σ hf
        · refine z_aload_n (q := 236) (i := 0) C 0 dX9_step_235 rfl rfl rfl ?_
          refine z_getR (q := 239) C flX9_44 dX9_step_236 hf rfl fun v20 hf => ?_
          refine z_aload_n (q := 240) (i := 0) C 0 dX9_step_239 rfl rfl rfl ?_
          refine z_getI (q := 243) C flX9_270 dX9_step_240 hf rfl fun v21 hf => ?_
          refine z_iload_n (q := 244) (i := 2) C 2 dX9_step_243 rfl rfl rfl ?_
          refine z_iast (q := 245) C dX9_step_244 hf rfl fun σ hf => ?_
          refine z_aload_n (q := 246) (i := 0) C 0 dX9_step_245 rfl rfl rfl ?_
          refine z_dup (q := 247) C dX9_step_246 rfl rfl ?_
          refine z_getI (q := 250) C flX9_270 dX9_step_247 hf rfl fun v22 hf => ?_
          refine z_iconst (q := 251) C (1 : Int32) dX9_step_250 ki_1 rfl ?_
          refine z_iadd (q := 252) C dX9_step_251 rfl ?_
          refine z_putI (q := 255) C puX9_270 dX9_step_252 hf rfl fun σ hf => ?_
          refine z_lv [0, 1, 2, 3] rfl ?_
          exact j255_0 a0_167 i1_167 i2_167 i3_167 σ hf
      · refine z_iconst (q := 229) C (0 : Int32) dX9_step_228 ki_0 rfl ?_
        exact z_zreturn C rfl z_nb0 dX9_step_229 (Option.some.inj hf)
    · refine z_aload_n (q := 188) (i := 0) C 0 dX9_step_187 rfl rfl rfl ?_
      refine z_getR (q := 191) C flX9_7 dX9_step_188 hf rfl fun v23 hf => ?_
      refine z_iload_n (q := 192) (i := 3) C 3 dX9_step_191 rfl rfl rfl ?_
      refine z_iload (q := 194) (i := 6) C 5 dX9_step_192 rfl rfl ?_
      refine z_iadd (q := 195) C dX9_step_194 rfl ?_
      refine z_iconst (q := 196) C (-1 : Int32) dX9_step_195 ki_m1 rfl ?_
      refine z_iast (q := 197) C dX9_step_196 hf rfl fun σ hf => ?_
      refine z_iinc (q := 200) (i := 6) (lv' := [(6, .int (i_15 + (1 : Int32))), (0, .ref a0_167), (1, .int i1_167), (2, .int i2_167), (3, .int i3_167), (4, .int i4_167)]) C 5 (i_15 + (1 : Int32)) dX9_step_197 rfl (kn_1 _) (by decide) rfl rfl ?_
      refine z_goto (q := 181) C dX9_step_200 (by decide) ?_
      refine z_lv [1, 2, 3, 4, 5, 0] rfl ?_
      have hc1 := zl_c hf hx1
      exact hc1
  have j151_0 : ∀ (a0_151 : Nat) (i1_151 : Int32) (i2_151 : Int32) (i3_151 : Int32) (i4_151 : Int32) (σ : ZT), f_X9_step_J151 a0_151 i1_151 i2_151 i3_151 i4_151 σ = some out → ZW l G 7 X (ZQ G X (.returned (some (.int out.1))) out.2) σ 151 [(0, .ref a0_151), (1, .int i1_151), (2, .int i2_151), (3, .int i3_151), (4, .int i4_151)] [] := by
    intro a0_151 i1_151 i2_151 i3_151 i4_151 σ hf
    unfold f_X9_step_J151 at hf
    refine z_aload_n (q := 152) (i := 0) C 0 dX9_step_151 rfl rfl rfl ?_
    refine z_dup (q := 153) C dX9_step_152 rfl rfl ?_
    refine z_getI (q := 156) C flX9_273 dX9_step_153 hf rfl fun v13 hf => ?_
    refine z_iload_n (q := 157) (i := 1) C 1 dX9_step_156 rfl rfl rfl ?_
    refine z_bipush (q := 159) C (28 : Int32) dX9_step_157 kb_28 rfl ?_
    refine z_icmpne (q := 162) (tgt := 166) C dX9_step_159 (by decide) rfl hf (fun c159 hf => ?_) (fun c159 hf => ?_)
    · refine z_iconst (q := 167) C (1 : Int32) dX9_step_166 ki_1 rfl ?_
      exact j167_0 a0_151 i1_151 i2_151 i3_151 i4_151 (1 : Int32) v13 a0_151 σ hf
    · refine z_iconst (q := 163) C (0 : Int32) dX9_step_162 ki_0 rfl ?_
      refine z_goto (q := 167) C dX9_step_163 (by decide) ?_
      exact j167_0 a0_151 i1_151 i2_151 i3_151 i4_151 (0 : Int32) v13 a0_151 σ hf
  have j131_0 : ∀ (a0_131 : Nat) (i1_131 : Int32) (i2_131 : Int32) (i3_131 : Int32) (i4_131 : Int32) (σ : ZT), f_X9_step_J131 a0_131 i1_131 i2_131 i3_131 i4_131 σ = some out → ZW l G 7 X (ZQ G X (.returned (some (.int out.1))) out.2) σ 131 [(0, .ref a0_131), (1, .int i1_131), (2, .int i2_131), (3, .int i3_131), (4, .int i4_131)] [] := by
    intro a0_131 i1_131 i2_131 i3_131 i4_131 σ hf
    unfold f_X9_step_J131 at hf
    refine z_iload (q := 133) (i := 4) C 4 dX9_step_131 rfl rfl ?_
    refine z_ifeq (q := 136) (tgt := 151) C dX9_step_133 (by decide) rfl hf (fun c133 hf => ?_) (fun c133 hf => ?_)
    · exact j151_0 a0_131 i1_131 i2_131 i3_131 i4_131 σ hf
    · refine z_aload_n (q := 137) (i := 0) C 0 dX9_step_136 rfl rfl rfl ?_
      refine z_getI (q := 140) C flX9_270 dX9_step_137 hf rfl fun v10 hf => ?_
      refine z_iconst (q := 141) C (3 : Int32) dX9_step_140 ki_3 rfl ?_
      refine z_icmpne (q := 144) (tgt := 151) C dX9_step_141 (by decide) rfl hf (fun c141 hf => ?_) (fun c141 hf => ?_)
      · exact j151_0 a0_131 i1_131 i2_131 i3_131 i4_131 σ hf
      · refine z_aload_n (q := 145) (i := 0) C 0 dX9_step_144 rfl rfl rfl ?_
        refine z_bipush (q := 147) C (7 : Int32) dX9_step_145 kb_7 rfl ?_
        refine z_callVi (q := 150) (As := [.int (7 : Int32)]) C (fun o ho => m_X9_fails _ _ _ ho) zk9 vvX9_186 cdX9_fails pnX9 dX9_step_147 rfl (by decide) (Nat.le_of_ble_eq_true rfl) hf rfl fun v11 σ hf => ?_
        refine z_rz C hf fun hn hf => ?_
        exact z_zreturn C rfl hn dX9_step_150 (Option.some.inj hf)
  have j109_0 : ∀ (a0_109 : Nat) (i1_109 : Int32) (i2_109 : Int32) (i3_109 : Int32) (i4_109 : Int32) (σ : ZT), f_X9_step_J109 a0_109 i1_109 i2_109 i3_109 i4_109 σ = some out → ZW l G 7 X (ZQ G X (.returned (some (.int out.1))) out.2) σ 109 [(0, .ref a0_109), (1, .int i1_109), (2, .int i2_109), (3, .int i3_109), (4, .int i4_109)] [] := by
    intro a0_109 i1_109 i2_109 i3_109 i4_109 σ hf
    unfold f_X9_step_J109 at hf
    refine z_iload_n (q := 110) (i := 1) C 1 dX9_step_109 rfl rfl rfl ?_
    refine z_bipush (q := 112) C (28 : Int32) dX9_step_110 kb_28 rfl ?_
    refine z_icmpeq (q := 115) (tgt := 131) C dX9_step_112 (by decide) rfl hf (fun c112 hf => ?_) (fun c112 hf => ?_)
    · exact j131_0 a0_109 i1_109 i2_109 i3_109 i4_109 σ hf
    · refine z_aload_n (q := 116) (i := 0) C 0 dX9_step_115 rfl rfl rfl ?_
      refine z_getI (q := 119) C flX9_273 dX9_step_116 hf rfl fun v5 hf => ?_
      refine z_bipush (q := 121) C (30 : Int32) dX9_step_119 kb_30 rfl ?_
      refine z_icmpne (q := 124) (tgt := 131) C dX9_step_121 (by decide) rfl hf (fun c121 hf => ?_) (fun c121 hf => ?_)
      · exact j131_0 a0_109 i1_109 i2_109 i3_109 i4_109 σ hf
      · refine z_aload_n (q := 125) (i := 0) C 0 dX9_step_124 rfl rfl rfl ?_
        refine z_bipush (q := 127) C (6 : Int32) dX9_step_125 kb_6 rfl ?_
        refine z_callVi (q := 130) (As := [.int (6 : Int32)]) C (fun o ho => m_X9_fails _ _ _ ho) zk9 vvX9_186 cdX9_fails pnX9 dX9_step_127 rfl (by decide) (Nat.le_of_ble_eq_true rfl) hf rfl fun v6 σ hf => ?_
        refine z_rz C hf fun hn hf => ?_
        exact z_zreturn C rfl hn dX9_step_130 (Option.some.inj hf)
  have j103_0 : ∀ (a0_103 : Nat) (σ : ZT), f_X9_step_J103 a0_103 σ = some out → ZW l G 7 X (ZQ G X (.returned (some (.int out.1))) out.2) σ 103 [(0, .ref a0_103)] [] := by
    intro a0_103 σ hf
    unfold f_X9_step_J103 at hf
    refine z_aload_n (q := 104) (i := 0) C 0 dX9_step_103 rfl rfl rfl ?_
    refine z_iconst (q := 105) C (2 : Int32) dX9_step_104 ki_2 rfl ?_
    refine z_callVi (q := 108) (As := [.int (2 : Int32)]) C (fun o ho => m_X9_fails _ _ _ ho) zk9 vvX9_186 cdX9_fails pnX9 dX9_step_105 rfl (by decide) (Nat.le_of_ble_eq_true rfl) hf rfl fun v8 σ hf => ?_
    refine z_rz C hf fun hn hf => ?_
    exact z_zreturn C rfl hn dX9_step_108 (Option.some.inj hf)
  have j72_0 : ∀ (a0_72 : Nat) (i1_72 : Int32) (i2_72 : Int32) (i3_72 : Int32) (i4_72 : Int32) (w0_72 : Int32) (σ : ZT), f_X9_step_J72 a0_72 i1_72 i2_72 i3_72 i4_72 w0_72 σ = some out → ZW l G 7 X (ZQ G X (.returned (some (.int out.1))) out.2) σ 72 [(0, .ref a0_72), (1, .int i1_72), (2, .int i2_72), (3, .int i3_72), (4, .int i4_72)] [.int w0_72] := by
    intro a0_72 i1_72 i2_72 i3_72 i4_72 w0_72 σ hf
    unfold f_X9_step_J72 at hf
    refine z_istore (q := 74) (i := 5) (lv' := [(5, .int w0_72), (0, .ref a0_72), (1, .int i1_72), (2, .int i2_72), (3, .int i3_72), (4, .int i4_72)]) C dX9_step_72 (by decide) rfl rfl ?_
    refine z_iload (q := 76) (i := 5) C 0 dX9_step_74 rfl rfl ?_
    refine z_ifne (q := 79) (tgt := 109) C dX9_step_76 (by decide) rfl hf (fun c76 hf => ?_) (fun c76 hf => ?_)
    · refine z_lv [1, 2, 3, 4, 5] rfl ?_
      exact j109_0 a0_72 i1_72 i2_72 i3_72 i4_72 σ hf
    · refine z_iload (q := 81) (i := 4) C 5 dX9_step_79 rfl rfl ?_
      refine z_ifne (q := 84) (tgt := 109) C dX9_step_81 (by decide) rfl hf (fun c81 hf => ?_) (fun c81 hf => ?_)
      · refine z_lv [1, 2, 3, 4, 5] rfl ?_
        exact j109_0 a0_72 i1_72 i2_72 i3_72 i4_72 σ hf
      · refine z_iload_n (q := 85) (i := 1) C 2 dX9_step_84 rfl rfl rfl ?_
        refine z_bipush (q := 87) C (29 : Int32) dX9_step_85 kb_29 rfl ?_
        refine z_icmpeq (q := 90) (tgt := 109) C dX9_step_87 (by decide) rfl hf (fun c87 hf => ?_) (fun c87 hf => ?_)
        · refine z_lv [1, 2, 3, 4, 5] rfl ?_
          exact j109_0 a0_72 i1_72 i2_72 i3_72 i4_72 σ hf
        · refine z_iload_n (q := 91) (i := 1) C 2 dX9_step_90 rfl rfl rfl ?_
          refine z_bipush (q := 93) C (28 : Int32) dX9_step_91 kb_28 rfl ?_
          refine z_icmpne (q := 96) (tgt := 103) C dX9_step_93 (by decide) rfl hf (fun c93 hf => ?_) (fun c93 hf => ?_)
          · refine z_lv [1] rfl ?_
            exact j103_0 a0_72 σ hf
          · refine z_aload_n (q := 97) (i := 0) C 1 dX9_step_96 rfl rfl rfl ?_
            refine z_getI (q := 100) C flX9_270 dX9_step_97 hf rfl fun v4 hf => ?_
            refine z_ifne (q := 103) (tgt := 109) C dX9_step_100 (by decide) rfl hf (fun c100 hf => ?_) (fun c100 hf => ?_)
            · refine z_lv [1, 2, 3, 4, 5] rfl ?_
              exact j109_0 a0_72 i1_72 i2_72 i3_72 i4_72 σ hf
            · refine z_lv [1] rfl ?_
              exact j103_0 a0_72 σ hf
  have j67_0 : ∀ (a0_67 : Nat) (i1_67 : Int32) (i2_67 : Int32) (i3_67 : Int32) (i4_67 : Int32) (σ : ZT), f_X9_step_J67 a0_67 i1_67 i2_67 i3_67 i4_67 σ = some out → ZW l G 7 X (ZQ G X (.returned (some (.int out.1))) out.2) σ 67 [(0, .ref a0_67), (1, .int i1_67), (2, .int i2_67), (3, .int i3_67), (4, .int i4_67)] [] := by
    intro a0_67 i1_67 i2_67 i3_67 i4_67 σ hf
    unfold f_X9_step_J67 at hf
    refine z_iconst (q := 68) C (1 : Int32) dX9_step_67 ki_1 rfl ?_
    refine z_goto (q := 72) C dX9_step_68 (by decide) ?_
    exact j72_0 a0_67 i1_67 i2_67 i3_67 i4_67 (1 : Int32) σ hf
  have j41_0 : ∀ (a0_41 : Nat) (i1_41 : Int32) (i2_41 : Int32) (i3_41 : Int32) (w0_41 : Int32) (σ : ZT), f_X9_step_J41 a0_41 i1_41 i2_41 i3_41 w0_41 σ = some out → ZW l G 7 X (ZQ G X (.returned (some (.int out.1))) out.2) σ 41 [(0, .ref a0_41), (1, .int i1_41), (2, .int i2_41), (3, .int i3_41)] [.int w0_41] := by
    intro a0_41 i1_41 i2_41 i3_41 w0_41 σ hf
    unfold f_X9_step_J41 at hf
    refine z_istore (q := 43) (i := 4) (lv' := [(4, .int w0_41), (0, .ref a0_41), (1, .int i1_41), (2, .int i2_41), (3, .int i3_41)]) C dX9_step_41 (by decide) rfl rfl ?_
    refine z_iload_n (q := 44) (i := 1) C 2 dX9_step_43 rfl rfl rfl ?_
    refine z_bipush (q := 46) C (19 : Int32) dX9_step_44 kb_19 rfl ?_
    refine z_icmpeq (q := 49) (tgt := 67) C dX9_step_46 (by decide) rfl hf (fun c46 hf => ?_) (fun c46 hf => ?_)
    · refine z_lv [1, 2, 3, 4, 0] rfl ?_
      exact j67_0 a0_41 i1_41 i2_41 i3_41 w0_41 σ hf
    · refine z_iload_n (q := 50) (i := 1) C 2 dX9_step_49 rfl rfl rfl ?_
      refine z_bipush (q := 52) C (20 : Int32) dX9_step_50 kb_20 rfl ?_
      refine z_icmpeq (q := 55) (tgt := 67) C dX9_step_52 (by decide) rfl hf (fun c52 hf => ?_) (fun c52 hf => ?_)
      · refine z_lv [1, 2, 3, 4, 0] rfl ?_
        exact j67_0 a0_41 i1_41 i2_41 i3_41 w0_41 σ hf
      · refine z_iload_n (q := 56) (i := 1) C 2 dX9_step_55 rfl rfl rfl ?_
        refine z_bipush (q := 58) C (22 : Int32) dX9_step_56 kb_22 rfl ?_
        refine z_icmpeq (q := 61) (tgt := 67) C dX9_step_58 (by decide) rfl hf (fun c58 hf => ?_) (fun c58 hf => ?_)
        · refine z_lv [1, 2, 3, 4, 0] rfl ?_
          exact j67_0 a0_41 i1_41 i2_41 i3_41 w0_41 σ hf
        · refine z_iload_n (q := 62) (i := 1) C 2 dX9_step_61 rfl rfl rfl ?_
          refine z_bipush (q := 64) C (23 : Int32) dX9_step_62 kb_23 rfl ?_
          refine z_icmpne (q := 67) (tgt := 71) C dX9_step_64 (by decide) rfl hf (fun c64 hf => ?_) (fun c64 hf => ?_)
          · refine z_iconst (q := 72) C (0 : Int32) dX9_step_71 ki_0 rfl ?_
            refine z_lv [1, 2, 3, 4, 0] rfl ?_
            exact j72_0 a0_41 i1_41 i2_41 i3_41 w0_41 (0 : Int32) σ hf
          · refine z_lv [1, 2, 3, 4, 0] rfl ?_
            exact j67_0 a0_41 i1_41 i2_41 i3_41 w0_41 σ hf
  have j36_0 : ∀ (a0_36 : Nat) (i1_36 : Int32) (i2_36 : Int32) (i3_36 : Int32) (σ : ZT), f_X9_step_J36 a0_36 i1_36 i2_36 i3_36 σ = some out → ZW l G 7 X (ZQ G X (.returned (some (.int out.1))) out.2) σ 36 [(0, .ref a0_36), (1, .int i1_36), (2, .int i2_36), (3, .int i3_36)] [] := by
    intro a0_36 i1_36 i2_36 i3_36 σ hf
    unfold f_X9_step_J36 at hf
    refine z_iconst (q := 37) C (1 : Int32) dX9_step_36 ki_1 rfl ?_
    refine z_goto (q := 41) C dX9_step_37 (by decide) ?_
    exact j41_0 a0_36 i1_36 i2_36 i3_36 (1 : Int32) σ hf
  refine z_aload_n (q := 1) (i := 0) C 0 dX9_step_0 rfl rfl rfl ?_
  refine z_ldcS (q := 3) C 30 (by decide) rfl rfl dX9_step_1 rfl ?_
  refine z_callVi (q := 6) (As := [.ref (gS G 30)]) C (fun o ho => m_X9_inWords _ _ _ ho) zk9 vvX9_189 cdX9_inWords pnX9 dX9_step_3 rfl (by decide) (Nat.le_of_ble_eq_true rfl) hf rfl fun v1 σ hf => ?_
  refine z_istore_n (q := 7) (i := 1) (lv' := [(1, .int v1), (0, .ref a0)]) C dX9_step_6 rfl (by decide) rfl rfl ?_
  refine z_aload_n (q := 8) (i := 0) C 1 dX9_step_7 rfl rfl rfl ?_
  refine z_getR (q := 11) C flX9_7 dX9_step_8 hf rfl fun v2 hf => ?_
  refine z_sipush (q := 14) C (1724 : Int32) dX9_step_11 ks_1724 rfl ?_
  refine z_iald (q := 15) C dX9_step_14 hf rfl fun v3 hf => ?_
  refine z_istore_n (q := 16) (i := 2) (lv' := [(2, .int v3), (1, .int v1), (0, .ref a0)]) C dX9_step_15 rfl (by decide) rfl rfl ?_
  refine z_sipush (q := 19) C (1840 : Int32) dX9_step_16 ks_1840 rfl ?_
  refine z_iconst (q := 20) C (5 : Int32) dX9_step_19 ki_5 rfl ?_
  refine z_iload_n (q := 21) (i := 2) C 0 dX9_step_20 rfl rfl rfl ?_
  refine z_imul (q := 22) C dX9_step_21 rfl ?_
  refine z_iadd (q := 23) C dX9_step_22 rfl ?_
  refine z_istore_n (q := 24) (i := 3) (lv' := [(3, .int ((1840 : Int32) + ((5 : Int32) * v3))), (2, .int v3), (1, .int v1), (0, .ref a0)]) C dX9_step_23 rfl (by decide) rfl rfl ?_
  refine z_iload_n (q := 25) (i := 1) C 2 dX9_step_24 rfl rfl rfl ?_
  refine z_bipush (q := 27) C (24 : Int32) dX9_step_25 kb_24 rfl ?_
  refine z_icmpeq (q := 30) (tgt := 36) C dX9_step_27 (by decide) rfl hf (fun c27 hf => ?_) (fun c27 hf => ?_)
  · refine z_lv [3, 2, 1, 0] rfl ?_
    exact j36_0 a0 v1 v3 ((1840 : Int32) + ((5 : Int32) * v3)) σ hf
  · refine z_iload_n (q := 31) (i := 1) C 2 dX9_step_30 rfl rfl rfl ?_
    refine z_bipush (q := 33) C (27 : Int32) dX9_step_31 kb_27 rfl ?_
    refine z_icmpne (q := 36) (tgt := 40) C dX9_step_33 (by decide) rfl hf (fun c33 hf => ?_) (fun c33 hf => ?_)
    · refine z_iconst (q := 41) C (0 : Int32) dX9_step_40 ki_0 rfl ?_
      refine z_lv [3, 2, 1, 0] rfl ?_
      exact j41_0 a0 v1 v3 ((1840 : Int32) + ((5 : Int32) * v3)) (0 : Int32) σ hf
    · refine z_lv [3, 2, 1, 0] rfl ?_
      exact j36_0 a0 v1 v3 ((1840 : Int32) + ((5 : Int32) * v3)) σ hf

noncomputable def f_X9_orders_L38 (c0_38 : Nat) (i_3 : Int32) (σ : ZT) : Option ((Int32 × ZT) ⊕ ZT) :=
  if i_3 = 0 then
  (some (.inr σ))
  else
  ((gI 9 912 c0_38 σ).bind fun v4 =>
  if v4 = 0 then
  (some (.inr σ))
  else
  (bnd2 (vc 9 c0_38 σ (f_X9_step c0_38 σ)) fun v5 σ =>
  some (.inl (v5, σ))))
noncomputable def f_X9_orders_J130 (a0_130 : Nat) (σ : ZT) : Option (Int32 × ZT) :=
  (gI 9 923 a0_130 σ).bind fun v18 =>
  bnd2 (vc 9 a0_130 σ (f_X9_taken a0_130 v18 σ)) fun v19 σ =>
  some (v19, σ)
noncomputable def f_X9_orders_L101 (c0_101 : Nat) (i_14 : Int32) (σ : ZT) : Option ((Int32 × ZT) ⊕ ZT) :=
  if i_14 < (430 : Int32) then
  ((gR 9 900 c0_101 σ).bind fun v15 =>
  (gR 9 900 c0_101 σ).bind fun v16 =>
  (ldI 0 v16 ((1720 : Int32) + i_14) σ).bind fun v17 =>
  (stI v15 i_14 v17 σ).bind fun σ =>
  some (.inl ((i_14 + (1 : Int32)), σ)))
  else
  (some (.inr σ))
noncomputable def f_X9_orders_J77 (a0_77 : Nat) (σ : ZT) : Option (Int32 × ZT) :=
  (gI 9 918 a0_77 σ).bind fun v10 =>
  if v10 = 0 then
  ((gR 9 900 a0_77 σ).bind fun v11 =>
  (gR 9 900 a0_77 σ).bind fun v12 =>
  (ldI 0 v12 (1724 : Int32) σ).bind fun v13 =>
  (stI v11 (4 : Int32) v13 σ).bind fun σ =>
  (loopC (fun s : (Int32 × ZT) => f_X9_orders_L101 a0_77 s.1 s.2) ((120 : Int32), σ)).bind fun σ =>
  f_X9_orders_J130 a0_77 σ)
  else
  (f_X9_orders_J130 a0_77 σ)
noncomputable def f_X9_orders_J57 (a0_57 : Nat) (σ : ZT) : Option (Int32 × ZT) :=
  (gI 9 918 a0_57 σ).bind fun v7 =>
  if v7 = 0 then
  ((gI 9 922 a0_57 σ).bind fun v8 =>
  if 0 < v8 then
  (bnd2 (vc 9 a0_57 σ (f_X9_fails a0_57 (2 : Int32) σ)) fun v9 σ =>
  f_X9_orders_J77 a0_57 σ)
  else
  (f_X9_orders_J77 a0_57 σ))
  else
  (f_X9_orders_J77 a0_57 σ)
noncomputable def f_X9_orders (a0 : Nat) (i1 : Int32) (σ : ZT) : Option (Int32 × ZT) :=
  bnd2 (vc 9 a0 σ (f_X9_begins a0 i1 (300 : Int32) σ)) fun v1 σ =>
  if v1 = 0 then
  (bnd2 (vc 9 a0 σ (f_X9_refuse a0 (1 : Int32) σ)) fun v6 σ =>
  some (v6, σ))
  else
  ((gR 9 900 a0 σ).bind fun v2 =>
  (stI v2 (1724 : Int32) (0 : Int32) σ).bind fun σ =>
  (pI 9 922 a0 (0 : Int32) σ).bind fun σ =>
  (pI 9 923 a0 (0 : Int32) σ).bind fun σ =>
  (loopC (fun s : (Int32 × ZT) => f_X9_orders_L38 a0 s.1 s.2) ((1 : Int32), σ)).bind fun σ =>
  f_X9_orders_J57 a0 σ)
set_option maxHeartbeats 4000000 in
theorem m_X9_orders {l : Launch} {G : ZG} (a0 : Nat) (i1 : Int32) (σ : ZT) {out : (Int32 × ZT)} (hf : f_X9_orders a0 i1 σ = some out) : ZM l G yX9_orders cX9_orders 4 (some .int) [] 14 [.ref a0, .int i1] σ (.returned (some (.int out.1))) out.2 := by
  refine ZM.of [(0, .ref a0), (1, .int i1)] rfl (Nat.le_of_ble_eq_true rfl) fun X (C : ZC G RX9 "orders" cX9_orders 4 (some .int) [] X 14) => ?_
  unfold f_X9_orders at hf
  have j130_0 : ∀ (a0_130 : Nat) (σ : ZT), f_X9_orders_J130 a0_130 σ = some out → ZW l G 4 X (ZQ G X (.returned (some (.int out.1))) out.2) σ 130 [(0, .ref a0_130)] [] := by
    intro a0_130 σ hf
    unfold f_X9_orders_J130 at hf
    refine z_aload_n (q := 131) (i := 0) C 0 dX9_orders_130 rfl rfl rfl ?_
    refine z_aload_n (q := 132) (i := 0) C 0 dX9_orders_131 rfl rfl rfl ?_
    refine z_getI (q := 135) C flX9_273 dX9_orders_132 hf rfl fun v18 hf => ?_
    refine z_callVi (q := 138) (As := [.int v18]) C (fun o ho => m_X9_taken _ _ _ ho) zk9 vvX9_255 cdX9_taken pnX9 dX9_orders_135 rfl (by decide) (Nat.le_of_ble_eq_true rfl) hf rfl fun v19 σ hf => ?_
    exact z_ireturn C rfl dX9_orders_138 (Option.some.inj hf)
  have j77_0 : ∀ (a0_77 : Nat) (σ : ZT), f_X9_orders_J77 a0_77 σ = some out → ZW l G 4 X (ZQ G X (.returned (some (.int out.1))) out.2) σ 77 [(0, .ref a0_77)] [] := by
    intro a0_77 σ hf
    unfold f_X9_orders_J77 at hf
    refine z_aload_n (q := 78) (i := 0) C 0 dX9_orders_77 rfl rfl rfl ?_
    refine z_getI (q := 81) C flX9_174 dX9_orders_78 hf rfl fun v10 hf => ?_
    refine z_ifne (q := 84) (tgt := 130) C dX9_orders_81 (by decide) rfl hf (fun c81 hf => ?_) (fun c81 hf => ?_)
    · exact j130_0 a0_77 σ hf
    · refine z_aload_n (q := 85) (i := 0) C 0 dX9_orders_84 rfl rfl rfl ?_
      refine z_getR (q := 88) C flX9_7 dX9_orders_85 hf rfl fun v11 hf => ?_
      refine z_iconst (q := 89) C (4 : Int32) dX9_orders_88 ki_4 rfl ?_
      refine z_aload_n (q := 90) (i := 0) C 0 dX9_orders_89 rfl rfl rfl ?_
      refine z_getR (q := 93) C flX9_7 dX9_orders_90 hf rfl fun v12 hf => ?_
      refine z_sipush (q := 96) C (1724 : Int32) dX9_orders_93 ks_1724 rfl ?_
      refine z_iald (q := 97) C dX9_orders_96 hf rfl fun v13 hf => ?_
      refine z_iast (q := 98) C dX9_orders_97 hf rfl fun σ hf => ?_
      refine z_bipush (q := 100) C (120 : Int32) dX9_orders_98 kb_120 rfl ?_
      refine z_istore_n (q := 101) (i := 3) (lv' := [(3, .int (120 : Int32)), (0, .ref a0_77)]) C dX9_orders_100 rfl (by decide) rfl rfl ?_
      refine z_lv [1, 0] rfl ?_
      obtain ⟨r1, hr1, hk1⟩ := Option.bind_eq_some_iff.mp hf
      refine loopC_ind (P := fun s => ZW l G 4 X (ZQ G X (.returned (some (.int out.1))) out.2) s.2 101 [(0, .ref a0_77), (3, .int s.1)] []) (fun s x1 hf hx1 => ?_) hr1
      obtain ⟨i_14, σ⟩ := s
      unfold f_X9_orders_L101 at hf
      try dsimp only at hf
      try dsimp only
      refine z_iload_n (q := 102) (i := 3) C 1 dX9_orders_101 rfl rfl rfl ?_
      refine z_sipush (q := 105) C (430 : Int32) dX9_orders_102 ks_430 rfl ?_
      refine z_icmpge (q := 108) (tgt := 130) C dX9_orders_105 (by decide) rfl hf (fun c105 hf => ?_) (fun c105 hf => ?_)
      · have e1 := zl_x hf hx1
        have hf := hk1
        rw [← e1] at hf
        try dsimp only at hf
        refine z_lv [0] rfl ?_
        exact j130_0 a0_77 σ hf
      · refine z_aload_n (q := 109) (i := 0) C 0 dX9_orders_108 rfl rfl rfl ?_
        refine z_getR (q := 112) C flX9_7 dX9_orders_109 hf rfl fun v15 hf => ?_
        refine z_iload_n (q := 113) (i := 3) C 1 dX9_orders_112 rfl rfl rfl ?_
        refine z_aload_n (q := 114) (i := 0) C 0 dX9_orders_113 rfl rfl rfl ?_
        refine z_getR (q := 117) C flX9_7 dX9_orders_114 hf rfl fun v16 hf => ?_
        refine z_sipush (q := 120) C (1720 : Int32) dX9_orders_117 ks_1720 rfl ?_
        refine z_iload_n (q := 121) (i := 3) C 1 dX9_orders_120 rfl rfl rfl ?_
        refine z_iadd (q := 122) C dX9_orders_121 rfl ?_
        refine z_iald (q := 123) C dX9_orders_122 hf rfl fun v17 hf => ?_
        refine z_iast (q := 124) C dX9_orders_123 hf rfl fun σ hf => ?_
        refine z_iinc (q := 127) (i := 3) (lv' := [(3, .int (i_14 + (1 : Int32))), (0, .ref a0_77)]) C 1 (i_14 + (1 : Int32)) dX9_orders_124 rfl (kn_1 _) (by decide) rfl rfl ?_
        refine z_goto (q := 101) C dX9_orders_127 (by decide) ?_
        refine z_lv [1, 0] rfl ?_
        have hc1 := zl_c hf hx1
        exact hc1
  have j57_0 : ∀ (a0_57 : Nat) (σ : ZT), f_X9_orders_J57 a0_57 σ = some out → ZW l G 4 X (ZQ G X (.returned (some (.int out.1))) out.2) σ 57 [(0, .ref a0_57)] [] := by
    intro a0_57 σ hf
    unfold f_X9_orders_J57 at hf
    refine z_aload_n (q := 58) (i := 0) C 0 dX9_orders_57 rfl rfl rfl ?_
    refine z_getI (q := 61) C flX9_174 dX9_orders_58 hf rfl fun v7 hf => ?_
    refine z_ifne (q := 64) (tgt := 77) C dX9_orders_61 (by decide) rfl hf (fun c61 hf => ?_) (fun c61 hf => ?_)
    · exact j77_0 a0_57 σ hf
    · refine z_aload_n (q := 65) (i := 0) C 0 dX9_orders_64 rfl rfl rfl ?_
      refine z_getI (q := 68) C flX9_270 dX9_orders_65 hf rfl fun v8 hf => ?_
      refine z_ifle (q := 71) (tgt := 77) C dX9_orders_68 (by decide) rfl hf (fun c68 hf => ?_) (fun c68 hf => ?_)
      · exact j77_0 a0_57 σ hf
      · refine z_aload_n (q := 72) (i := 0) C 0 dX9_orders_71 rfl rfl rfl ?_
        refine z_iconst (q := 73) C (2 : Int32) dX9_orders_72 ki_2 rfl ?_
        refine z_callVi (q := 76) (As := [.int (2 : Int32)]) C (fun o ho => m_X9_fails _ _ _ ho) zk9 vvX9_186 cdX9_fails pnX9 dX9_orders_73 rfl (by decide) (Nat.le_of_ble_eq_true rfl) hf rfl fun v9 σ hf => ?_
        refine z_pop (q := 77) C dX9_orders_76 rfl rfl ?_
        exact j77_0 a0_57 σ hf
  refine z_aload_n (q := 1) (i := 0) C 0 dX9_orders_0 rfl rfl rfl ?_
  refine z_iload_n (q := 2) (i := 1) C 1 dX9_orders_1 rfl rfl rfl ?_
  refine z_sipush (q := 5) C (300 : Int32) dX9_orders_2 ks_300 rfl ?_
  refine z_callVi (q := 8) (As := [.int i1, .int (300 : Int32)]) C (fun o ho => m_X9_begins _ _ _ _ ho) zk9 vvX9_245 cdX9_begins pnX9 dX9_orders_5 rfl (by decide) (Nat.le_of_ble_eq_true rfl) hf rfl fun v1 σ hf => ?_
  refine z_ifne (q := 11) (tgt := 17) C dX9_orders_8 (by decide) rfl hf (fun c8 hf => ?_) (fun c8 hf => ?_)
  · refine z_aload_n (q := 18) (i := 0) C 0 dX9_orders_17 rfl rfl rfl ?_
    refine z_getR (q := 21) C flX9_7 dX9_orders_18 hf rfl fun v2 hf => ?_
    refine z_sipush (q := 24) C (1724 : Int32) dX9_orders_21 ks_1724 rfl ?_
    refine z_iconst (q := 25) C (0 : Int32) dX9_orders_24 ki_0 rfl ?_
    refine z_iast (q := 26) C dX9_orders_25 hf rfl fun σ hf => ?_
    refine z_aload_n (q := 27) (i := 0) C 0 dX9_orders_26 rfl rfl rfl ?_
    refine z_iconst (q := 28) C (0 : Int32) dX9_orders_27 ki_0 rfl ?_
    refine z_putI (q := 31) C puX9_270 dX9_orders_28 hf rfl fun σ hf => ?_
    refine z_aload_n (q := 32) (i := 0) C 0 dX9_orders_31 rfl rfl rfl ?_
    refine z_iconst (q := 33) C (0 : Int32) dX9_orders_32 ki_0 rfl ?_
    refine z_putI (q := 36) C puX9_273 dX9_orders_33 hf rfl fun σ hf => ?_
    refine z_iconst (q := 37) C (1 : Int32) dX9_orders_36 ki_1 rfl ?_
    refine z_istore_n (q := 38) (i := 2) (lv' := [(2, .int (1 : Int32)), (0, .ref a0), (1, .int i1)]) C dX9_orders_37 rfl (by decide) rfl rfl ?_
    refine z_lv [1, 0] rfl ?_
    obtain ⟨r1, hr1, hk1⟩ := Option.bind_eq_some_iff.mp hf
    refine loopC_ind (P := fun s => ZW l G 4 X (ZQ G X (.returned (some (.int out.1))) out.2) s.2 38 [(0, .ref a0), (2, .int s.1)] []) (fun s x1 hf hx1 => ?_) hr1
    obtain ⟨i_3, σ⟩ := s
    unfold f_X9_orders_L38 at hf
    try dsimp only at hf
    try dsimp only
    refine z_iload_n (q := 39) (i := 2) C 1 dX9_orders_38 rfl rfl rfl ?_
    refine z_ifeq (q := 42) (tgt := 57) C dX9_orders_39 (by decide) rfl hf (fun c39 hf => ?_) (fun c39 hf => ?_)
    · have e1 := zl_x hf hx1
      have hf := hk1
      rw [← e1] at hf
      try dsimp only at hf
      refine z_lv [0] rfl ?_
      exact j57_0 a0 σ hf
    · refine z_aload_n (q := 43) (i := 0) C 0 dX9_orders_42 rfl rfl rfl ?_
      refine z_getI (q := 46) C flX9_149 dX9_orders_43 hf rfl fun v4 hf => ?_
      refine z_ifeq (q := 49) (tgt := 57) C dX9_orders_46 (by decide) rfl hf (fun c46 hf => ?_) (fun c46 hf => ?_)
      · have e1 := zl_x hf hx1
        have hf := hk1
        rw [← e1] at hf
        try dsimp only at hf
        refine z_lv [0] rfl ?_
        exact j57_0 a0 σ hf
      · refine z_aload_n (q := 50) (i := 0) C 0 dX9_orders_49 rfl rfl rfl ?_
        refine z_callVi (q := 53) (As := []) C (fun o ho => m_X9_step _ _ ho) zk9 vvX9_279 cdX9_step pnX9 dX9_orders_50 rfl (by decide) (Nat.le_of_ble_eq_true rfl) hf rfl fun v5 σ hf => ?_
        refine z_istore_n (q := 54) (i := 2) (lv' := [(2, .int v5), (0, .ref a0)]) C dX9_orders_53 rfl (by decide) rfl rfl ?_
        refine z_goto (q := 38) C dX9_orders_54 (by decide) ?_
        refine z_lv [1, 0] rfl ?_
        have hc1 := zl_c hf hx1
        exact hc1
  · refine z_aload_n (q := 12) (i := 0) C 0 dX9_orders_11 rfl rfl rfl ?_
    refine z_iconst (q := 13) C (1 : Int32) dX9_orders_12 ki_1 rfl ?_
    refine z_callVi (q := 16) (As := [.int (1 : Int32)]) C (fun o ho => m_X9_refuse _ _ _ ho) zk9 vvX9_103 cdX9_refuse pnX9 dX9_orders_13 rfl (by decide) (Nat.le_of_ble_eq_true rfl) hf rfl fun v6 σ hf => ?_
    exact z_ireturn C rfl dX9_orders_16 (Option.some.inj hf)

noncomputable def f_X9_takesNow_L30 (c0_30 : Nat) (i_2 : Int32) (σ : ZT) : Option ((Int32 × ZT) ⊕ ZT) :=
  if i_2 < (2 : Int32) then
  ((gR 9 925 c0_30 σ).bind fun v3 =>
  (gR 9 900 c0_30 σ).bind fun v4 =>
  (ldI 0 v4 ((114 : Int32) + i_2) σ).bind fun v5 =>
  (stI v3 i_2 v5 σ).bind fun σ =>
  some (.inl ((i_2 + (1 : Int32)), σ)))
  else
  (some (.inr σ))
noncomputable def f_X9_takesNow_L2 (c0_2 : Nat) (i_1 : Int32) (σ : ZT) : Option ((Int32 × ZT) ⊕ ZT) :=
  if i_1 < (4 : Int32) then
  ((gR 9 924 c0_2 σ).bind fun v6 =>
  (gR 9 900 c0_2 σ).bind fun v7 =>
  (ldI 0 v7 ((110 : Int32) + i_1) σ).bind fun v8 =>
  (stI v6 i_1 v8 σ).bind fun σ =>
  some (.inl ((i_1 + (1 : Int32)), σ)))
  else
  (some (.inr σ))
noncomputable def f_X9_takesNow (a0 : Nat) (σ : ZT) : Option ZT :=
  (loopC (fun s : (Int32 × ZT) => f_X9_takesNow_L2 a0 s.1 s.2) ((0 : Int32), σ)).bind fun σ =>
  (loopC (fun s : (Int32 × ZT) => f_X9_takesNow_L30 a0 s.1 s.2) ((0 : Int32), σ)).bind fun σ =>
  some σ
set_option maxHeartbeats 4000000 in
theorem m_X9_takesNow {l : Launch} {G : ZG} (a0 : Nat) (σ : ZT) {out : ZT} (hf : f_X9_takesNow a0 σ = some out) : ZM l G yX9_takesNow cX9_takesNow 2 none [] 1 [.ref a0] σ (.returned none) out := by
  refine ZM.of [(0, .ref a0)] rfl (Nat.le_of_ble_eq_true rfl) fun X (C : ZC G RX9 "takesNow" cX9_takesNow 2 none [] X 1) => ?_
  unfold f_X9_takesNow at hf
  refine z_iconst (q := 1) C (0 : Int32) dX9_takesNow_0 ki_0 rfl ?_
  refine z_istore_n (q := 2) (i := 1) (lv' := [(1, .int (0 : Int32)), (0, .ref a0)]) C dX9_takesNow_1 rfl (by decide) rfl rfl ?_
  refine z_lv [1, 0] rfl ?_
  obtain ⟨r1, hr1, hk1⟩ := Option.bind_eq_some_iff.mp hf
  refine loopC_ind (P := fun s => ZW l G 2 X (ZQ G X (.returned none) out) s.2 2 [(0, .ref a0), (1, .int s.1)] []) (fun s x1 hf hx1 => ?_) hr1
  obtain ⟨i_1, σ⟩ := s
  unfold f_X9_takesNow_L2 at hf
  try dsimp only at hf
  try dsimp only
  refine z_iload_n (q := 3) (i := 1) C 1 dX9_takesNow_2 rfl rfl rfl ?_
  refine z_iconst (q := 4) C (4 : Int32) dX9_takesNow_3 ki_4 rfl ?_
  refine z_icmpge (q := 7) (tgt := 28) C dX9_takesNow_4 (by decide) rfl hf (fun c4 hf => ?_) (fun c4 hf => ?_)
  · have e1 := zl_x hf hx1
    have hf := hk1
    rw [← e1] at hf
    try dsimp only at hf
    refine z_iconst (q := 29) C (0 : Int32) dX9_takesNow_28 ki_0 rfl ?_
    refine z_istore_n (q := 30) (i := 1) (lv' := [(1, .int (0 : Int32)), (0, .ref a0)]) C dX9_takesNow_29 rfl (by decide) rfl rfl ?_
    refine z_lv [1, 0] rfl ?_
    obtain ⟨r1, hr1, hk1⟩ := Option.bind_eq_some_iff.mp hf
    refine loopC_ind (P := fun s => ZW l G 2 X (ZQ G X (.returned none) out) s.2 30 [(0, .ref a0), (1, .int s.1)] []) (fun s x1 hf hx1 => ?_) hr1
    obtain ⟨i_2, σ⟩ := s
    unfold f_X9_takesNow_L30 at hf
    try dsimp only at hf
    try dsimp only
    refine z_iload_n (q := 31) (i := 1) C 1 dX9_takesNow_30 rfl rfl rfl ?_
    refine z_iconst (q := 32) C (2 : Int32) dX9_takesNow_31 ki_2 rfl ?_
    refine z_icmpge (q := 35) (tgt := 56) C dX9_takesNow_32 (by decide) rfl hf (fun c32 hf => ?_) (fun c32 hf => ?_)
    · have e1 := zl_x hf hx1
      have hf := hk1
      rw [← e1] at hf
      try dsimp only at hf
      exact z_return C rfl dX9_takesNow_56 (Option.some.inj hf)
    · refine z_aload_n (q := 36) (i := 0) C 0 dX9_takesNow_35 rfl rfl rfl ?_
      refine z_getR (q := 39) C flX9_50 dX9_takesNow_36 hf rfl fun v3 hf => ?_
      refine z_iload_n (q := 40) (i := 1) C 1 dX9_takesNow_39 rfl rfl rfl ?_
      refine z_aload_n (q := 41) (i := 0) C 0 dX9_takesNow_40 rfl rfl rfl ?_
      refine z_getR (q := 44) C flX9_7 dX9_takesNow_41 hf rfl fun v4 hf => ?_
      refine z_bipush (q := 46) C (114 : Int32) dX9_takesNow_44 kb_114 rfl ?_
      refine z_iload_n (q := 47) (i := 1) C 1 dX9_takesNow_46 rfl rfl rfl ?_
      refine z_iadd (q := 48) C dX9_takesNow_47 rfl ?_
      refine z_iald (q := 49) C dX9_takesNow_48 hf rfl fun v5 hf => ?_
      refine z_iast (q := 50) C dX9_takesNow_49 hf rfl fun σ hf => ?_
      refine z_iinc (q := 53) (i := 1) (lv' := [(1, .int (i_2 + (1 : Int32))), (0, .ref a0)]) C 1 (i_2 + (1 : Int32)) dX9_takesNow_50 rfl (kn_1 _) (by decide) rfl rfl ?_
      refine z_goto (q := 30) C dX9_takesNow_53 (by decide) ?_
      refine z_lv [1, 0] rfl ?_
      have hc1 := zl_c hf hx1
      exact hc1
  · refine z_aload_n (q := 8) (i := 0) C 0 dX9_takesNow_7 rfl rfl rfl ?_
    refine z_getR (q := 11) C flX9_47 dX9_takesNow_8 hf rfl fun v6 hf => ?_
    refine z_iload_n (q := 12) (i := 1) C 1 dX9_takesNow_11 rfl rfl rfl ?_
    refine z_aload_n (q := 13) (i := 0) C 0 dX9_takesNow_12 rfl rfl rfl ?_
    refine z_getR (q := 16) C flX9_7 dX9_takesNow_13 hf rfl fun v7 hf => ?_
    refine z_bipush (q := 18) C (110 : Int32) dX9_takesNow_16 kb_110 rfl ?_
    refine z_iload_n (q := 19) (i := 1) C 1 dX9_takesNow_18 rfl rfl rfl ?_
    refine z_iadd (q := 20) C dX9_takesNow_19 rfl ?_
    refine z_iald (q := 21) C dX9_takesNow_20 hf rfl fun v8 hf => ?_
    refine z_iast (q := 22) C dX9_takesNow_21 hf rfl fun σ hf => ?_
    refine z_iinc (q := 25) (i := 1) (lv' := [(1, .int (i_1 + (1 : Int32))), (0, .ref a0)]) C 1 (i_1 + (1 : Int32)) dX9_takesNow_22 rfl (kn_1 _) (by decide) rfl rfl ?_
    refine z_goto (q := 2) C dX9_takesNow_25 (by decide) ?_
    refine z_lv [1, 0] rfl ?_
    have hc1 := zl_c hf hx1
    exact hc1

noncomputable def f_X9_isDone_J48_4 (a0_48 : Nat) (i2_48 : Int32) (w0_48 : Int32) (σ : ZT) : Option ((Int32 × Int32 × ZT) ⊕ (Int32 × ZT)) :=
  some (.inl (w0_48, (i2_48 + (1 : Int32)), σ))
noncomputable def f_X9_isDone_J47_4 (a0_47 : Nat) (i2_47 : Int32) (σ : ZT) : Option ((Int32 × Int32 × ZT) ⊕ (Int32 × ZT)) :=
  f_X9_isDone_J48_4 a0_47 i2_47 (0 : Int32) σ
noncomputable def f_X9_isDone_J43_4 (a0_43 : Nat) (i2_43 : Int32) (σ : ZT) : Option ((Int32 × Int32 × ZT) ⊕ (Int32 × ZT)) :=
  f_X9_isDone_J48_4 a0_43 i2_43 (1 : Int32) σ
noncomputable def f_X9_isDone_L4 (c0_4 : Nat) (i_1 : Int32) (i_2 : Int32) (σ : ZT) : Option ((Int32 × Int32 × ZT) ⊕ (Int32 × ZT)) :=
  (gR 9 900 c0_4 σ).bind fun v3 =>
  (ldI 0 v3 (2 : Int32) σ).bind fun v4 =>
  if i_2 < v4 then
  (if i_1 = 0 then
  (f_X9_isDone_J47_4 c0_4 i_2 σ)
  else
  (bnd2 (vc 9 c0_4 σ (f_X9_ofPerson c0_4 i_2 (2 : Int32) σ)) fun v6 σ =>
  if v6 = (-1 : Int32) then
  (f_X9_isDone_J43_4 c0_4 i_2 σ)
  else
  (bnd2 (vc 9 c0_4 σ (f_X9_ofPerson c0_4 i_2 (2 : Int32) σ)) fun v7 σ =>
  (gR 9 924 c0_4 σ).bind fun v8 =>
  (ldI 0 v8 i_2 σ).bind fun v9 =>
  if v7 = v9 then
  (f_X9_isDone_J43_4 c0_4 i_2 σ)
  else
  (f_X9_isDone_J47_4 c0_4 i_2 σ))))
  else
  (some (.inr (i_1, σ)))
noncomputable def f_X9_isDone (a0 : Nat) (σ : ZT) : Option (Int32 × ZT) :=
  (loopC (fun s : (Int32 × Int32 × ZT) => f_X9_isDone_L4 a0 s.1 s.2.1 s.2.2) ((1 : Int32), (0 : Int32), σ)).bind fun x => (match x with
  | (x10, σ) => (rz x10).bind fun z11 =>
  some (z11, σ))
set_option maxHeartbeats 4000000 in
theorem m_X9_isDone {l : Launch} {G : ZG} (a0 : Nat) (σ : ZT) {out : (Int32 × ZT)} (hf : f_X9_isDone a0 σ = some out) : ZM l G yX9_isDone cX9_isDone 3 (some .boolean) [] 2 [.ref a0] σ (.returned (some (.int out.1))) out.2 := by
  refine ZM.of [(0, .ref a0)] rfl (Nat.le_of_ble_eq_true rfl) fun X (C : ZC G RX9 "isDone" cX9_isDone 3 (some .boolean) [] X 2) => ?_
  unfold f_X9_isDone at hf
  refine z_iconst (q := 1) C (1 : Int32) dX9_isDone_0 ki_1 rfl ?_
  refine z_istore_n (q := 2) (i := 1) (lv' := [(1, .int (1 : Int32)), (0, .ref a0)]) C dX9_isDone_1 rfl (by decide) rfl rfl ?_
  refine z_iconst (q := 3) C (0 : Int32) dX9_isDone_2 ki_0 rfl ?_
  refine z_istore_n (q := 4) (i := 2) (lv' := [(2, .int (0 : Int32)), (1, .int (1 : Int32)), (0, .ref a0)]) C dX9_isDone_3 rfl (by decide) rfl rfl ?_
  refine z_lv [2, 1, 0] rfl ?_
  obtain ⟨r1, hr1, hk1⟩ := Option.bind_eq_some_iff.mp hf
  refine loopC_ind (P := fun s => ZW l G 3 X (ZQ G X (.returned (some (.int out.1))) out.2) s.2.2 4 [(0, .ref a0), (1, .int s.1), (2, .int s.2.1)] []) (fun s x1 hf hx1 => ?_) hr1
  obtain ⟨i_1, i_2, σ⟩ := s
  unfold f_X9_isDone_L4 at hf
  try dsimp only at hf
  try dsimp only
  have j48_1 : ∀ (i2_48 : Int32) (w0_48 : Int32) (σ : ZT), f_X9_isDone_J48_4 a0 i2_48 w0_48 σ = some x1 → ZW l G 3 X (ZQ G X (.returned (some (.int out.1))) out.2) σ 48 [(0, .ref a0), (2, .int i2_48)] [.int w0_48] := by
    intro i2_48 w0_48 σ hf
    unfold f_X9_isDone_J48_4 at hf
    refine z_istore_n (q := 49) (i := 1) (lv' := [(1, .int w0_48), (0, .ref a0), (2, .int i2_48)]) C dX9_isDone_48 rfl (by decide) rfl rfl ?_
    refine z_iinc (q := 52) (i := 2) (lv' := [(2, .int (i2_48 + (1 : Int32))), (1, .int w0_48), (0, .ref a0)]) C 2 (i2_48 + (1 : Int32)) dX9_isDone_49 rfl (kn_1 _) (by decide) rfl rfl ?_
    refine z_goto (q := 4) C dX9_isDone_52 (by decide) ?_
    refine z_lv [2, 1, 0] rfl ?_
    have hc1 := zl_c hf hx1
    exact hc1
  have j47_1 : ∀ (i2_47 : Int32) (σ : ZT), f_X9_isDone_J47_4 a0 i2_47 σ = some x1 → ZW l G 3 X (ZQ G X (.returned (some (.int out.1))) out.2) σ 47 [(0, .ref a0), (2, .int i2_47)] [] := by
    intro i2_47 σ hf
    unfold f_X9_isDone_J47_4 at hf
    refine z_iconst (q := 48) C (0 : Int32) dX9_isDone_47 ki_0 rfl ?_
    exact j48_1 i2_47 (0 : Int32) σ hf
  have j43_1 : ∀ (i2_43 : Int32) (σ : ZT), f_X9_isDone_J43_4 a0 i2_43 σ = some x1 → ZW l G 3 X (ZQ G X (.returned (some (.int out.1))) out.2) σ 43 [(0, .ref a0), (2, .int i2_43)] [] := by
    intro i2_43 σ hf
    unfold f_X9_isDone_J43_4 at hf
    refine z_iconst (q := 44) C (1 : Int32) dX9_isDone_43 ki_1 rfl ?_
    refine z_goto (q := 48) C dX9_isDone_44 (by decide) ?_
    exact j48_1 i2_43 (1 : Int32) σ hf
  refine z_iload_n (q := 5) (i := 2) C 2 dX9_isDone_4 rfl rfl rfl ?_
  refine z_aload_n (q := 6) (i := 0) C 0 dX9_isDone_5 rfl rfl rfl ?_
  refine z_getR (q := 9) C flX9_7 dX9_isDone_6 hf rfl fun v3 hf => ?_
  refine z_iconst (q := 10) C (2 : Int32) dX9_isDone_9 ki_2 rfl ?_
  refine z_iald (q := 11) C dX9_isDone_10 hf rfl fun v4 hf => ?_
  refine z_icmpge (q := 14) (tgt := 55) C dX9_isDone_11 (by decide) rfl hf (fun c11 hf => ?_) (fun c11 hf => ?_)
  · have e1 := zl_x hf hx1
    have hf := hk1
    rw [← e1] at hf
    try dsimp only at hf
    refine z_iload_n (q := 56) (i := 1) C 1 dX9_isDone_55 rfl rfl rfl ?_
    refine z_rz C hf fun hn hf => ?_
    exact z_zreturn C rfl hn dX9_isDone_56 (Option.some.inj hf)
  · refine z_iload_n (q := 15) (i := 1) C 1 dX9_isDone_14 rfl rfl rfl ?_
    refine z_ifeq (q := 18) (tgt := 47) C dX9_isDone_15 (by decide) rfl hf (fun c15 hf => ?_) (fun c15 hf => ?_)
    · refine z_lv [0, 2] rfl ?_
      exact j47_1 i_2 σ hf
    · refine z_aload_n (q := 19) (i := 0) C 0 dX9_isDone_18 rfl rfl rfl ?_
      refine z_iload_n (q := 20) (i := 2) C 2 dX9_isDone_19 rfl rfl rfl ?_
      refine z_iconst (q := 21) C (2 : Int32) dX9_isDone_20 ki_2 rfl ?_
      refine z_callVi (q := 24) (As := [.int i_2, .int (2 : Int32)]) C (fun o ho => m_X9_ofPerson _ _ _ _ ho) zk9 vvX9_258 cdX9_ofPerson pnX9 dX9_isDone_21 rfl (by decide) (Nat.le_of_ble_eq_true rfl) hf rfl fun v6 σ hf => ?_
      refine z_iconst (q := 25) C (-1 : Int32) dX9_isDone_24 ki_m1 rfl ?_
      refine z_icmpeq (q := 28) (tgt := 43) C dX9_isDone_25 (by decide) rfl hf (fun c25 hf => ?_) (fun c25 hf => ?_)
      · refine z_lv [0, 2] rfl ?_
        exact j43_1 i_2 σ hf
      · refine z_aload_n (q := 29) (i := 0) C 0 dX9_isDone_28 rfl rfl rfl ?_
        refine z_iload_n (q := 30) (i := 2) C 2 dX9_isDone_29 rfl rfl rfl ?_
        refine z_iconst (q := 31) C (2 : Int32) dX9_isDone_30 ki_2 rfl ?_
        refine z_callVi (q := 34) (As := [.int i_2, .int (2 : Int32)]) C (fun o ho => m_X9_ofPerson _ _ _ _ ho) zk9 vvX9_258 cdX9_ofPerson pnX9 dX9_isDone_31 rfl (by decide) (Nat.le_of_ble_eq_true rfl) hf rfl fun v7 σ hf => ?_
        refine z_aload_n (q := 35) (i := 0) C 0 dX9_isDone_34 rfl rfl rfl ?_
        refine z_getR (q := 38) C flX9_47 dX9_isDone_35 hf rfl fun v8 hf => ?_
        refine z_iload_n (q := 39) (i := 2) C 2 dX9_isDone_38 rfl rfl rfl ?_
        refine z_iald (q := 40) C dX9_isDone_39 hf rfl fun v9 hf => ?_
        refine z_icmpne (q := 43) (tgt := 47) C dX9_isDone_40 (by decide) rfl hf (fun c40 hf => ?_) (fun c40 hf => ?_)
        · refine z_lv [0, 2] rfl ?_
          exact j47_1 i_2 σ hf
        · refine z_lv [0, 2] rfl ?_
          exact j43_1 i_2 σ hf

noncomputable def f_X9_told_J9 (a0_9 : Nat) (σ : ZT) : Option (Int32 × ZT) :=
  bnd2 (vc 9 a0_9 σ (f_X9_refuse a0_9 (1 : Int32) σ)) fun v5 σ =>
  some (v5, σ)
noncomputable def f_X9_told_J46 (w0_46 : Int32) (w1_46 : Nat) (σ : ZT) : Option (Int32 × ZT) :=
  bnd2 (vc 9 w1_46 σ (f_X9_gives w1_46 w0_46 σ)) fun v6 σ =>
  some (v6, σ)
noncomputable def f_X9_told (a0 : Nat) (i1 : Int32) (σ : ZT) : Option (Int32 × ZT) :=
  if i1 < 0 then
  (f_X9_told_J9 a0 σ)
  else
  (if (4 : Int32) < i1 then
  (f_X9_told_J9 a0 σ)
  else
  ((vc 9 a0 σ (f_X9_takesNow a0 σ)).bind fun σ =>
  if i1 < (4 : Int32) then
  ((gR 9 900 a0 σ).bind fun v3 =>
  (ldI 0 v3 i1 σ).bind fun v4 =>
  f_X9_told_J46 v4 a0 σ)
  else
  (bnd2 (vc 9 a0 σ (f_X9_isDone a0 σ)) fun v2 σ =>
  if v2 = 0 then
  (f_X9_told_J46 (0 : Int32) a0 σ)
  else
  (f_X9_told_J46 (1 : Int32) a0 σ))))
set_option maxHeartbeats 4000000 in
theorem m_X9_told {l : Launch} {G : ZG} (a0 : Nat) (i1 : Int32) (σ : ZT) {out : (Int32 × ZT)} (hf : f_X9_told a0 i1 σ = some out) : ZM l G yX9_told cX9_told 2 (some .int) [] 3 [.ref a0, .int i1] σ (.returned (some (.int out.1))) out.2 := by
  refine ZM.of [(0, .ref a0), (1, .int i1)] rfl (Nat.le_of_ble_eq_true rfl) fun X (C : ZC G RX9 "told" cX9_told 2 (some .int) [] X 3) => ?_
  unfold f_X9_told at hf
  have j46_0 : ∀ (w0_46 : Int32) (w1_46 : Nat) (σ : ZT), f_X9_told_J46 w0_46 w1_46 σ = some out → ZW l G 2 X (ZQ G X (.returned (some (.int out.1))) out.2) σ 46 [] [.int w0_46, .ref w1_46] := by
    intro w0_46 w1_46 σ hf
    unfold f_X9_told_J46 at hf
    refine z_callVi (q := 49) (As := [.int w0_46]) C (fun o ho => m_X9_gives _ _ _ ho) zk9 vvX9_107 cdX9_gives pnX9 dX9_told_46 rfl (by decide) (Nat.le_of_ble_eq_true rfl) hf rfl fun v6 σ hf => ?_
    exact z_ireturn C rfl dX9_told_49 (Option.some.inj hf)
  have j9_0 : ∀ (a0_9 : Nat) (σ : ZT), f_X9_told_J9 a0_9 σ = some out → ZW l G 2 X (ZQ G X (.returned (some (.int out.1))) out.2) σ 9 [(0, .ref a0_9)] [] := by
    intro a0_9 σ hf
    unfold f_X9_told_J9 at hf
    refine z_aload_n (q := 10) (i := 0) C 0 dX9_told_9 rfl rfl rfl ?_
    refine z_iconst (q := 11) C (1 : Int32) dX9_told_10 ki_1 rfl ?_
    refine z_callVi (q := 14) (As := [.int (1 : Int32)]) C (fun o ho => m_X9_refuse _ _ _ ho) zk9 vvX9_103 cdX9_refuse pnX9 dX9_told_11 rfl (by decide) (Nat.le_of_ble_eq_true rfl) hf rfl fun v5 σ hf => ?_
    exact z_ireturn C rfl dX9_told_14 (Option.some.inj hf)
  refine z_iload_n (q := 1) (i := 1) C 1 dX9_told_0 rfl rfl rfl ?_
  refine z_iflt (q := 4) (tgt := 9) C dX9_told_1 (by decide) rfl hf (fun c1 hf => ?_) (fun c1 hf => ?_)
  · refine z_lv [0] rfl ?_
    exact j9_0 a0 σ hf
  · refine z_iload_n (q := 5) (i := 1) C 1 dX9_told_4 rfl rfl rfl ?_
    refine z_iconst (q := 6) C (4 : Int32) dX9_told_5 ki_4 rfl ?_
    refine z_icmple (q := 9) (tgt := 15) C dX9_told_6 (by decide) rfl hf (fun c6 hf => ?_) (fun c6 hf => ?_)
    · refine z_aload_n (q := 16) (i := 0) C 0 dX9_told_15 rfl rfl rfl ?_
      refine z_callVv (q := 19) (As := []) C (fun o ho => m_X9_takesNow _ _ ho) zk9 vvX9_285 cdX9_takesNow pnX9 dX9_told_16 rfl (by decide) (Nat.le_of_ble_eq_true rfl) hf rfl fun σ hf => ?_
      refine z_aload_n (q := 20) (i := 0) C 0 dX9_told_19 rfl rfl rfl ?_
      refine z_iload_n (q := 21) (i := 1) C 1 dX9_told_20 rfl rfl rfl ?_
      refine z_iconst (q := 22) C (4 : Int32) dX9_told_21 ki_4 rfl ?_
      refine z_icmpge (q := 25) (tgt := 34) C dX9_told_22 (by decide) rfl hf (fun c22 hf => ?_) (fun c22 hf => ?_)
      · refine z_aload_n (q := 35) (i := 0) C 0 dX9_told_34 rfl rfl rfl ?_
        refine z_callVi (q := 38) (As := []) C (fun o ho => m_X9_isDone _ _ ho) zk9 vvX9_288 cdX9_isDone pnX9 dX9_told_35 rfl (by decide) (Nat.le_of_ble_eq_true rfl) hf rfl fun v2 σ hf => ?_
        refine z_ifeq (q := 41) (tgt := 45) C dX9_told_38 (by decide) rfl hf (fun c38 hf => ?_) (fun c38 hf => ?_)
        · refine z_iconst (q := 46) C (0 : Int32) dX9_told_45 ki_0 rfl ?_
          refine z_lv [] rfl ?_
          exact j46_0 (0 : Int32) a0 σ hf
        · refine z_iconst (q := 42) C (1 : Int32) dX9_told_41 ki_1 rfl ?_
          refine z_goto (q := 46) C dX9_told_42 (by decide) ?_
          refine z_lv [] rfl ?_
          exact j46_0 (1 : Int32) a0 σ hf
      · refine z_aload_n (q := 26) (i := 0) C 0 dX9_told_25 rfl rfl rfl ?_
        refine z_getR (q := 29) C flX9_7 dX9_told_26 hf rfl fun v3 hf => ?_
        refine z_iload_n (q := 30) (i := 1) C 1 dX9_told_29 rfl rfl rfl ?_
        refine z_iald (q := 31) C dX9_told_30 hf rfl fun v4 hf => ?_
        refine z_goto (q := 46) C dX9_told_31 (by decide) ?_
        refine z_lv [] rfl ?_
        exact j46_0 v4 a0 σ hf
    · refine z_lv [0] rfl ?_
      exact j9_0 a0 σ hf

noncomputable def f_X9_isBridge_J19 (w0_19 : Int32) (σ : ZT) : Option (Int32 × ZT) :=
  (rz w0_19).bind fun z3 =>
  some (z3, σ)
noncomputable def f_X9_isBridge_J18  (σ : ZT) : Option (Int32 × ZT) :=
  f_X9_isBridge_J19 (0 : Int32) σ
noncomputable def f_X9_isBridge (a0 : Nat) (i1 : Int32) (σ : ZT) : Option (Int32 × ZT) :=
  if i1 < 0 then
  (f_X9_isBridge_J18  σ)
  else
  ((gR 9 900 a0 σ).bind fun v1 =>
  (ldI 0 v1 (1 : Int32) σ).bind fun v2 =>
  if i1 < v2 then
  (f_X9_isBridge_J19 (1 : Int32) σ)
  else
  (f_X9_isBridge_J18  σ))
set_option maxHeartbeats 4000000 in
theorem m_X9_isBridge {l : Launch} {G : ZG} (a0 : Nat) (i1 : Int32) (σ : ZT) {out : (Int32 × ZT)} (hf : f_X9_isBridge a0 i1 σ = some out) : ZM l G yX9_isBridge cX9_isBridge 2 (some .boolean) [] 1 [.ref a0, .int i1] σ (.returned (some (.int out.1))) out.2 := by
  refine ZM.of [(0, .ref a0), (1, .int i1)] rfl (Nat.le_of_ble_eq_true rfl) fun X (C : ZC G RX9 "isBridge" cX9_isBridge 2 (some .boolean) [] X 1) => ?_
  unfold f_X9_isBridge at hf
  have j19_0 : ∀ (w0_19 : Int32) (σ : ZT), f_X9_isBridge_J19 w0_19 σ = some out → ZW l G 2 X (ZQ G X (.returned (some (.int out.1))) out.2) σ 19 [] [.int w0_19] := by
    intro w0_19 σ hf
    unfold f_X9_isBridge_J19 at hf
    refine z_rz C hf fun hn hf => ?_
    exact z_zreturn C rfl hn dX9_isBridge_19 (Option.some.inj hf)
  have j18_0 : ∀  (σ : ZT), f_X9_isBridge_J18  σ = some out → ZW l G 2 X (ZQ G X (.returned (some (.int out.1))) out.2) σ 18 [] [] := by
    intro  σ hf
    unfold f_X9_isBridge_J18 at hf
    refine z_iconst (q := 19) C (0 : Int32) dX9_isBridge_18 ki_0 rfl ?_
    exact j19_0 (0 : Int32) σ hf
  refine z_iload_n (q := 1) (i := 1) C 1 dX9_isBridge_0 rfl rfl rfl ?_
  refine z_iflt (q := 4) (tgt := 18) C dX9_isBridge_1 (by decide) rfl hf (fun c1 hf => ?_) (fun c1 hf => ?_)
  · refine z_lv [] rfl ?_
    exact j18_0  σ hf
  · refine z_iload_n (q := 5) (i := 1) C 1 dX9_isBridge_4 rfl rfl rfl ?_
    refine z_aload_n (q := 6) (i := 0) C 0 dX9_isBridge_5 rfl rfl rfl ?_
    refine z_getR (q := 9) C flX9_7 dX9_isBridge_6 hf rfl fun v1 hf => ?_
    refine z_iconst (q := 10) C (1 : Int32) dX9_isBridge_9 ki_1 rfl ?_
    refine z_iald (q := 11) C dX9_isBridge_10 hf rfl fun v2 hf => ?_
    refine z_icmpge (q := 14) (tgt := 18) C dX9_isBridge_11 (by decide) rfl hf (fun c11 hf => ?_) (fun c11 hf => ?_)
    · refine z_lv [] rfl ?_
      exact j18_0  σ hf
    · refine z_iconst (q := 15) C (1 : Int32) dX9_isBridge_14 ki_1 rfl ?_
      refine z_goto (q := 19) C dX9_isBridge_15 (by decide) ?_
      refine z_lv [] rfl ?_
      exact j19_0 (1 : Int32) σ hf

noncomputable def f_X9_ofBridge (a0 : Nat) (i1 : Int32) (i2 : Int32) (σ : ZT) : Option (Int32 × ZT) :=
  (gR 9 900 a0 σ).bind fun v1 =>
  (ldI 0 v1 (((14 : Int32) + ((9 : Int32) * i1)) + i2) σ).bind fun v2 =>
  some (v2, σ)
set_option maxHeartbeats 4000000 in
theorem m_X9_ofBridge {l : Launch} {G : ZG} (a0 : Nat) (i1 : Int32) (i2 : Int32) (σ : ZT) {out : (Int32 × ZT)} (hf : f_X9_ofBridge a0 i1 i2 σ = some out) : ZM l G yX9_ofBridge cX9_ofBridge 3 (some .int) [] 1 [.ref a0, .int i1, .int i2] σ (.returned (some (.int out.1))) out.2 := by
  refine ZM.of [(0, .ref a0), (1, .int i1), (2, .int i2)] rfl (Nat.le_of_ble_eq_true rfl) fun X (C : ZC G RX9 "ofBridge" cX9_ofBridge 3 (some .int) [] X 1) => ?_
  unfold f_X9_ofBridge at hf
  refine z_aload_n (q := 1) (i := 0) C 0 dX9_ofBridge_0 rfl rfl rfl ?_
  refine z_getR (q := 4) C flX9_7 dX9_ofBridge_1 hf rfl fun v1 hf => ?_
  refine z_bipush (q := 6) C (14 : Int32) dX9_ofBridge_4 kb_14 rfl ?_
  refine z_bipush (q := 8) C (9 : Int32) dX9_ofBridge_6 kb_9 rfl ?_
  refine z_iload_n (q := 9) (i := 1) C 1 dX9_ofBridge_8 rfl rfl rfl ?_
  refine z_imul (q := 10) C dX9_ofBridge_9 rfl ?_
  refine z_iadd (q := 11) C dX9_ofBridge_10 rfl ?_
  refine z_iload_n (q := 12) (i := 2) C 2 dX9_ofBridge_11 rfl rfl rfl ?_
  refine z_iadd (q := 13) C dX9_ofBridge_12 rfl ?_
  refine z_iald (q := 14) C dX9_ofBridge_13 hf rfl fun v2 hf => ?_
  exact z_ireturn C rfl dX9_ofBridge_14 (Option.some.inj hf)

noncomputable def f_X9_takesOf (a0 : Nat) (i1 : Int32) (σ : ZT) : Option (Int32 × ZT) :=
  bnd2 (vc 9 a0 σ (f_X9_ofBridge a0 i1 (3 : Int32) σ)) fun v1 σ =>
  bnd2 (vc 9 a0 σ (f_X9_ofBridge a0 i1 (4 : Int32) σ)) fun v2 σ =>
  bnd2 (vc 9 a0 σ (f_X9_ofBridge a0 i1 (4 : Int32) σ)) fun v3 σ =>
  (zidiv ((v1 + v2) - (1 : Int32)) v3).bind fun v4 =>
  some (v4, σ)
set_option maxHeartbeats 4000000 in
theorem m_X9_takesOf {l : Launch} {G : ZG} (a0 : Nat) (i1 : Int32) (σ : ZT) {out : (Int32 × ZT)} (hf : f_X9_takesOf a0 i1 σ = some out) : ZM l G yX9_takesOf cX9_takesOf 2 (some .int) [] 2 [.ref a0, .int i1] σ (.returned (some (.int out.1))) out.2 := by
  refine ZM.of [(0, .ref a0), (1, .int i1)] rfl (Nat.le_of_ble_eq_true rfl) fun X (C : ZC G RX9 "takesOf" cX9_takesOf 2 (some .int) [] X 2) => ?_
  unfold f_X9_takesOf at hf
  refine z_aload_n (q := 1) (i := 0) C 0 dX9_takesOf_0 rfl rfl rfl ?_
  refine z_iload_n (q := 2) (i := 1) C 1 dX9_takesOf_1 rfl rfl rfl ?_
  refine z_iconst (q := 3) C (3 : Int32) dX9_takesOf_2 ki_3 rfl ?_
  refine z_callVi (q := 6) (As := [.int i1, .int (3 : Int32)]) C (fun o ho => m_X9_ofBridge _ _ _ _ ho) zk9 vvX9_282 cdX9_ofBridge pnX9 dX9_takesOf_3 rfl (by decide) (Nat.le_of_ble_eq_true rfl) hf rfl fun v1 σ hf => ?_
  refine z_aload_n (q := 7) (i := 0) C 0 dX9_takesOf_6 rfl rfl rfl ?_
  refine z_iload_n (q := 8) (i := 1) C 1 dX9_takesOf_7 rfl rfl rfl ?_
  refine z_iconst (q := 9) C (4 : Int32) dX9_takesOf_8 ki_4 rfl ?_
  refine z_callVi (q := 12) (As := [.int i1, .int (4 : Int32)]) C (fun o ho => m_X9_ofBridge _ _ _ _ ho) zk9 vvX9_282 cdX9_ofBridge pnX9 dX9_takesOf_9 rfl (by decide) (Nat.le_of_ble_eq_true rfl) hf rfl fun v2 σ hf => ?_
  refine z_iadd (q := 13) C dX9_takesOf_12 rfl ?_
  refine z_iconst (q := 14) C (1 : Int32) dX9_takesOf_13 ki_1 rfl ?_
  refine z_isub (q := 15) C dX9_takesOf_14 rfl ?_
  refine z_aload_n (q := 16) (i := 0) C 0 dX9_takesOf_15 rfl rfl rfl ?_
  refine z_iload_n (q := 17) (i := 1) C 1 dX9_takesOf_16 rfl rfl rfl ?_
  refine z_iconst (q := 18) C (4 : Int32) dX9_takesOf_17 ki_4 rfl ?_
  refine z_callVi (q := 21) (As := [.int i1, .int (4 : Int32)]) C (fun o ho => m_X9_ofBridge _ _ _ _ ho) zk9 vvX9_282 cdX9_ofBridge pnX9 dX9_takesOf_18 rfl (by decide) (Nat.le_of_ble_eq_true rfl) hf rfl fun v3 σ hf => ?_
  refine z_idiv (q := 22) C dX9_takesOf_21 hf rfl fun v4 hf => ?_
  exact z_ireturn C rfl dX9_takesOf_22 (Option.some.inj hf)

noncomputable def f_X9_bridge_J50 (w0_50 : Int32) (σ : ZT) : Option (Int32 × ZT) :=
  some (w0_50, σ)
noncomputable def f_X9_bridge_J45 (a0_45 : Nat) (σ : ZT) : Option (Int32 × ZT) :=
  bnd2 (vc 9 a0_45 σ (f_X9_refuse a0_45 (1 : Int32) σ)) fun v4 σ =>
  f_X9_bridge_J50 v4 σ
noncomputable def f_X9_bridge_J39 (w0_39 : Int32) (w1_39 : Nat) (σ : ZT) : Option (Int32 × ZT) :=
  bnd2 (vc 9 w1_39 σ (f_X9_gives w1_39 w0_39 σ)) fun v5 σ =>
  f_X9_bridge_J50 v5 σ
noncomputable def f_X9_bridge (a0 : Nat) (i1 : Int32) (i2 : Int32) (σ : ZT) : Option (Int32 × ZT) :=
  bnd2 (vc 9 a0 σ (f_X9_isBridge a0 i1 σ)) fun v1 σ =>
  if v1 = 0 then
  (f_X9_bridge_J45 a0 σ)
  else
  (if i2 < 0 then
  (f_X9_bridge_J45 a0 σ)
  else
  (if (9 : Int32) < i2 then
  (f_X9_bridge_J45 a0 σ)
  else
  (if i2 = (9 : Int32) then
  (bnd2 (vc 9 a0 σ (f_X9_takesOf a0 i1 σ)) fun v3 σ =>
  f_X9_bridge_J39 v3 a0 σ)
  else
  (bnd2 (vc 9 a0 σ (f_X9_ofBridge a0 i1 i2 σ)) fun v2 σ =>
  f_X9_bridge_J39 v2 a0 σ))))
set_option maxHeartbeats 4000000 in
theorem m_X9_bridge {l : Launch} {G : ZG} (a0 : Nat) (i1 : Int32) (i2 : Int32) (σ : ZT) {out : (Int32 × ZT)} (hf : f_X9_bridge a0 i1 i2 σ = some out) : ZM l G yX9_bridge cX9_bridge 3 (some .int) [] 3 [.ref a0, .int i1, .int i2] σ (.returned (some (.int out.1))) out.2 := by
  refine ZM.of [(0, .ref a0), (1, .int i1), (2, .int i2)] rfl (Nat.le_of_ble_eq_true rfl) fun X (C : ZC G RX9 "bridge" cX9_bridge 3 (some .int) [] X 3) => ?_
  unfold f_X9_bridge at hf
  have j50_0 : ∀ (w0_50 : Int32) (σ : ZT), f_X9_bridge_J50 w0_50 σ = some out → ZW l G 3 X (ZQ G X (.returned (some (.int out.1))) out.2) σ 50 [] [.int w0_50] := by
    intro w0_50 σ hf
    unfold f_X9_bridge_J50 at hf
    exact z_ireturn C rfl dX9_bridge_50 (Option.some.inj hf)
  have j45_0 : ∀ (a0_45 : Nat) (σ : ZT), f_X9_bridge_J45 a0_45 σ = some out → ZW l G 3 X (ZQ G X (.returned (some (.int out.1))) out.2) σ 45 [(0, .ref a0_45)] [] := by
    intro a0_45 σ hf
    unfold f_X9_bridge_J45 at hf
    refine z_aload_n (q := 46) (i := 0) C 0 dX9_bridge_45 rfl rfl rfl ?_
    refine z_iconst (q := 47) C (1 : Int32) dX9_bridge_46 ki_1 rfl ?_
    refine z_callVi (q := 50) (As := [.int (1 : Int32)]) C (fun o ho => m_X9_refuse _ _ _ ho) zk9 vvX9_103 cdX9_refuse pnX9 dX9_bridge_47 rfl (by decide) (Nat.le_of_ble_eq_true rfl) hf rfl fun v4 σ hf => ?_
    refine z_lv [] rfl ?_
    exact j50_0 v4 σ hf
  have j39_0 : ∀ (w0_39 : Int32) (w1_39 : Nat) (σ : ZT), f_X9_bridge_J39 w0_39 w1_39 σ = some out → ZW l G 3 X (ZQ G X (.returned (some (.int out.1))) out.2) σ 39 [] [.int w0_39, .ref w1_39] := by
    intro w0_39 w1_39 σ hf
    unfold f_X9_bridge_J39 at hf
    refine z_callVi (q := 42) (As := [.int w0_39]) C (fun o ho => m_X9_gives _ _ _ ho) zk9 vvX9_107 cdX9_gives pnX9 dX9_bridge_39 rfl (by decide) (Nat.le_of_ble_eq_true rfl) hf rfl fun v5 σ hf => ?_
    refine z_goto (q := 50) C dX9_bridge_42 (by decide) ?_
    exact j50_0 v5 σ hf
  refine z_aload_n (q := 1) (i := 0) C 0 dX9_bridge_0 rfl rfl rfl ?_
  refine z_iload_n (q := 2) (i := 1) C 1 dX9_bridge_1 rfl rfl rfl ?_
  refine z_callVi (q := 5) (As := [.int i1]) C (fun o ho => m_X9_isBridge _ _ _ ho) zk9 vvX9_291 cdX9_isBridge pnX9 dX9_bridge_2 rfl (by decide) (Nat.le_of_ble_eq_true rfl) hf rfl fun v1 σ hf => ?_
  refine z_ifeq (q := 8) (tgt := 45) C dX9_bridge_5 (by decide) rfl hf (fun c5 hf => ?_) (fun c5 hf => ?_)
  · refine z_lv [0] rfl ?_
    exact j45_0 a0 σ hf
  · refine z_iload_n (q := 9) (i := 2) C 2 dX9_bridge_8 rfl rfl rfl ?_
    refine z_iflt (q := 12) (tgt := 45) C dX9_bridge_9 (by decide) rfl hf (fun c9 hf => ?_) (fun c9 hf => ?_)
    · refine z_lv [0] rfl ?_
      exact j45_0 a0 σ hf
    · refine z_iload_n (q := 13) (i := 2) C 2 dX9_bridge_12 rfl rfl rfl ?_
      refine z_bipush (q := 15) C (9 : Int32) dX9_bridge_13 kb_9 rfl ?_
      refine z_icmpgt (q := 18) (tgt := 45) C dX9_bridge_15 (by decide) rfl hf (fun c15 hf => ?_) (fun c15 hf => ?_)
      · refine z_lv [0] rfl ?_
        exact j45_0 a0 σ hf
      · refine z_aload_n (q := 19) (i := 0) C 0 dX9_bridge_18 rfl rfl rfl ?_
        refine z_iload_n (q := 20) (i := 2) C 2 dX9_bridge_19 rfl rfl rfl ?_
        refine z_bipush (q := 22) C (9 : Int32) dX9_bridge_20 kb_9 rfl ?_
        refine z_icmpne (q := 25) (tgt := 33) C dX9_bridge_22 (by decide) rfl hf (fun c22 hf => ?_) (fun c22 hf => ?_)
        · refine z_aload_n (q := 34) (i := 0) C 0 dX9_bridge_33 rfl rfl rfl ?_
          refine z_iload_n (q := 35) (i := 1) C 1 dX9_bridge_34 rfl rfl rfl ?_
          refine z_iload_n (q := 36) (i := 2) C 2 dX9_bridge_35 rfl rfl rfl ?_
          refine z_callVi (q := 39) (As := [.int i1, .int i2]) C (fun o ho => m_X9_ofBridge _ _ _ _ ho) zk9 vvX9_282 cdX9_ofBridge pnX9 dX9_bridge_36 rfl (by decide) (Nat.le_of_ble_eq_true rfl) hf rfl fun v2 σ hf => ?_
          refine z_lv [] rfl ?_
          exact j39_0 v2 a0 σ hf
        · refine z_aload_n (q := 26) (i := 0) C 0 dX9_bridge_25 rfl rfl rfl ?_
          refine z_iload_n (q := 27) (i := 1) C 1 dX9_bridge_26 rfl rfl rfl ?_
          refine z_callVi (q := 30) (As := [.int i1]) C (fun o ho => m_X9_takesOf _ _ _ ho) zk9 vvX9_294 cdX9_takesOf pnX9 dX9_bridge_27 rfl (by decide) (Nat.le_of_ble_eq_true rfl) hf rfl fun v3 σ hf => ?_
          refine z_goto (q := 39) C dX9_bridge_30 (by decide) ?_
          refine z_lv [] rfl ?_
          exact j39_0 v3 a0 σ hf

noncomputable def f_X9_isPerson_J19 (w0_19 : Int32) (σ : ZT) : Option (Int32 × ZT) :=
  (rz w0_19).bind fun z3 =>
  some (z3, σ)
noncomputable def f_X9_isPerson_J18  (σ : ZT) : Option (Int32 × ZT) :=
  f_X9_isPerson_J19 (0 : Int32) σ
noncomputable def f_X9_isPerson (a0 : Nat) (i1 : Int32) (σ : ZT) : Option (Int32 × ZT) :=
  if i1 < 0 then
  (f_X9_isPerson_J18  σ)
  else
  ((gR 9 900 a0 σ).bind fun v1 =>
  (ldI 0 v1 (2 : Int32) σ).bind fun v2 =>
  if i1 < v2 then
  (f_X9_isPerson_J19 (1 : Int32) σ)
  else
  (f_X9_isPerson_J18  σ))
set_option maxHeartbeats 4000000 in
theorem m_X9_isPerson {l : Launch} {G : ZG} (a0 : Nat) (i1 : Int32) (σ : ZT) {out : (Int32 × ZT)} (hf : f_X9_isPerson a0 i1 σ = some out) : ZM l G yX9_isPerson cX9_isPerson 2 (some .boolean) [] 1 [.ref a0, .int i1] σ (.returned (some (.int out.1))) out.2 := by
  refine ZM.of [(0, .ref a0), (1, .int i1)] rfl (Nat.le_of_ble_eq_true rfl) fun X (C : ZC G RX9 "isPerson" cX9_isPerson 2 (some .boolean) [] X 1) => ?_
  unfold f_X9_isPerson at hf
  have j19_0 : ∀ (w0_19 : Int32) (σ : ZT), f_X9_isPerson_J19 w0_19 σ = some out → ZW l G 2 X (ZQ G X (.returned (some (.int out.1))) out.2) σ 19 [] [.int w0_19] := by
    intro w0_19 σ hf
    unfold f_X9_isPerson_J19 at hf
    refine z_rz C hf fun hn hf => ?_
    exact z_zreturn C rfl hn dX9_isPerson_19 (Option.some.inj hf)
  have j18_0 : ∀  (σ : ZT), f_X9_isPerson_J18  σ = some out → ZW l G 2 X (ZQ G X (.returned (some (.int out.1))) out.2) σ 18 [] [] := by
    intro  σ hf
    unfold f_X9_isPerson_J18 at hf
    refine z_iconst (q := 19) C (0 : Int32) dX9_isPerson_18 ki_0 rfl ?_
    exact j19_0 (0 : Int32) σ hf
  refine z_iload_n (q := 1) (i := 1) C 1 dX9_isPerson_0 rfl rfl rfl ?_
  refine z_iflt (q := 4) (tgt := 18) C dX9_isPerson_1 (by decide) rfl hf (fun c1 hf => ?_) (fun c1 hf => ?_)
  · refine z_lv [] rfl ?_
    exact j18_0  σ hf
  · refine z_iload_n (q := 5) (i := 1) C 1 dX9_isPerson_4 rfl rfl rfl ?_
    refine z_aload_n (q := 6) (i := 0) C 0 dX9_isPerson_5 rfl rfl rfl ?_
    refine z_getR (q := 9) C flX9_7 dX9_isPerson_6 hf rfl fun v1 hf => ?_
    refine z_iconst (q := 10) C (2 : Int32) dX9_isPerson_9 ki_2 rfl ?_
    refine z_iald (q := 11) C dX9_isPerson_10 hf rfl fun v2 hf => ?_
    refine z_icmpge (q := 14) (tgt := 18) C dX9_isPerson_11 (by decide) rfl hf (fun c11 hf => ?_) (fun c11 hf => ?_)
    · refine z_lv [] rfl ?_
      exact j18_0  σ hf
    · refine z_iconst (q := 15) C (1 : Int32) dX9_isPerson_14 ki_1 rfl ?_
      refine z_goto (q := 19) C dX9_isPerson_15 (by decide) ?_
      refine z_lv [] rfl ?_
      exact j19_0 (1 : Int32) σ hf

noncomputable def f_X9_orNone_J19 (w0_19 : Int32) (σ : ZT) : Option (Int32 × ZT) :=
  some (w0_19, σ)
noncomputable def f_X9_orNone (a0 : Nat) (i1 : Int32) (σ : ZT) : Option (Int32 × ZT) :=
  if i1 = (-1 : Int32) then
  (bnd2 (vc 9 a0 σ (f_X9_refuse a0 (6 : Int32) σ)) fun v2 σ =>
  f_X9_orNone_J19 v2 σ)
  else
  (bnd2 (vc 9 a0 σ (f_X9_gives a0 i1 σ)) fun v1 σ =>
  f_X9_orNone_J19 v1 σ)
set_option maxHeartbeats 4000000 in
theorem m_X9_orNone {l : Launch} {G : ZG} (a0 : Nat) (i1 : Int32) (σ : ZT) {out : (Int32 × ZT)} (hf : f_X9_orNone a0 i1 σ = some out) : ZM l G yX9_orNone cX9_orNone 2 (some .int) [] 2 [.ref a0, .int i1] σ (.returned (some (.int out.1))) out.2 := by
  refine ZM.of [(0, .ref a0), (1, .int i1)] rfl (Nat.le_of_ble_eq_true rfl) fun X (C : ZC G RX9 "orNone" cX9_orNone 2 (some .int) [] X 2) => ?_
  unfold f_X9_orNone at hf
  have j19_0 : ∀ (w0_19 : Int32) (σ : ZT), f_X9_orNone_J19 w0_19 σ = some out → ZW l G 2 X (ZQ G X (.returned (some (.int out.1))) out.2) σ 19 [] [.int w0_19] := by
    intro w0_19 σ hf
    unfold f_X9_orNone_J19 at hf
    exact z_ireturn C rfl dX9_orNone_19 (Option.some.inj hf)
  refine z_iload_n (q := 1) (i := 1) C 1 dX9_orNone_0 rfl rfl rfl ?_
  refine z_iconst (q := 2) C (-1 : Int32) dX9_orNone_1 ki_m1 rfl ?_
  refine z_icmpne (q := 5) (tgt := 14) C dX9_orNone_2 (by decide) rfl hf (fun c2 hf => ?_) (fun c2 hf => ?_)
  · refine z_aload_n (q := 15) (i := 0) C 0 dX9_orNone_14 rfl rfl rfl ?_
    refine z_iload_n (q := 16) (i := 1) C 1 dX9_orNone_15 rfl rfl rfl ?_
    refine z_callVi (q := 19) (As := [.int i1]) C (fun o ho => m_X9_gives _ _ _ ho) zk9 vvX9_107 cdX9_gives pnX9 dX9_orNone_16 rfl (by decide) (Nat.le_of_ble_eq_true rfl) hf rfl fun v1 σ hf => ?_
    refine z_lv [] rfl ?_
    exact j19_0 v1 σ hf
  · refine z_aload_n (q := 6) (i := 0) C 0 dX9_orNone_5 rfl rfl rfl ?_
    refine z_bipush (q := 8) C (6 : Int32) dX9_orNone_6 kb_6 rfl ?_
    refine z_callVi (q := 11) (As := [.int (6 : Int32)]) C (fun o ho => m_X9_refuse _ _ _ ho) zk9 vvX9_103 cdX9_refuse pnX9 dX9_orNone_8 rfl (by decide) (Nat.le_of_ble_eq_true rfl) hf rfl fun v2 σ hf => ?_
    refine z_goto (q := 19) C dX9_orNone_11 (by decide) ?_
    refine z_lv [] rfl ?_
    exact j19_0 v2 σ hf

noncomputable def f_X9_person_J17 (a0_17 : Nat) (σ : ZT) : Option (Int32 × ZT) :=
  bnd2 (vc 9 a0_17 σ (f_X9_refuse a0_17 (1 : Int32) σ)) fun v4 σ =>
  some (v4, σ)
noncomputable def f_X9_person_J68 (w0_68 : Int32) (σ : ZT) : Option (Int32 × ZT) :=
  some (w0_68, σ)
noncomputable def f_X9_person_J62 (w0_62 : Int32) (w1_62 : Int32) (w2_62 : Nat) (w3_62 : Nat) (σ : ZT) : Option (Int32 × ZT) :=
  bnd2 (vc 9 w2_62 σ (f_X9_ofPerson w2_62 w1_62 w0_62 σ)) fun v5 σ =>
  bnd2 (vc 9 w3_62 σ (f_X9_gives w3_62 v5 σ)) fun v6 σ =>
  f_X9_person_J68 v6 σ
noncomputable def f_X9_person (a0 : Nat) (i1 : Int32) (i2 : Int32) (σ : ZT) : Option (Int32 × ZT) :=
  bnd2 (vc 9 a0 σ (f_X9_isPerson a0 i1 σ)) fun v1 σ =>
  if v1 = 0 then
  (f_X9_person_J17 a0 σ)
  else
  (if i2 < 0 then
  (f_X9_person_J17 a0 σ)
  else
  (if (3 : Int32) < i2 then
  (f_X9_person_J17 a0 σ)
  else
  (if i2 = (1 : Int32) then
  (bnd2 (vc 9 a0 σ (f_X9_ofPerson a0 i1 (2 : Int32) σ)) fun v2 σ =>
  bnd2 (vc 9 a0 σ (f_X9_orNone a0 v2 σ)) fun v3 σ =>
  f_X9_person_J68 v3 σ)
  else
  (if i2 = 0 then
  (f_X9_person_J62 (0 : Int32) i1 a0 a0 σ)
  else
  (if i2 = (2 : Int32) then
  (f_X9_person_J62 (3 : Int32) i1 a0 a0 σ)
  else
  (f_X9_person_J62 (4 : Int32) i1 a0 a0 σ))))))
set_option maxHeartbeats 4000000 in
theorem m_X9_person {l : Launch} {G : ZG} (a0 : Nat) (i1 : Int32) (i2 : Int32) (σ : ZT) {out : (Int32 × ZT)} (hf : f_X9_person a0 i1 i2 σ = some out) : ZM l G yX9_person cX9_person 3 (some .int) [] 3 [.ref a0, .int i1, .int i2] σ (.returned (some (.int out.1))) out.2 := by
  refine ZM.of [(0, .ref a0), (1, .int i1), (2, .int i2)] rfl (Nat.le_of_ble_eq_true rfl) fun X (C : ZC G RX9 "person" cX9_person 3 (some .int) [] X 3) => ?_
  unfold f_X9_person at hf
  have j68_0 : ∀ (w0_68 : Int32) (σ : ZT), f_X9_person_J68 w0_68 σ = some out → ZW l G 3 X (ZQ G X (.returned (some (.int out.1))) out.2) σ 68 [] [.int w0_68] := by
    intro w0_68 σ hf
    unfold f_X9_person_J68 at hf
    exact z_ireturn C rfl dX9_person_68 (Option.some.inj hf)
  have j62_0 : ∀ (w0_62 : Int32) (w1_62 : Int32) (w2_62 : Nat) (w3_62 : Nat) (σ : ZT), f_X9_person_J62 w0_62 w1_62 w2_62 w3_62 σ = some out → ZW l G 3 X (ZQ G X (.returned (some (.int out.1))) out.2) σ 62 [] [.int w0_62, .int w1_62, .ref w2_62, .ref w3_62] := by
    intro w0_62 w1_62 w2_62 w3_62 σ hf
    unfold f_X9_person_J62 at hf
    refine z_callVi (q := 65) (As := [.int w1_62, .int w0_62]) C (fun o ho => m_X9_ofPerson _ _ _ _ ho) zk9 vvX9_258 cdX9_ofPerson pnX9 dX9_person_62 rfl (by decide) (Nat.le_of_ble_eq_true rfl) hf rfl fun v5 σ hf => ?_
    refine z_callVi (q := 68) (As := [.int v5]) C (fun o ho => m_X9_gives _ _ _ ho) zk9 vvX9_107 cdX9_gives pnX9 dX9_person_65 rfl (by decide) (Nat.le_of_ble_eq_true rfl) hf rfl fun v6 σ hf => ?_
    exact j68_0 v6 σ hf
  have j17_0 : ∀ (a0_17 : Nat) (σ : ZT), f_X9_person_J17 a0_17 σ = some out → ZW l G 3 X (ZQ G X (.returned (some (.int out.1))) out.2) σ 17 [(0, .ref a0_17)] [] := by
    intro a0_17 σ hf
    unfold f_X9_person_J17 at hf
    refine z_aload_n (q := 18) (i := 0) C 0 dX9_person_17 rfl rfl rfl ?_
    refine z_iconst (q := 19) C (1 : Int32) dX9_person_18 ki_1 rfl ?_
    refine z_callVi (q := 22) (As := [.int (1 : Int32)]) C (fun o ho => m_X9_refuse _ _ _ ho) zk9 vvX9_103 cdX9_refuse pnX9 dX9_person_19 rfl (by decide) (Nat.le_of_ble_eq_true rfl) hf rfl fun v4 σ hf => ?_
    exact z_ireturn C rfl dX9_person_22 (Option.some.inj hf)
  refine z_aload_n (q := 1) (i := 0) C 0 dX9_person_0 rfl rfl rfl ?_
  refine z_iload_n (q := 2) (i := 1) C 1 dX9_person_1 rfl rfl rfl ?_
  refine z_callVi (q := 5) (As := [.int i1]) C (fun o ho => m_X9_isPerson _ _ _ ho) zk9 vvX9_297 cdX9_isPerson pnX9 dX9_person_2 rfl (by decide) (Nat.le_of_ble_eq_true rfl) hf rfl fun v1 σ hf => ?_
  refine z_ifeq (q := 8) (tgt := 17) C dX9_person_5 (by decide) rfl hf (fun c5 hf => ?_) (fun c5 hf => ?_)
  · refine z_lv [0] rfl ?_
    exact j17_0 a0 σ hf
  · refine z_iload_n (q := 9) (i := 2) C 2 dX9_person_8 rfl rfl rfl ?_
    refine z_iflt (q := 12) (tgt := 17) C dX9_person_9 (by decide) rfl hf (fun c9 hf => ?_) (fun c9 hf => ?_)
    · refine z_lv [0] rfl ?_
      exact j17_0 a0 σ hf
    · refine z_iload_n (q := 13) (i := 2) C 2 dX9_person_12 rfl rfl rfl ?_
      refine z_iconst (q := 14) C (3 : Int32) dX9_person_13 ki_3 rfl ?_
      refine z_icmple (q := 17) (tgt := 23) C dX9_person_14 (by decide) rfl hf (fun c14 hf => ?_) (fun c14 hf => ?_)
      · refine z_iload_n (q := 24) (i := 2) C 2 dX9_person_23 rfl rfl rfl ?_
        refine z_iconst (q := 25) C (1 : Int32) dX9_person_24 ki_1 rfl ?_
        refine z_icmpne (q := 28) (tgt := 41) C dX9_person_25 (by decide) rfl hf (fun c25 hf => ?_) (fun c25 hf => ?_)
        · refine z_aload_n (q := 42) (i := 0) C 0 dX9_person_41 rfl rfl rfl ?_
          refine z_aload_n (q := 43) (i := 0) C 0 dX9_person_42 rfl rfl rfl ?_
          refine z_iload_n (q := 44) (i := 1) C 1 dX9_person_43 rfl rfl rfl ?_
          refine z_iload_n (q := 45) (i := 2) C 2 dX9_person_44 rfl rfl rfl ?_
          refine z_ifne (q := 48) (tgt := 52) C dX9_person_45 (by decide) rfl hf (fun c45 hf => ?_) (fun c45 hf => ?_)
          · refine z_iload_n (q := 53) (i := 2) C 2 dX9_person_52 rfl rfl rfl ?_
            refine z_iconst (q := 54) C (2 : Int32) dX9_person_53 ki_2 rfl ?_
            refine z_icmpne (q := 57) (tgt := 61) C dX9_person_54 (by decide) rfl hf (fun c54 hf => ?_) (fun c54 hf => ?_)
            · refine z_iconst (q := 62) C (4 : Int32) dX9_person_61 ki_4 rfl ?_
              refine z_lv [] rfl ?_
              exact j62_0 (4 : Int32) i1 a0 a0 σ hf
            · refine z_iconst (q := 58) C (3 : Int32) dX9_person_57 ki_3 rfl ?_
              refine z_goto (q := 62) C dX9_person_58 (by decide) ?_
              refine z_lv [] rfl ?_
              exact j62_0 (3 : Int32) i1 a0 a0 σ hf
          · refine z_iconst (q := 49) C (0 : Int32) dX9_person_48 ki_0 rfl ?_
            refine z_goto (q := 62) C dX9_person_49 (by decide) ?_
            refine z_lv [] rfl ?_
            exact j62_0 (0 : Int32) i1 a0 a0 σ hf
        · refine z_aload_n (q := 29) (i := 0) C 0 dX9_person_28 rfl rfl rfl ?_
          refine z_aload_n (q := 30) (i := 0) C 0 dX9_person_29 rfl rfl rfl ?_
          refine z_iload_n (q := 31) (i := 1) C 1 dX9_person_30 rfl rfl rfl ?_
          refine z_iconst (q := 32) C (2 : Int32) dX9_person_31 ki_2 rfl ?_
          refine z_callVi (q := 35) (As := [.int i1, .int (2 : Int32)]) C (fun o ho => m_X9_ofPerson _ _ _ _ ho) zk9 vvX9_258 cdX9_ofPerson pnX9 dX9_person_32 rfl (by decide) (Nat.le_of_ble_eq_true rfl) hf rfl fun v2 σ hf => ?_
          refine z_callVi (q := 38) (As := [.int v2]) C (fun o ho => m_X9_orNone _ _ _ ho) zk9 vvX9_300 cdX9_orNone pnX9 dX9_person_35 rfl (by decide) (Nat.le_of_ble_eq_true rfl) hf rfl fun v3 σ hf => ?_
          refine z_goto (q := 68) C dX9_person_38 (by decide) ?_
          refine z_lv [] rfl ?_
          exact j68_0 v3 σ hf
      · refine z_lv [0] rfl ?_
        exact j17_0 a0 σ hf

noncomputable def f_X9_isPlace_J19 (w0_19 : Int32) (σ : ZT) : Option (Int32 × ZT) :=
  (rz w0_19).bind fun z3 =>
  some (z3, σ)
noncomputable def f_X9_isPlace_J18  (σ : ZT) : Option (Int32 × ZT) :=
  f_X9_isPlace_J19 (0 : Int32) σ
noncomputable def f_X9_isPlace (a0 : Nat) (i1 : Int32) (σ : ZT) : Option (Int32 × ZT) :=
  if i1 < 0 then
  (f_X9_isPlace_J18  σ)
  else
  ((gR 9 900 a0 σ).bind fun v1 =>
  (ldI 0 v1 (0 : Int32) σ).bind fun v2 =>
  if i1 < v2 then
  (f_X9_isPlace_J19 (1 : Int32) σ)
  else
  (f_X9_isPlace_J18  σ))
set_option maxHeartbeats 4000000 in
theorem m_X9_isPlace {l : Launch} {G : ZG} (a0 : Nat) (i1 : Int32) (σ : ZT) {out : (Int32 × ZT)} (hf : f_X9_isPlace a0 i1 σ = some out) : ZM l G yX9_isPlace cX9_isPlace 2 (some .boolean) [] 1 [.ref a0, .int i1] σ (.returned (some (.int out.1))) out.2 := by
  refine ZM.of [(0, .ref a0), (1, .int i1)] rfl (Nat.le_of_ble_eq_true rfl) fun X (C : ZC G RX9 "isPlace" cX9_isPlace 2 (some .boolean) [] X 1) => ?_
  unfold f_X9_isPlace at hf
  have j19_0 : ∀ (w0_19 : Int32) (σ : ZT), f_X9_isPlace_J19 w0_19 σ = some out → ZW l G 2 X (ZQ G X (.returned (some (.int out.1))) out.2) σ 19 [] [.int w0_19] := by
    intro w0_19 σ hf
    unfold f_X9_isPlace_J19 at hf
    refine z_rz C hf fun hn hf => ?_
    exact z_zreturn C rfl hn dX9_isPlace_19 (Option.some.inj hf)
  have j18_0 : ∀  (σ : ZT), f_X9_isPlace_J18  σ = some out → ZW l G 2 X (ZQ G X (.returned (some (.int out.1))) out.2) σ 18 [] [] := by
    intro  σ hf
    unfold f_X9_isPlace_J18 at hf
    refine z_iconst (q := 19) C (0 : Int32) dX9_isPlace_18 ki_0 rfl ?_
    exact j19_0 (0 : Int32) σ hf
  refine z_iload_n (q := 1) (i := 1) C 1 dX9_isPlace_0 rfl rfl rfl ?_
  refine z_iflt (q := 4) (tgt := 18) C dX9_isPlace_1 (by decide) rfl hf (fun c1 hf => ?_) (fun c1 hf => ?_)
  · refine z_lv [] rfl ?_
    exact j18_0  σ hf
  · refine z_iload_n (q := 5) (i := 1) C 1 dX9_isPlace_4 rfl rfl rfl ?_
    refine z_aload_n (q := 6) (i := 0) C 0 dX9_isPlace_5 rfl rfl rfl ?_
    refine z_getR (q := 9) C flX9_7 dX9_isPlace_6 hf rfl fun v1 hf => ?_
    refine z_iconst (q := 10) C (0 : Int32) dX9_isPlace_9 ki_0 rfl ?_
    refine z_iald (q := 11) C dX9_isPlace_10 hf rfl fun v2 hf => ?_
    refine z_icmpge (q := 14) (tgt := 18) C dX9_isPlace_11 (by decide) rfl hf (fun c11 hf => ?_) (fun c11 hf => ?_)
    · refine z_lv [] rfl ?_
      exact j18_0  σ hf
    · refine z_iconst (q := 15) C (1 : Int32) dX9_isPlace_14 ki_1 rfl ?_
      refine z_goto (q := 19) C dX9_isPlace_15 (by decide) ?_
      refine z_lv [] rfl ?_
      exact j19_0 (1 : Int32) σ hf

noncomputable def f_X9_stones_J29 (w0_29 : Int32) (σ : ZT) : Option (Int32 × ZT) :=
  some (w0_29, σ)
noncomputable def f_X9_stones (a0 : Nat) (i1 : Int32) (σ : ZT) : Option (Int32 × ZT) :=
  bnd2 (vc 9 a0 σ (f_X9_isPlace a0 i1 σ)) fun v1 σ =>
  if v1 = 0 then
  (bnd2 (vc 9 a0 σ (f_X9_refuse a0 (1 : Int32) σ)) fun v2 σ =>
  f_X9_stones_J29 v2 σ)
  else
  ((gR 9 900 a0 σ).bind fun v3 =>
  (ldI 0 v3 ((8 : Int32) + i1) σ).bind fun v4 =>
  bnd2 (vc 9 a0 σ (f_X9_gives a0 v4 σ)) fun v5 σ =>
  f_X9_stones_J29 v5 σ)
set_option maxHeartbeats 4000000 in
theorem m_X9_stones {l : Launch} {G : ZG} (a0 : Nat) (i1 : Int32) (σ : ZT) {out : (Int32 × ZT)} (hf : f_X9_stones a0 i1 σ = some out) : ZM l G yX9_stones cX9_stones 2 (some .int) [] 2 [.ref a0, .int i1] σ (.returned (some (.int out.1))) out.2 := by
  refine ZM.of [(0, .ref a0), (1, .int i1)] rfl (Nat.le_of_ble_eq_true rfl) fun X (C : ZC G RX9 "stones" cX9_stones 2 (some .int) [] X 2) => ?_
  unfold f_X9_stones at hf
  have j29_0 : ∀ (w0_29 : Int32) (σ : ZT), f_X9_stones_J29 w0_29 σ = some out → ZW l G 2 X (ZQ G X (.returned (some (.int out.1))) out.2) σ 29 [] [.int w0_29] := by
    intro w0_29 σ hf
    unfold f_X9_stones_J29 at hf
    exact z_ireturn C rfl dX9_stones_29 (Option.some.inj hf)
  refine z_aload_n (q := 1) (i := 0) C 0 dX9_stones_0 rfl rfl rfl ?_
  refine z_iload_n (q := 2) (i := 1) C 1 dX9_stones_1 rfl rfl rfl ?_
  refine z_callVi (q := 5) (As := [.int i1]) C (fun o ho => m_X9_isPlace _ _ _ ho) zk9 vvX9_303 cdX9_isPlace pnX9 dX9_stones_2 rfl (by decide) (Nat.le_of_ble_eq_true rfl) hf rfl fun v1 σ hf => ?_
  refine z_ifeq (q := 8) (tgt := 24) C dX9_stones_5 (by decide) rfl hf (fun c5 hf => ?_) (fun c5 hf => ?_)
  · refine z_aload_n (q := 25) (i := 0) C 0 dX9_stones_24 rfl rfl rfl ?_
    refine z_iconst (q := 26) C (1 : Int32) dX9_stones_25 ki_1 rfl ?_
    refine z_callVi (q := 29) (As := [.int (1 : Int32)]) C (fun o ho => m_X9_refuse _ _ _ ho) zk9 vvX9_103 cdX9_refuse pnX9 dX9_stones_26 rfl (by decide) (Nat.le_of_ble_eq_true rfl) hf rfl fun v2 σ hf => ?_
    refine z_lv [] rfl ?_
    exact j29_0 v2 σ hf
  · refine z_aload_n (q := 9) (i := 0) C 0 dX9_stones_8 rfl rfl rfl ?_
    refine z_aload_n (q := 10) (i := 0) C 0 dX9_stones_9 rfl rfl rfl ?_
    refine z_getR (q := 13) C flX9_7 dX9_stones_10 hf rfl fun v3 hf => ?_
    refine z_bipush (q := 15) C (8 : Int32) dX9_stones_13 kb_8 rfl ?_
    refine z_iload_n (q := 16) (i := 1) C 1 dX9_stones_15 rfl rfl rfl ?_
    refine z_iadd (q := 17) C dX9_stones_16 rfl ?_
    refine z_iald (q := 18) C dX9_stones_17 hf rfl fun v4 hf => ?_
    refine z_callVi (q := 21) (As := [.int v4]) C (fun o ho => m_X9_gives _ _ _ ho) zk9 vvX9_107 cdX9_gives pnX9 dX9_stones_18 rfl (by decide) (Nat.le_of_ble_eq_true rfl) hf rfl fun v5 σ hf => ?_
    refine z_goto (q := 29) C dX9_stones_21 (by decide) ?_
    refine z_lv [] rfl ?_
    exact j29_0 v5 σ hf

noncomputable def f_X9_at_J29 (w0_29 : Int32) (σ : ZT) : Option (Int32 × ZT) :=
  some (w0_29, σ)
noncomputable def f_X9_at (a0 : Nat) (i1 : Int32) (σ : ZT) : Option (Int32 × ZT) :=
  bnd2 (vc 9 a0 σ (f_X9_isPerson a0 i1 σ)) fun v1 σ =>
  if v1 = 0 then
  (bnd2 (vc 9 a0 σ (f_X9_refuse a0 (1 : Int32) σ)) fun v2 σ =>
  f_X9_at_J29 v2 σ)
  else
  ((gR 9 900 a0 σ).bind fun v3 =>
  (ldI 0 v3 ((110 : Int32) + i1) σ).bind fun v4 =>
  bnd2 (vc 9 a0 σ (f_X9_gives a0 v4 σ)) fun v5 σ =>
  f_X9_at_J29 v5 σ)
set_option maxHeartbeats 4000000 in
theorem m_X9_at {l : Launch} {G : ZG} (a0 : Nat) (i1 : Int32) (σ : ZT) {out : (Int32 × ZT)} (hf : f_X9_at a0 i1 σ = some out) : ZM l G yX9_at cX9_at 2 (some .int) [] 2 [.ref a0, .int i1] σ (.returned (some (.int out.1))) out.2 := by
  refine ZM.of [(0, .ref a0), (1, .int i1)] rfl (Nat.le_of_ble_eq_true rfl) fun X (C : ZC G RX9 "at" cX9_at 2 (some .int) [] X 2) => ?_
  unfold f_X9_at at hf
  have j29_0 : ∀ (w0_29 : Int32) (σ : ZT), f_X9_at_J29 w0_29 σ = some out → ZW l G 2 X (ZQ G X (.returned (some (.int out.1))) out.2) σ 29 [] [.int w0_29] := by
    intro w0_29 σ hf
    unfold f_X9_at_J29 at hf
    exact z_ireturn C rfl dX9_at_29 (Option.some.inj hf)
  refine z_aload_n (q := 1) (i := 0) C 0 dX9_at_0 rfl rfl rfl ?_
  refine z_iload_n (q := 2) (i := 1) C 1 dX9_at_1 rfl rfl rfl ?_
  refine z_callVi (q := 5) (As := [.int i1]) C (fun o ho => m_X9_isPerson _ _ _ ho) zk9 vvX9_297 cdX9_isPerson pnX9 dX9_at_2 rfl (by decide) (Nat.le_of_ble_eq_true rfl) hf rfl fun v1 σ hf => ?_
  refine z_ifeq (q := 8) (tgt := 24) C dX9_at_5 (by decide) rfl hf (fun c5 hf => ?_) (fun c5 hf => ?_)
  · refine z_aload_n (q := 25) (i := 0) C 0 dX9_at_24 rfl rfl rfl ?_
    refine z_iconst (q := 26) C (1 : Int32) dX9_at_25 ki_1 rfl ?_
    refine z_callVi (q := 29) (As := [.int (1 : Int32)]) C (fun o ho => m_X9_refuse _ _ _ ho) zk9 vvX9_103 cdX9_refuse pnX9 dX9_at_26 rfl (by decide) (Nat.le_of_ble_eq_true rfl) hf rfl fun v2 σ hf => ?_
    refine z_lv [] rfl ?_
    exact j29_0 v2 σ hf
  · refine z_aload_n (q := 9) (i := 0) C 0 dX9_at_8 rfl rfl rfl ?_
    refine z_aload_n (q := 10) (i := 0) C 0 dX9_at_9 rfl rfl rfl ?_
    refine z_getR (q := 13) C flX9_7 dX9_at_10 hf rfl fun v3 hf => ?_
    refine z_bipush (q := 15) C (110 : Int32) dX9_at_13 kb_110 rfl ?_
    refine z_iload_n (q := 16) (i := 1) C 1 dX9_at_15 rfl rfl rfl ?_
    refine z_iadd (q := 17) C dX9_at_16 rfl ?_
    refine z_iald (q := 18) C dX9_at_17 hf rfl fun v4 hf => ?_
    refine z_callVi (q := 21) (As := [.int v4]) C (fun o ho => m_X9_gives _ _ _ ho) zk9 vvX9_107 cdX9_gives pnX9 dX9_at_18 rfl (by decide) (Nat.le_of_ble_eq_true rfl) hf rfl fun v5 σ hf => ?_
    refine z_goto (q := 29) C dX9_at_21 (by decide) ?_
    refine z_lv [] rfl ?_
    exact j29_0 v5 σ hf

noncomputable def f_X9_loadOf_L2 (c0_2 : Nat) (c1_2 : Int32) (i_1 : Int32) (σ : ZT) : Option ((Int32 × ZT) ⊕ ((Int32 × ZT) ⊕ ZT)) :=
  (gR 9 900 c0_2 σ).bind fun v2 =>
  (ldI 0 v2 (3 : Int32) σ).bind fun v3 =>
  if i_1 < v3 then
  ((gR 9 925 c0_2 σ).bind fun v4 =>
  (ldI 0 v4 i_1 σ).bind fun v5 =>
  if v5 = ((6 : Int32) + c1_2) then
  (some (.inr (.inl (i_1, σ))))
  else
  (some (.inl ((i_1 + (1 : Int32)), σ))))
  else
  (some (.inr (.inr σ)))
noncomputable def f_X9_loadOf (a0 : Nat) (i1 : Int32) (σ : ZT) : Option (Int32 × ZT) :=
  (loopC (fun s : (Int32 × ZT) => f_X9_loadOf_L2 a0 i1 s.1 s.2) ((0 : Int32), σ)).bind fun x => (match x with
  | .inl o => some o
  | .inr σ => some ((-1 : Int32), σ))
set_option maxHeartbeats 4000000 in
theorem m_X9_loadOf {l : Launch} {G : ZG} (a0 : Nat) (i1 : Int32) (σ : ZT) {out : (Int32 × ZT)} (hf : f_X9_loadOf a0 i1 σ = some out) : ZM l G yX9_loadOf cX9_loadOf 3 (some .int) [] 1 [.ref a0, .int i1] σ (.returned (some (.int out.1))) out.2 := by
  refine ZM.of [(0, .ref a0), (1, .int i1)] rfl (Nat.le_of_ble_eq_true rfl) fun X (C : ZC G RX9 "loadOf" cX9_loadOf 3 (some .int) [] X 1) => ?_
  unfold f_X9_loadOf at hf
  refine z_iconst (q := 1) C (0 : Int32) dX9_loadOf_0 ki_0 rfl ?_
  refine z_istore_n (q := 2) (i := 2) (lv' := [(2, .int (0 : Int32)), (0, .ref a0), (1, .int i1)]) C dX9_loadOf_1 rfl (by decide) rfl rfl ?_
  refine z_lv [1, 2, 0] rfl ?_
  obtain ⟨r1, hr1, hk1⟩ := Option.bind_eq_some_iff.mp hf
  refine loopC_ind (P := fun s => ZW l G 3 X (ZQ G X (.returned (some (.int out.1))) out.2) s.2 2 [(0, .ref a0), (1, .int i1), (2, .int s.1)] []) (fun s x1 hf hx1 => ?_) hr1
  obtain ⟨i_1, σ⟩ := s
  unfold f_X9_loadOf_L2 at hf
  try dsimp only at hf
  try dsimp only
  refine z_iload_n (q := 3) (i := 2) C 2 dX9_loadOf_2 rfl rfl rfl ?_
  refine z_aload_n (q := 4) (i := 0) C 0 dX9_loadOf_3 rfl rfl rfl ?_
  refine z_getR (q := 7) C flX9_7 dX9_loadOf_4 hf rfl fun v2 hf => ?_
  refine z_iconst (q := 8) C (3 : Int32) dX9_loadOf_7 ki_3 rfl ?_
  refine z_iald (q := 9) C dX9_loadOf_8 hf rfl fun v3 hf => ?_
  refine z_icmpge (q := 12) (tgt := 33) C dX9_loadOf_9 (by decide) rfl hf (fun c9 hf => ?_) (fun c9 hf => ?_)
  · have e1 := zl_x hf hx1
    have hf := hk1
    rw [← e1] at hf
    try dsimp only at hf
    refine z_iconst (q := 34) C (-1 : Int32) dX9_loadOf_33 ki_m1 rfl ?_
    exact z_ireturn C rfl dX9_loadOf_34 (Option.some.inj hf)
  · refine z_aload_n (q := 13) (i := 0) C 0 dX9_loadOf_12 rfl rfl rfl ?_
    refine z_getR (q := 16) C flX9_50 dX9_loadOf_13 hf rfl fun v4 hf => ?_
    refine z_iload_n (q := 17) (i := 2) C 2 dX9_loadOf_16 rfl rfl rfl ?_
    refine z_iald (q := 18) C dX9_loadOf_17 hf rfl fun v5 hf => ?_
    refine z_bipush (q := 20) C (6 : Int32) dX9_loadOf_18 kb_6 rfl ?_
    refine z_iload_n (q := 21) (i := 1) C 1 dX9_loadOf_20 rfl rfl rfl ?_
    refine z_iadd (q := 22) C dX9_loadOf_21 rfl ?_
    refine z_icmpne (q := 25) (tgt := 27) C dX9_loadOf_22 (by decide) rfl hf (fun c22 hf => ?_) (fun c22 hf => ?_)
    · refine z_iinc (q := 30) (i := 2) (lv' := [(2, .int (i_1 + (1 : Int32))), (0, .ref a0), (1, .int i1)]) C 2 (i_1 + (1 : Int32)) dX9_loadOf_27 rfl (kn_1 _) (by decide) rfl rfl ?_
      refine z_goto (q := 2) C dX9_loadOf_30 (by decide) ?_
      refine z_lv [1, 2, 0] rfl ?_
      have hc1 := zl_c hf hx1
      exact hc1
    · refine z_iload_n (q := 26) (i := 2) C 2 dX9_loadOf_25 rfl rfl rfl ?_
      have e1 := zl_x hf hx1
      have hf := hk1
      rw [← e1] at hf
      try dsimp only at hf
      exact z_ireturn C rfl dX9_loadOf_26 (Option.some.inj hf)

noncomputable def f_X9_carries (a0 : Nat) (i1 : Int32) (σ : ZT) : Option (Int32 × ZT) :=
  bnd2 (vc 9 a0 σ (f_X9_isPerson a0 i1 σ)) fun v1 σ =>
  if v1 = 0 then
  (bnd2 (vc 9 a0 σ (f_X9_refuse a0 (1 : Int32) σ)) fun v5 σ =>
  some (v5, σ))
  else
  ((vc 9 a0 σ (f_X9_takesNow a0 σ)).bind fun σ =>
  bnd2 (vc 9 a0 σ (f_X9_loadOf a0 i1 σ)) fun v3 σ =>
  bnd2 (vc 9 a0 σ (f_X9_orNone a0 v3 σ)) fun v4 σ =>
  some (v4, σ))
set_option maxHeartbeats 4000000 in
theorem m_X9_carries {l : Launch} {G : ZG} (a0 : Nat) (i1 : Int32) (σ : ZT) {out : (Int32 × ZT)} (hf : f_X9_carries a0 i1 σ = some out) : ZM l G yX9_carries cX9_carries 2 (some .int) [] 3 [.ref a0, .int i1] σ (.returned (some (.int out.1))) out.2 := by
  refine ZM.of [(0, .ref a0), (1, .int i1)] rfl (Nat.le_of_ble_eq_true rfl) fun X (C : ZC G RX9 "carries" cX9_carries 2 (some .int) [] X 3) => ?_
  unfold f_X9_carries at hf
  refine z_aload_n (q := 1) (i := 0) C 0 dX9_carries_0 rfl rfl rfl ?_
  refine z_iload_n (q := 2) (i := 1) C 1 dX9_carries_1 rfl rfl rfl ?_
  refine z_callVi (q := 5) (As := [.int i1]) C (fun o ho => m_X9_isPerson _ _ _ ho) zk9 vvX9_297 cdX9_isPerson pnX9 dX9_carries_2 rfl (by decide) (Nat.le_of_ble_eq_true rfl) hf rfl fun v1 σ hf => ?_
  refine z_ifne (q := 8) (tgt := 14) C dX9_carries_5 (by decide) rfl hf (fun c5 hf => ?_) (fun c5 hf => ?_)
  · refine z_aload_n (q := 15) (i := 0) C 0 dX9_carries_14 rfl rfl rfl ?_
    refine z_callVv (q := 18) (As := []) C (fun o ho => m_X9_takesNow _ _ ho) zk9 vvX9_285 cdX9_takesNow pnX9 dX9_carries_15 rfl (by decide) (Nat.le_of_ble_eq_true rfl) hf rfl fun σ hf => ?_
    refine z_aload_n (q := 19) (i := 0) C 0 dX9_carries_18 rfl rfl rfl ?_
    refine z_aload_n (q := 20) (i := 0) C 0 dX9_carries_19 rfl rfl rfl ?_
    refine z_iload_n (q := 21) (i := 1) C 1 dX9_carries_20 rfl rfl rfl ?_
    refine z_callVi (q := 24) (As := [.int i1]) C (fun o ho => m_X9_loadOf _ _ _ ho) zk9 vvX9_306 cdX9_loadOf pnX9 dX9_carries_21 rfl (by decide) (Nat.le_of_ble_eq_true rfl) hf rfl fun v3 σ hf => ?_
    refine z_callVi (q := 27) (As := [.int v3]) C (fun o ho => m_X9_orNone _ _ _ ho) zk9 vvX9_300 cdX9_orNone pnX9 dX9_carries_24 rfl (by decide) (Nat.le_of_ble_eq_true rfl) hf rfl fun v4 σ hf => ?_
    exact z_ireturn C rfl dX9_carries_27 (Option.some.inj hf)
  · refine z_aload_n (q := 9) (i := 0) C 0 dX9_carries_8 rfl rfl rfl ?_
    refine z_iconst (q := 10) C (1 : Int32) dX9_carries_9 ki_1 rfl ?_
    refine z_callVi (q := 13) (As := [.int (1 : Int32)]) C (fun o ho => m_X9_refuse _ _ _ ho) zk9 vvX9_103 cdX9_refuse pnX9 dX9_carries_10 rfl (by decide) (Nat.le_of_ble_eq_true rfl) hf rfl fun v5 σ hf => ?_
    exact z_ireturn C rfl dX9_carries_13 (Option.some.inj hf)

noncomputable def f_X9_isLoad_J19 (w0_19 : Int32) (σ : ZT) : Option (Int32 × ZT) :=
  (rz w0_19).bind fun z3 =>
  some (z3, σ)
noncomputable def f_X9_isLoad_J18  (σ : ZT) : Option (Int32 × ZT) :=
  f_X9_isLoad_J19 (0 : Int32) σ
noncomputable def f_X9_isLoad (a0 : Nat) (i1 : Int32) (σ : ZT) : Option (Int32 × ZT) :=
  if i1 < 0 then
  (f_X9_isLoad_J18  σ)
  else
  ((gR 9 900 a0 σ).bind fun v1 =>
  (ldI 0 v1 (3 : Int32) σ).bind fun v2 =>
  if i1 < v2 then
  (f_X9_isLoad_J19 (1 : Int32) σ)
  else
  (f_X9_isLoad_J18  σ))
set_option maxHeartbeats 4000000 in
theorem m_X9_isLoad {l : Launch} {G : ZG} (a0 : Nat) (i1 : Int32) (σ : ZT) {out : (Int32 × ZT)} (hf : f_X9_isLoad a0 i1 σ = some out) : ZM l G yX9_isLoad cX9_isLoad 2 (some .boolean) [] 1 [.ref a0, .int i1] σ (.returned (some (.int out.1))) out.2 := by
  refine ZM.of [(0, .ref a0), (1, .int i1)] rfl (Nat.le_of_ble_eq_true rfl) fun X (C : ZC G RX9 "isLoad" cX9_isLoad 2 (some .boolean) [] X 1) => ?_
  unfold f_X9_isLoad at hf
  have j19_0 : ∀ (w0_19 : Int32) (σ : ZT), f_X9_isLoad_J19 w0_19 σ = some out → ZW l G 2 X (ZQ G X (.returned (some (.int out.1))) out.2) σ 19 [] [.int w0_19] := by
    intro w0_19 σ hf
    unfold f_X9_isLoad_J19 at hf
    refine z_rz C hf fun hn hf => ?_
    exact z_zreturn C rfl hn dX9_isLoad_19 (Option.some.inj hf)
  have j18_0 : ∀  (σ : ZT), f_X9_isLoad_J18  σ = some out → ZW l G 2 X (ZQ G X (.returned (some (.int out.1))) out.2) σ 18 [] [] := by
    intro  σ hf
    unfold f_X9_isLoad_J18 at hf
    refine z_iconst (q := 19) C (0 : Int32) dX9_isLoad_18 ki_0 rfl ?_
    exact j19_0 (0 : Int32) σ hf
  refine z_iload_n (q := 1) (i := 1) C 1 dX9_isLoad_0 rfl rfl rfl ?_
  refine z_iflt (q := 4) (tgt := 18) C dX9_isLoad_1 (by decide) rfl hf (fun c1 hf => ?_) (fun c1 hf => ?_)
  · refine z_lv [] rfl ?_
    exact j18_0  σ hf
  · refine z_iload_n (q := 5) (i := 1) C 1 dX9_isLoad_4 rfl rfl rfl ?_
    refine z_aload_n (q := 6) (i := 0) C 0 dX9_isLoad_5 rfl rfl rfl ?_
    refine z_getR (q := 9) C flX9_7 dX9_isLoad_6 hf rfl fun v1 hf => ?_
    refine z_iconst (q := 10) C (3 : Int32) dX9_isLoad_9 ki_3 rfl ?_
    refine z_iald (q := 11) C dX9_isLoad_10 hf rfl fun v2 hf => ?_
    refine z_icmpge (q := 14) (tgt := 18) C dX9_isLoad_11 (by decide) rfl hf (fun c11 hf => ?_) (fun c11 hf => ?_)
    · refine z_lv [] rfl ?_
      exact j18_0  σ hf
    · refine z_iconst (q := 15) C (1 : Int32) dX9_isLoad_14 ki_1 rfl ?_
      refine z_goto (q := 19) C dX9_isLoad_15 (by decide) ?_
      refine z_lv [] rfl ?_
      exact j19_0 (1 : Int32) σ hf

noncomputable def f_X9_load_J17 (a0_17 : Nat) (σ : ZT) : Option (Int32 × ZT) :=
  bnd2 (vc 9 a0_17 σ (f_X9_refuse a0_17 (1 : Int32) σ)) fun v8 σ =>
  some (v8, σ)
noncomputable def f_X9_load_J74 (w0_74 : Int32) (w1_74 : Nat) (σ : ZT) : Option (Int32 × ZT) :=
  bnd2 (vc 9 w1_74 σ (f_X9_gives w1_74 w0_74 σ)) fun v9 σ =>
  some (v9, σ)
noncomputable def f_X9_load (a0 : Nat) (i1 : Int32) (i2 : Int32) (σ : ZT) : Option (Int32 × ZT) :=
  bnd2 (vc 9 a0 σ (f_X9_isLoad a0 i1 σ)) fun v1 σ =>
  if v1 = 0 then
  (f_X9_load_J17 a0 σ)
  else
  (if i2 < 0 then
  (f_X9_load_J17 a0 σ)
  else
  (if (1 : Int32) < i2 then
  (f_X9_load_J17 a0 σ)
  else
  ((gR 9 900 a0 σ).bind fun v2 =>
  (ldI 0 v2 ((114 : Int32) + i1) σ).bind fun v3 =>
  if i2 = 0 then
  ((gR 9 900 a0 σ).bind fun v6 =>
  (ldI 0 v6 ((106 : Int32) + ((2 : Int32) * i1)) σ).bind fun v7 =>
  f_X9_load_J74 v7 a0 σ)
  else
  (if v3 < (6 : Int32) then
  (f_X9_load_J74 v3 a0 σ)
  else
  ((gR 9 900 a0 σ).bind fun v4 =>
  (ldI 0 v4 (((110 : Int32) + v3) - (6 : Int32)) σ).bind fun v5 =>
  f_X9_load_J74 v5 a0 σ)))))
set_option maxHeartbeats 4000000 in
theorem m_X9_load {l : Launch} {G : ZG} (a0 : Nat) (i1 : Int32) (i2 : Int32) (σ : ZT) {out : (Int32 × ZT)} (hf : f_X9_load a0 i1 i2 σ = some out) : ZM l G yX9_load cX9_load 4 (some .int) [] 2 [.ref a0, .int i1, .int i2] σ (.returned (some (.int out.1))) out.2 := by
  refine ZM.of [(0, .ref a0), (1, .int i1), (2, .int i2)] rfl (Nat.le_of_ble_eq_true rfl) fun X (C : ZC G RX9 "load" cX9_load 4 (some .int) [] X 2) => ?_
  unfold f_X9_load at hf
  have j74_0 : ∀ (w0_74 : Int32) (w1_74 : Nat) (σ : ZT), f_X9_load_J74 w0_74 w1_74 σ = some out → ZW l G 4 X (ZQ G X (.returned (some (.int out.1))) out.2) σ 74 [] [.int w0_74, .ref w1_74] := by
    intro w0_74 w1_74 σ hf
    unfold f_X9_load_J74 at hf
    refine z_callVi (q := 77) (As := [.int w0_74]) C (fun o ho => m_X9_gives _ _ _ ho) zk9 vvX9_107 cdX9_gives pnX9 dX9_load_74 rfl (by decide) (Nat.le_of_ble_eq_true rfl) hf rfl fun v9 σ hf => ?_
    exact z_ireturn C rfl dX9_load_77 (Option.some.inj hf)
  have j17_0 : ∀ (a0_17 : Nat) (σ : ZT), f_X9_load_J17 a0_17 σ = some out → ZW l G 4 X (ZQ G X (.returned (some (.int out.1))) out.2) σ 17 [(0, .ref a0_17)] [] := by
    intro a0_17 σ hf
    unfold f_X9_load_J17 at hf
    refine z_aload_n (q := 18) (i := 0) C 0 dX9_load_17 rfl rfl rfl ?_
    refine z_iconst (q := 19) C (1 : Int32) dX9_load_18 ki_1 rfl ?_
    refine z_callVi (q := 22) (As := [.int (1 : Int32)]) C (fun o ho => m_X9_refuse _ _ _ ho) zk9 vvX9_103 cdX9_refuse pnX9 dX9_load_19 rfl (by decide) (Nat.le_of_ble_eq_true rfl) hf rfl fun v8 σ hf => ?_
    exact z_ireturn C rfl dX9_load_22 (Option.some.inj hf)
  refine z_aload_n (q := 1) (i := 0) C 0 dX9_load_0 rfl rfl rfl ?_
  refine z_iload_n (q := 2) (i := 1) C 1 dX9_load_1 rfl rfl rfl ?_
  refine z_callVi (q := 5) (As := [.int i1]) C (fun o ho => m_X9_isLoad _ _ _ ho) zk9 vvX9_321 cdX9_isLoad pnX9 dX9_load_2 rfl (by decide) (Nat.le_of_ble_eq_true rfl) hf rfl fun v1 σ hf => ?_
  refine z_ifeq (q := 8) (tgt := 17) C dX9_load_5 (by decide) rfl hf (fun c5 hf => ?_) (fun c5 hf => ?_)
  · refine z_lv [0] rfl ?_
    exact j17_0 a0 σ hf
  · refine z_iload_n (q := 9) (i := 2) C 2 dX9_load_8 rfl rfl rfl ?_
    refine z_iflt (q := 12) (tgt := 17) C dX9_load_9 (by decide) rfl hf (fun c9 hf => ?_) (fun c9 hf => ?_)
    · refine z_lv [0] rfl ?_
      exact j17_0 a0 σ hf
    · refine z_iload_n (q := 13) (i := 2) C 2 dX9_load_12 rfl rfl rfl ?_
      refine z_iconst (q := 14) C (1 : Int32) dX9_load_13 ki_1 rfl ?_
      refine z_icmple (q := 17) (tgt := 23) C dX9_load_14 (by decide) rfl hf (fun c14 hf => ?_) (fun c14 hf => ?_)
      · refine z_aload_n (q := 24) (i := 0) C 0 dX9_load_23 rfl rfl rfl ?_
        refine z_getR (q := 27) C flX9_7 dX9_load_24 hf rfl fun v2 hf => ?_
        refine z_bipush (q := 29) C (114 : Int32) dX9_load_27 kb_114 rfl ?_
        refine z_iload_n (q := 30) (i := 1) C 1 dX9_load_29 rfl rfl rfl ?_
        refine z_iadd (q := 31) C dX9_load_30 rfl ?_
        refine z_iald (q := 32) C dX9_load_31 hf rfl fun v3 hf => ?_
        refine z_istore_n (q := 33) (i := 3) (lv' := [(3, .int v3), (0, .ref a0), (1, .int i1), (2, .int i2)]) C dX9_load_32 rfl (by decide) rfl rfl ?_
        refine z_aload_n (q := 34) (i := 0) C 1 dX9_load_33 rfl rfl rfl ?_
        refine z_iload_n (q := 35) (i := 2) C 3 dX9_load_34 rfl rfl rfl ?_
        refine z_ifne (q := 38) (tgt := 52) C dX9_load_35 (by decide) rfl hf (fun c35 hf => ?_) (fun c35 hf => ?_)
        · refine z_iload_n (q := 53) (i := 3) C 0 dX9_load_52 rfl rfl rfl ?_
          refine z_bipush (q := 55) C (6 : Int32) dX9_load_53 kb_6 rfl ?_
          refine z_icmpge (q := 58) (tgt := 62) C dX9_load_55 (by decide) rfl hf (fun c55 hf => ?_) (fun c55 hf => ?_)
          · refine z_aload_n (q := 63) (i := 0) C 1 dX9_load_62 rfl rfl rfl ?_
            refine z_getR (q := 66) C flX9_7 dX9_load_63 hf rfl fun v4 hf => ?_
            refine z_bipush (q := 68) C (110 : Int32) dX9_load_66 kb_110 rfl ?_
            refine z_iload_n (q := 69) (i := 3) C 0 dX9_load_68 rfl rfl rfl ?_
            refine z_iadd (q := 70) C dX9_load_69 rfl ?_
            refine z_bipush (q := 72) C (6 : Int32) dX9_load_70 kb_6 rfl ?_
            refine z_isub (q := 73) C dX9_load_72 rfl ?_
            refine z_iald (q := 74) C dX9_load_73 hf rfl fun v5 hf => ?_
            refine z_lv [] rfl ?_
            exact j74_0 v5 a0 σ hf
          · refine z_iload_n (q := 59) (i := 3) C 0 dX9_load_58 rfl rfl rfl ?_
            refine z_goto (q := 74) C dX9_load_59 (by decide) ?_
            refine z_lv [] rfl ?_
            exact j74_0 v3 a0 σ hf
        · refine z_aload_n (q := 39) (i := 0) C 1 dX9_load_38 rfl rfl rfl ?_
          refine z_getR (q := 42) C flX9_7 dX9_load_39 hf rfl fun v6 hf => ?_
          refine z_bipush (q := 44) C (106 : Int32) dX9_load_42 kb_106 rfl ?_
          refine z_iconst (q := 45) C (2 : Int32) dX9_load_44 ki_2 rfl ?_
          refine z_iload_n (q := 46) (i := 1) C 2 dX9_load_45 rfl rfl rfl ?_
          refine z_imul (q := 47) C dX9_load_46 rfl ?_
          refine z_iadd (q := 48) C dX9_load_47 rfl ?_
          refine z_iald (q := 49) C dX9_load_48 hf rfl fun v7 hf => ?_
          refine z_goto (q := 74) C dX9_load_49 (by decide) ?_
          refine z_lv [] rfl ?_
          exact j74_0 v7 a0 σ hf
      · refine z_lv [0] rfl ?_
        exact j17_0 a0 σ hf

noncomputable def f_X9_burden_J34 (w0_34 : Int32) (w1_34 : Int32) (σ : ZT) : Option (Int32 × ZT) :=
  some ((w1_34 + w0_34), σ)
noncomputable def f_X9_burden (a0 : Nat) (i1 : Int32) (σ : ZT) : Option (Int32 × ZT) :=
  bnd2 (vc 9 a0 σ (f_X9_ofPerson a0 i1 (0 : Int32) σ)) fun v1 σ =>
  bnd2 (vc 9 a0 σ (f_X9_loadOf a0 i1 σ)) fun v2 σ =>
  if v2 = (-1 : Int32) then
  (f_X9_burden_J34 (0 : Int32) v1 σ)
  else
  ((gR 9 900 a0 σ).bind fun v3 =>
  bnd2 (vc 9 a0 σ (f_X9_loadOf a0 i1 σ)) fun v4 σ =>
  (ldI 0 v3 ((106 : Int32) + ((2 : Int32) * v4)) σ).bind fun v5 =>
  f_X9_burden_J34 v5 v1 σ)
set_option maxHeartbeats 4000000 in
theorem m_X9_burden {l : Launch} {G : ZG} (a0 : Nat) (i1 : Int32) (σ : ZT) {out : (Int32 × ZT)} (hf : f_X9_burden a0 i1 σ = some out) : ZM l G yX9_burden cX9_burden 2 (some .int) [] 2 [.ref a0, .int i1] σ (.returned (some (.int out.1))) out.2 := by
  refine ZM.of [(0, .ref a0), (1, .int i1)] rfl (Nat.le_of_ble_eq_true rfl) fun X (C : ZC G RX9 "burden" cX9_burden 2 (some .int) [] X 2) => ?_
  unfold f_X9_burden at hf
  have j34_0 : ∀ (w0_34 : Int32) (w1_34 : Int32) (σ : ZT), f_X9_burden_J34 w0_34 w1_34 σ = some out → ZW l G 2 X (ZQ G X (.returned (some (.int out.1))) out.2) σ 34 [] [.int w0_34, .int w1_34] := by
    intro w0_34 w1_34 σ hf
    unfold f_X9_burden_J34 at hf
    refine z_iadd (q := 35) C dX9_burden_34 rfl ?_
    exact z_ireturn C rfl dX9_burden_35 (Option.some.inj hf)
  refine z_aload_n (q := 1) (i := 0) C 0 dX9_burden_0 rfl rfl rfl ?_
  refine z_iload_n (q := 2) (i := 1) C 1 dX9_burden_1 rfl rfl rfl ?_
  refine z_iconst (q := 3) C (0 : Int32) dX9_burden_2 ki_0 rfl ?_
  refine z_callVi (q := 6) (As := [.int i1, .int (0 : Int32)]) C (fun o ho => m_X9_ofPerson _ _ _ _ ho) zk9 vvX9_258 cdX9_ofPerson pnX9 dX9_burden_3 rfl (by decide) (Nat.le_of_ble_eq_true rfl) hf rfl fun v1 σ hf => ?_
  refine z_aload_n (q := 7) (i := 0) C 0 dX9_burden_6 rfl rfl rfl ?_
  refine z_iload_n (q := 8) (i := 1) C 1 dX9_burden_7 rfl rfl rfl ?_
  refine z_callVi (q := 11) (As := [.int i1]) C (fun o ho => m_X9_loadOf _ _ _ ho) zk9 vvX9_306 cdX9_loadOf pnX9 dX9_burden_8 rfl (by decide) (Nat.le_of_ble_eq_true rfl) hf rfl fun v2 σ hf => ?_
  refine z_iconst (q := 12) C (-1 : Int32) dX9_burden_11 ki_m1 rfl ?_
  refine z_icmpne (q := 15) (tgt := 19) C dX9_burden_12 (by decide) rfl hf (fun c12 hf => ?_) (fun c12 hf => ?_)
  · refine z_aload_n (q := 20) (i := 0) C 0 dX9_burden_19 rfl rfl rfl ?_
    refine z_getR (q := 23) C flX9_7 dX9_burden_20 hf rfl fun v3 hf => ?_
    refine z_bipush (q := 25) C (106 : Int32) dX9_burden_23 kb_106 rfl ?_
    refine z_iconst (q := 26) C (2 : Int32) dX9_burden_25 ki_2 rfl ?_
    refine z_aload_n (q := 27) (i := 0) C 0 dX9_burden_26 rfl rfl rfl ?_
    refine z_iload_n (q := 28) (i := 1) C 1 dX9_burden_27 rfl rfl rfl ?_
    refine z_callVi (q := 31) (As := [.int i1]) C (fun o ho => m_X9_loadOf _ _ _ ho) zk9 vvX9_306 cdX9_loadOf pnX9 dX9_burden_28 rfl (by decide) (Nat.le_of_ble_eq_true rfl) hf rfl fun v4 σ hf => ?_
    refine z_imul (q := 32) C dX9_burden_31 rfl ?_
    refine z_iadd (q := 33) C dX9_burden_32 rfl ?_
    refine z_iald (q := 34) C dX9_burden_33 hf rfl fun v5 hf => ?_
    refine z_lv [] rfl ?_
    exact j34_0 v5 v1 σ hf
  · refine z_iconst (q := 16) C (0 : Int32) dX9_burden_15 ki_0 rfl ?_
    refine z_goto (q := 34) C dX9_burden_16 (by decide) ?_
    refine z_lv [] rfl ?_
    exact j34_0 (0 : Int32) v1 σ hf

noncomputable def f_X9_weightAt_J105_69 (a0_105 : Nat) (i1_105 : Int32) (i3_105 : Int32) (w0_105 : Int32) (w1_105 : Int32) (σ : ZT) : Option ((Int32 × Int32 × ZT) ⊕ (Int32 × ZT)) :=
  some (.inl ((w1_105 + w0_105), (i3_105 + (1 : Int32)), σ))
noncomputable def f_X9_weightAt_L69 (c0_69 : Nat) (c1_69 : Int32) (i_9 : Int32) (i_10 : Int32) (σ : ZT) : Option ((Int32 × Int32 × ZT) ⊕ (Int32 × ZT)) :=
  (gR 9 900 c0_69 σ).bind fun v11 =>
  (ldI 0 v11 (3 : Int32) σ).bind fun v12 =>
  if i_10 < v12 then
  ((gR 9 925 c0_69 σ).bind fun v13 =>
  (ldI 0 v13 i_10 σ).bind fun v14 =>
  if v14 = c1_69 then
  ((gR 9 900 c0_69 σ).bind fun v15 =>
  (ldI 0 v15 ((106 : Int32) + ((2 : Int32) * i_10)) σ).bind fun v16 =>
  f_X9_weightAt_J105_69 c0_69 c1_69 i_10 v16 i_9 σ)
  else
  (f_X9_weightAt_J105_69 c0_69 c1_69 i_10 (0 : Int32) i_9 σ))
  else
  (some (.inr (i_9, σ)))
noncomputable def f_X9_weightAt_J59_29 (a0_59 : Nat) (i1_59 : Int32) (i3_59 : Int32) (w0_59 : Int32) (w1_59 : Int32) (σ : ZT) : Option ((Int32 × Int32 × ZT) ⊕ (Int32 × ZT)) :=
  some (.inl ((w1_59 + w0_59), (i3_59 + (1 : Int32)), σ))
noncomputable def f_X9_weightAt_L29 (c0_29 : Nat) (c1_29 : Int32) (i_5 : Int32) (i_6 : Int32) (σ : ZT) : Option ((Int32 × Int32 × ZT) ⊕ (Int32 × ZT)) :=
  (gR 9 900 c0_29 σ).bind fun v7 =>
  (ldI 0 v7 (2 : Int32) σ).bind fun v8 =>
  if i_6 < v8 then
  ((gR 9 924 c0_29 σ).bind fun v18 =>
  (ldI 0 v18 i_6 σ).bind fun v19 =>
  if v19 = c1_29 then
  (bnd2 (vc 9 c0_29 σ (f_X9_burden c0_29 i_6 σ)) fun v20 σ =>
  f_X9_weightAt_J59_29 c0_29 c1_29 i_6 v20 i_5 σ)
  else
  (f_X9_weightAt_J59_29 c0_29 c1_29 i_6 (0 : Int32) i_5 σ))
  else
  (some (.inr (i_5, σ)))
noncomputable def f_X9_weightAt_J25 (a0_25 : Nat) (i1_25 : Int32) (w0_25 : Int32) (w1_25 : Int32) (σ : ZT) : Option (Int32 × ZT) :=
  (loopC (fun s : (Int32 × Int32 × ZT) => f_X9_weightAt_L29 a0_25 i1_25 s.1 s.2.1 s.2.2) ((w1_25 + w0_25), (0 : Int32), σ)).bind fun x => (match x with
  | (x21, σ) => (loopC (fun s : (Int32 × Int32 × ZT) => f_X9_weightAt_L69 a0_25 i1_25 s.1 s.2.1 s.2.2) (x21, (0 : Int32), σ)).bind fun x => (match x with
  | (x30, σ) => some (x30, σ)))
noncomputable def f_X9_weightAt (a0 : Nat) (i1 : Int32) (σ : ZT) : Option (Int32 × ZT) :=
  (gR 9 900 a0 σ).bind fun v1 =>
  (ldI 0 v1 ((8 : Int32) + i1) σ).bind fun v2 =>
  (gI 9 928 a0 σ).bind fun v3 =>
  if i1 = v3 then
  ((gI 9 927 a0 σ).bind fun v4 =>
  f_X9_weightAt_J25 a0 i1 v4 v2 σ)
  else
  (f_X9_weightAt_J25 a0 i1 (0 : Int32) v2 σ)
set_option maxHeartbeats 4000000 in
theorem m_X9_weightAt {l : Launch} {G : ZG} (a0 : Nat) (i1 : Int32) (σ : ZT) {out : (Int32 × ZT)} (hf : f_X9_weightAt a0 i1 σ = some out) : ZM l G yX9_weightAt cX9_weightAt 4 (some .int) [] 3 [.ref a0, .int i1] σ (.returned (some (.int out.1))) out.2 := by
  refine ZM.of [(0, .ref a0), (1, .int i1)] rfl (Nat.le_of_ble_eq_true rfl) fun X (C : ZC G RX9 "weightAt" cX9_weightAt 4 (some .int) [] X 3) => ?_
  unfold f_X9_weightAt at hf
  have j25_0 : ∀ (a0_25 : Nat) (i1_25 : Int32) (w0_25 : Int32) (w1_25 : Int32) (σ : ZT), f_X9_weightAt_J25 a0_25 i1_25 w0_25 w1_25 σ = some out → ZW l G 4 X (ZQ G X (.returned (some (.int out.1))) out.2) σ 25 [(0, .ref a0_25), (1, .int i1_25)] [.int w0_25, .int w1_25] := by
    intro a0_25 i1_25 w0_25 w1_25 σ hf
    unfold f_X9_weightAt_J25 at hf
    refine z_iadd (q := 26) C dX9_weightAt_25 rfl ?_
    refine z_istore_n (q := 27) (i := 2) (lv' := [(2, .int (w1_25 + w0_25)), (0, .ref a0_25), (1, .int i1_25)]) C dX9_weightAt_26 rfl (by decide) rfl rfl ?_
    refine z_iconst (q := 28) C (0 : Int32) dX9_weightAt_27 ki_0 rfl ?_
    refine z_istore_n (q := 29) (i := 3) (lv' := [(3, .int (0 : Int32)), (2, .int (w1_25 + w0_25)), (0, .ref a0_25), (1, .int i1_25)]) C dX9_weightAt_28 rfl (by decide) rfl rfl ?_
    refine z_lv [2, 3, 1, 0] rfl ?_
    obtain ⟨r1, hr1, hk1⟩ := Option.bind_eq_some_iff.mp hf
    refine loopC_ind (P := fun s => ZW l G 4 X (ZQ G X (.returned (some (.int out.1))) out.2) s.2.2 29 [(0, .ref a0_25), (1, .int i1_25), (2, .int s.1), (3, .int s.2.1)] []) (fun s x1 hf hx1 => ?_) hr1
    obtain ⟨i_5, i_6, σ⟩ := s
    unfold f_X9_weightAt_L29 at hf
    try dsimp only at hf
    try dsimp only
    have j59_1 : ∀ (i3_59 : Int32) (w0_59 : Int32) (w1_59 : Int32) (σ : ZT), f_X9_weightAt_J59_29 a0_25 i1_25 i3_59 w0_59 w1_59 σ = some x1 → ZW l G 4 X (ZQ G X (.returned (some (.int out.1))) out.2) σ 59 [(0, .ref a0_25), (1, .int i1_25), (3, .int i3_59)] [.int w0_59, .int w1_59] := by
      intro i3_59 w0_59 w1_59 σ hf
      unfold f_X9_weightAt_J59_29 at hf
      refine z_iadd (q := 60) C dX9_weightAt_59 rfl ?_
      refine z_istore_n (q := 61) (i := 2) (lv' := [(2, .int (w1_59 + w0_59)), (0, .ref a0_25), (1, .int i1_25), (3, .int i3_59)]) C dX9_weightAt_60 rfl (by decide) rfl rfl ?_
      refine z_iinc (q := 64) (i := 3) (lv' := [(3, .int (i3_59 + (1 : Int32))), (2, .int (w1_59 + w0_59)), (0, .ref a0_25), (1, .int i1_25)]) C 3 (i3_59 + (1 : Int32)) dX9_weightAt_61 rfl (kn_1 _) (by decide) rfl rfl ?_
      refine z_goto (q := 29) C dX9_weightAt_64 (by decide) ?_
      refine z_lv [2, 3, 1, 0] rfl ?_
      have hc1 := zl_c hf hx1
      exact hc1
    refine z_iload_n (q := 30) (i := 3) C 3 dX9_weightAt_29 rfl rfl rfl ?_
    refine z_aload_n (q := 31) (i := 0) C 0 dX9_weightAt_30 rfl rfl rfl ?_
    refine z_getR (q := 34) C flX9_7 dX9_weightAt_31 hf rfl fun v7 hf => ?_
    refine z_iconst (q := 35) C (2 : Int32) dX9_weightAt_34 ki_2 rfl ?_
    refine z_iald (q := 36) C dX9_weightAt_35 hf rfl fun v8 hf => ?_
    refine z_icmpge (q := 39) (tgt := 67) C dX9_weightAt_36 (by decide) rfl hf (fun c36 hf => ?_) (fun c36 hf => ?_)
    · have e1 := zl_x hf hx1
      have hf := hk1
      rw [← e1] at hf
      try dsimp only at hf
      refine z_iconst (q := 68) C (0 : Int32) dX9_weightAt_67 ki_0 rfl ?_
      refine z_istore_n (q := 69) (i := 3) (lv' := [(3, .int (0 : Int32)), (0, .ref a0_25), (1, .int i1_25), (2, .int i_5)]) C dX9_weightAt_68 rfl (by decide) rfl rfl ?_
      refine z_lv [1, 2, 3, 0] rfl ?_
      obtain ⟨r1, hr1, hk1⟩ := Option.bind_eq_some_iff.mp hf
      refine loopC_ind (P := fun s => ZW l G 4 X (ZQ G X (.returned (some (.int out.1))) out.2) s.2.2 69 [(0, .ref a0_25), (1, .int i1_25), (2, .int s.1), (3, .int s.2.1)] []) (fun s x1 hf hx1 => ?_) hr1
      obtain ⟨i_9, i_10, σ⟩ := s
      unfold f_X9_weightAt_L69 at hf
      try dsimp only at hf
      try dsimp only
      have j105_1 : ∀ (i3_105 : Int32) (w0_105 : Int32) (w1_105 : Int32) (σ : ZT), f_X9_weightAt_J105_69 a0_25 i1_25 i3_105 w0_105 w1_105 σ = some x1 → ZW l G 4 X (ZQ G X (.returned (some (.int out.1))) out.2) σ 105 [(0, .ref a0_25), (1, .int i1_25), (3, .int i3_105)] [.int w0_105, .int w1_105] := by
        intro i3_105 w0_105 w1_105 σ hf
        unfold f_X9_weightAt_J105_69 at hf
        refine z_iadd (q := 106) C dX9_weightAt_105 rfl ?_
        refine z_istore_n (q := 107) (i := 2) (lv' := [(2, .int (w1_105 + w0_105)), (0, .ref a0_25), (1, .int i1_25), (3, .int i3_105)]) C dX9_weightAt_106 rfl (by decide) rfl rfl ?_
        refine z_iinc (q := 110) (i := 3) (lv' := [(3, .int (i3_105 + (1 : Int32))), (2, .int (w1_105 + w0_105)), (0, .ref a0_25), (1, .int i1_25)]) C 3 (i3_105 + (1 : Int32)) dX9_weightAt_107 rfl (kn_1 _) (by decide) rfl rfl ?_
        refine z_goto (q := 69) C dX9_weightAt_110 (by decide) ?_
        refine z_lv [2, 3, 1, 0] rfl ?_
        have hc1 := zl_c hf hx1
        exact hc1
      refine z_iload_n (q := 70) (i := 3) C 3 dX9_weightAt_69 rfl rfl rfl ?_
      refine z_aload_n (q := 71) (i := 0) C 0 dX9_weightAt_70 rfl rfl rfl ?_
      refine z_getR (q := 74) C flX9_7 dX9_weightAt_71 hf rfl fun v11 hf => ?_
      refine z_iconst (q := 75) C (3 : Int32) dX9_weightAt_74 ki_3 rfl ?_
      refine z_iald (q := 76) C dX9_weightAt_75 hf rfl fun v12 hf => ?_
      refine z_icmpge (q := 79) (tgt := 113) C dX9_weightAt_76 (by decide) rfl hf (fun c76 hf => ?_) (fun c76 hf => ?_)
      · have e1 := zl_x hf hx1
        have hf := hk1
        rw [← e1] at hf
        try dsimp only at hf
        refine z_iload_n (q := 114) (i := 2) C 2 dX9_weightAt_113 rfl rfl rfl ?_
        exact z_ireturn C rfl dX9_weightAt_114 (Option.some.inj hf)
      · refine z_iload_n (q := 80) (i := 2) C 2 dX9_weightAt_79 rfl rfl rfl ?_
        refine z_aload_n (q := 81) (i := 0) C 0 dX9_weightAt_80 rfl rfl rfl ?_
        refine z_getR (q := 84) C flX9_50 dX9_weightAt_81 hf rfl fun v13 hf => ?_
        refine z_iload_n (q := 85) (i := 3) C 3 dX9_weightAt_84 rfl rfl rfl ?_
        refine z_iald (q := 86) C dX9_weightAt_85 hf rfl fun v14 hf => ?_
        refine z_iload_n (q := 87) (i := 1) C 1 dX9_weightAt_86 rfl rfl rfl ?_
        refine z_icmpne (q := 90) (tgt := 104) C dX9_weightAt_87 (by decide) rfl hf (fun c87 hf => ?_) (fun c87 hf => ?_)
        · refine z_iconst (q := 105) C (0 : Int32) dX9_weightAt_104 ki_0 rfl ?_
          refine z_lv [0, 1, 3] rfl ?_
          exact j105_1 i_10 (0 : Int32) i_9 σ hf
        · refine z_aload_n (q := 91) (i := 0) C 0 dX9_weightAt_90 rfl rfl rfl ?_
          refine z_getR (q := 94) C flX9_7 dX9_weightAt_91 hf rfl fun v15 hf => ?_
          refine z_bipush (q := 96) C (106 : Int32) dX9_weightAt_94 kb_106 rfl ?_
          refine z_iconst (q := 97) C (2 : Int32) dX9_weightAt_96 ki_2 rfl ?_
          refine z_iload_n (q := 98) (i := 3) C 3 dX9_weightAt_97 rfl rfl rfl ?_
          refine z_imul (q := 99) C dX9_weightAt_98 rfl ?_
          refine z_iadd (q := 100) C dX9_weightAt_99 rfl ?_
          refine z_iald (q := 101) C dX9_weightAt_100 hf rfl fun v16 hf => ?_
          refine z_goto (q := 105) C dX9_weightAt_101 (by decide) ?_
          refine z_lv [0, 1, 3] rfl ?_
          exact j105_1 i_10 v16 i_9 σ hf
    · refine z_iload_n (q := 40) (i := 2) C 2 dX9_weightAt_39 rfl rfl rfl ?_
      refine z_aload_n (q := 41) (i := 0) C 0 dX9_weightAt_40 rfl rfl rfl ?_
      refine z_getR (q := 44) C flX9_47 dX9_weightAt_41 hf rfl fun v17 hf => ?_
      refine z_iload_n (q := 45) (i := 3) C 3 dX9_weightAt_44 rfl rfl rfl ?_
      refine z_iald (q := 46) C dX9_weightAt_45 hf rfl fun v18 hf => ?_
      refine z_iload_n (q := 47) (i := 1) C 1 dX9_weightAt_46 rfl rfl rfl ?_
      refine z_icmpne (q := 50) (tgt := 58) C dX9_weightAt_47 (by decide) rfl hf (fun c47 hf => ?_) (fun c47 hf => ?_)
      · refine z_iconst (q := 59) C (0 : Int32) dX9_weightAt_58 ki_0 rfl ?_
        refine z_lv [0, 1, 3] rfl ?_
        exact j59_1 i_6 (0 : Int32) i_5 σ hf
      · refine z_aload_n (q := 51) (i := 0) C 0 dX9_weightAt_50 rfl rfl rfl ?_
        refine z_iload_n (q := 52) (i := 3) C 3 dX9_weightAt_51 rfl rfl rfl ?_
        refine z_callVi (q := 55) (As := [.int i_6]) C (fun o ho => m_X9_burden _ _ _ ho) zk9 vvX9_315 cdX9_burden pnX9 dX9_weightAt_52 rfl (by decide) (Nat.le_of_ble_eq_true rfl) hf rfl fun v19 σ hf => ?_
        refine z_goto (q := 59) C dX9_weightAt_55 (by decide) ?_
        refine z_lv [0, 1, 3] rfl ?_
        exact j59_1 i_6 v19 i_5 σ hf
  refine z_aload_n (q := 1) (i := 0) C 0 dX9_weightAt_0 rfl rfl rfl ?_
  refine z_getR (q := 4) C flX9_7 dX9_weightAt_1 hf rfl fun v1 hf => ?_
  refine z_bipush (q := 6) C (8 : Int32) dX9_weightAt_4 kb_8 rfl ?_
  refine z_iload_n (q := 7) (i := 1) C 1 dX9_weightAt_6 rfl rfl rfl ?_
  refine z_iadd (q := 8) C dX9_weightAt_7 rfl ?_
  refine z_iald (q := 9) C dX9_weightAt_8 hf rfl fun v2 hf => ?_
  refine z_iload_n (q := 10) (i := 1) C 1 dX9_weightAt_9 rfl rfl rfl ?_
  refine z_aload_n (q := 11) (i := 0) C 0 dX9_weightAt_10 rfl rfl rfl ?_
  refine z_getI (q := 14) C flX9_309 dX9_weightAt_11 hf rfl fun v3 hf => ?_
  refine z_icmpne (q := 17) (tgt := 24) C dX9_weightAt_14 (by decide) rfl hf (fun c14 hf => ?_) (fun c14 hf => ?_)
  · refine z_iconst (q := 25) C (0 : Int32) dX9_weightAt_24 ki_0 rfl ?_
    exact j25_0 a0 i1 (0 : Int32) v2 σ hf
  · refine z_aload_n (q := 18) (i := 0) C 0 dX9_weightAt_17 rfl rfl rfl ?_
    refine z_getI (q := 21) C flX9_312 dX9_weightAt_18 hf rfl fun v4 hf => ?_
    refine z_goto (q := 25) C dX9_weightAt_21 (by decide) ?_
    exact j25_0 a0 i1 v4 v2 σ hf

noncomputable def f_X9_weight (a0 : Nat) (i1 : Int32) (σ : ZT) : Option (Int32 × ZT) :=
  bnd2 (vc 9 a0 σ (f_X9_isPlace a0 i1 σ)) fun v1 σ =>
  if v1 = 0 then
  (bnd2 (vc 9 a0 σ (f_X9_refuse a0 (1 : Int32) σ)) fun v5 σ =>
  some (v5, σ))
  else
  ((vc 9 a0 σ (f_X9_takesNow a0 σ)).bind fun σ =>
  bnd2 (vc 9 a0 σ (f_X9_weightAt a0 i1 σ)) fun v3 σ =>
  bnd2 (vc 9 a0 σ (f_X9_gives a0 v3 σ)) fun v4 σ =>
  some (v4, σ))
set_option maxHeartbeats 4000000 in
theorem m_X9_weight {l : Launch} {G : ZG} (a0 : Nat) (i1 : Int32) (σ : ZT) {out : (Int32 × ZT)} (hf : f_X9_weight a0 i1 σ = some out) : ZM l G yX9_weight cX9_weight 2 (some .int) [] 4 [.ref a0, .int i1] σ (.returned (some (.int out.1))) out.2 := by
  refine ZM.of [(0, .ref a0), (1, .int i1)] rfl (Nat.le_of_ble_eq_true rfl) fun X (C : ZC G RX9 "weight" cX9_weight 2 (some .int) [] X 4) => ?_
  unfold f_X9_weight at hf
  refine z_aload_n (q := 1) (i := 0) C 0 dX9_weight_0 rfl rfl rfl ?_
  refine z_iload_n (q := 2) (i := 1) C 1 dX9_weight_1 rfl rfl rfl ?_
  refine z_callVi (q := 5) (As := [.int i1]) C (fun o ho => m_X9_isPlace _ _ _ ho) zk9 vvX9_303 cdX9_isPlace pnX9 dX9_weight_2 rfl (by decide) (Nat.le_of_ble_eq_true rfl) hf rfl fun v1 σ hf => ?_
  refine z_ifne (q := 8) (tgt := 14) C dX9_weight_5 (by decide) rfl hf (fun c5 hf => ?_) (fun c5 hf => ?_)
  · refine z_aload_n (q := 15) (i := 0) C 0 dX9_weight_14 rfl rfl rfl ?_
    refine z_callVv (q := 18) (As := []) C (fun o ho => m_X9_takesNow _ _ ho) zk9 vvX9_285 cdX9_takesNow pnX9 dX9_weight_15 rfl (by decide) (Nat.le_of_ble_eq_true rfl) hf rfl fun σ hf => ?_
    refine z_aload_n (q := 19) (i := 0) C 0 dX9_weight_18 rfl rfl rfl ?_
    refine z_aload_n (q := 20) (i := 0) C 0 dX9_weight_19 rfl rfl rfl ?_
    refine z_iload_n (q := 21) (i := 1) C 1 dX9_weight_20 rfl rfl rfl ?_
    refine z_callVi (q := 24) (As := [.int i1]) C (fun o ho => m_X9_weightAt _ _ _ ho) zk9 vvX9_318 cdX9_weightAt pnX9 dX9_weight_21 rfl (by decide) (Nat.le_of_ble_eq_true rfl) hf rfl fun v3 σ hf => ?_
    refine z_callVi (q := 27) (As := [.int v3]) C (fun o ho => m_X9_gives _ _ _ ho) zk9 vvX9_107 cdX9_gives pnX9 dX9_weight_24 rfl (by decide) (Nat.le_of_ble_eq_true rfl) hf rfl fun v4 σ hf => ?_
    exact z_ireturn C rfl dX9_weight_27 (Option.some.inj hf)
  · refine z_aload_n (q := 9) (i := 0) C 0 dX9_weight_8 rfl rfl rfl ?_
    refine z_iconst (q := 10) C (1 : Int32) dX9_weight_9 ki_1 rfl ?_
    refine z_callVi (q := 13) (As := [.int (1 : Int32)]) C (fun o ho => m_X9_refuse _ _ _ ho) zk9 vvX9_103 cdX9_refuse pnX9 dX9_weight_10 rfl (by decide) (Nat.le_of_ble_eq_true rfl) hf rfl fun v5 σ hf => ?_
    exact z_ireturn C rfl dX9_weight_13 (Option.some.inj hf)

noncomputable def f_X9_hangsBy_J47_5 (a0_47 : Nat) (i1_47 : Int32) (i2_47 : Int32) (i4_47 : Int32) (w0_47 : Int32) (w1_47 : Int32) (σ : ZT) : Option ((Int32 × Int32 × ZT) ⊕ (Int32 × ZT)) :=
  some (.inl ((w1_47 + w0_47), (i4_47 + (1 : Int32)), σ))
noncomputable def f_X9_hangsBy_J46_5 (a0_46 : Nat) (i1_46 : Int32) (i2_46 : Int32) (i4_46 : Int32) (w0_46 : Int32) (σ : ZT) : Option ((Int32 × Int32 × ZT) ⊕ (Int32 × ZT)) :=
  f_X9_hangsBy_J47_5 a0_46 i1_46 i2_46 i4_46 (0 : Int32) w0_46 σ
noncomputable def f_X9_hangsBy_L5 (c0_5 : Nat) (c1_5 : Int32) (c2_5 : Int32) (i_1 : Int32) (i_2 : Int32) (σ : ZT) : Option ((Int32 × Int32 × ZT) ⊕ (Int32 × ZT)) :=
  if c1_5 < i_2 then
  (some (.inr (i_1, σ)))
  else
  ((gI 9 926 c0_5 σ).bind fun v5 =>
  if i_2 = v5 then
  (f_X9_hangsBy_J46_5 c0_5 c1_5 c2_5 i_2 i_1 σ)
  else
  (bnd2 (vc 9 c0_5 σ (f_X9_ofBridge c0_5 i_2 (2 : Int32) σ)) fun v6 σ =>
  bnd2 (vc 9 c0_5 σ (f_X9_ofBridge c0_5 c1_5 (2 : Int32) σ)) fun v7 σ =>
  if v6 = v7 then
  (bnd2 (vc 9 c0_5 σ (f_X9_takesOf c0_5 i_2 σ)) fun v8 σ =>
  f_X9_hangsBy_J47_5 c0_5 c1_5 c2_5 i_2 v8 i_1 σ)
  else
  (f_X9_hangsBy_J46_5 c0_5 c1_5 c2_5 i_2 i_1 σ)))
noncomputable def f_X9_hangsBy_J76 (w0_76 : Int32) (σ : ZT) : Option (Int32 × ZT) :=
  (rz w0_76).bind fun z12 =>
  some (z12, σ)
noncomputable def f_X9_hangsBy (a0 : Nat) (i1 : Int32) (i2 : Int32) (σ : ZT) : Option (Int32 × ZT) :=
  (loopC (fun s : (Int32 × Int32 × ZT) => f_X9_hangsBy_L5 a0 i1 i2 s.1 s.2.1 s.2.2) ((0 : Int32), (0 : Int32), σ)).bind fun x => (match x with
  | (x9, σ) => bnd2 (vc 9 a0 σ (f_X9_ofBridge a0 i1 (2 : Int32) σ)) fun v10 σ =>
  bnd2 (vc 9 a0 σ (f_X9_weightAt a0 v10 σ)) fun v11 σ =>
  if (v11 - i2) < x9 then
  (f_X9_hangsBy_J76 (0 : Int32) σ)
  else
  (f_X9_hangsBy_J76 (1 : Int32) σ))
set_option maxHeartbeats 4000000 in
theorem m_X9_hangsBy {l : Launch} {G : ZG} (a0 : Nat) (i1 : Int32) (i2 : Int32) (σ : ZT) {out : (Int32 × ZT)} (hf : f_X9_hangsBy a0 i1 i2 σ = some out) : ZM l G yX9_hangsBy cX9_hangsBy 5 (some .boolean) [] 4 [.ref a0, .int i1, .int i2] σ (.returned (some (.int out.1))) out.2 := by
  refine ZM.of [(0, .ref a0), (1, .int i1), (2, .int i2)] rfl (Nat.le_of_ble_eq_true rfl) fun X (C : ZC G RX9 "hangsBy" cX9_hangsBy 5 (some .boolean) [] X 4) => ?_
  unfold f_X9_hangsBy at hf
  have j76_0 : ∀ (w0_76 : Int32) (σ : ZT), f_X9_hangsBy_J76 w0_76 σ = some out → ZW l G 5 X (ZQ G X (.returned (some (.int out.1))) out.2) σ 76 [] [.int w0_76] := by
    intro w0_76 σ hf
    unfold f_X9_hangsBy_J76 at hf
    refine z_rz C hf fun hn hf => ?_
    exact z_zreturn C rfl hn dX9_hangsBy_76 (Option.some.inj hf)
  refine z_iconst (q := 1) C (0 : Int32) dX9_hangsBy_0 ki_0 rfl ?_
  refine z_istore_n (q := 2) (i := 3) (lv' := [(3, .int (0 : Int32)), (0, .ref a0), (1, .int i1), (2, .int i2)]) C dX9_hangsBy_1 rfl (by decide) rfl rfl ?_
  refine z_iconst (q := 3) C (0 : Int32) dX9_hangsBy_2 ki_0 rfl ?_
  refine z_istore (q := 5) (i := 4) (lv' := [(4, .int (0 : Int32)), (3, .int (0 : Int32)), (0, .ref a0), (1, .int i1), (2, .int i2)]) C dX9_hangsBy_3 (by decide) rfl rfl ?_
  refine z_lv [2, 3, 4, 1, 0] rfl ?_
  obtain ⟨r1, hr1, hk1⟩ := Option.bind_eq_some_iff.mp hf
  refine loopC_ind (P := fun s => ZW l G 5 X (ZQ G X (.returned (some (.int out.1))) out.2) s.2.2 5 [(0, .ref a0), (1, .int i1), (2, .int i2), (3, .int s.1), (4, .int s.2.1)] []) (fun s x1 hf hx1 => ?_) hr1
  obtain ⟨i_1, i_2, σ⟩ := s
  unfold f_X9_hangsBy_L5 at hf
  try dsimp only at hf
  try dsimp only
  have j47_1 : ∀ (i4_47 : Int32) (w0_47 : Int32) (w1_47 : Int32) (σ : ZT), f_X9_hangsBy_J47_5 a0 i1 i2 i4_47 w0_47 w1_47 σ = some x1 → ZW l G 5 X (ZQ G X (.returned (some (.int out.1))) out.2) σ 47 [(0, .ref a0), (1, .int i1), (2, .int i2), (4, .int i4_47)] [.int w0_47, .int w1_47] := by
    intro i4_47 w0_47 w1_47 σ hf
    unfold f_X9_hangsBy_J47_5 at hf
    refine z_iadd (q := 48) C dX9_hangsBy_47 rfl ?_
    refine z_istore_n (q := 49) (i := 3) (lv' := [(3, .int (w1_47 + w0_47)), (0, .ref a0), (1, .int i1), (2, .int i2), (4, .int i4_47)]) C dX9_hangsBy_48 rfl (by decide) rfl rfl ?_
    refine z_iinc (q := 52) (i := 4) (lv' := [(4, .int (i4_47 + (1 : Int32))), (3, .int (w1_47 + w0_47)), (0, .ref a0), (1, .int i1), (2, .int i2)]) C 4 (i4_47 + (1 : Int32)) dX9_hangsBy_49 rfl (kn_1 _) (by decide) rfl rfl ?_
    refine z_goto (q := 5) C dX9_hangsBy_52 (by decide) ?_
    refine z_lv [2, 3, 4, 1, 0] rfl ?_
    have hc1 := zl_c hf hx1
    exact hc1
  have j46_1 : ∀ (i4_46 : Int32) (w0_46 : Int32) (σ : ZT), f_X9_hangsBy_J46_5 a0 i1 i2 i4_46 w0_46 σ = some x1 → ZW l G 5 X (ZQ G X (.returned (some (.int out.1))) out.2) σ 46 [(0, .ref a0), (1, .int i1), (2, .int i2), (4, .int i4_46)] [.int w0_46] := by
    intro i4_46 w0_46 σ hf
    unfold f_X9_hangsBy_J46_5 at hf
    refine z_iconst (q := 47) C (0 : Int32) dX9_hangsBy_46 ki_0 rfl ?_
    exact j47_1 i4_46 (0 : Int32) w0_46 σ hf
  refine z_iload (q := 7) (i := 4) C 4 dX9_hangsBy_5 rfl rfl ?_
  refine z_iload_n (q := 8) (i := 1) C 1 dX9_hangsBy_7 rfl rfl rfl ?_
  refine z_icmpgt (q := 11) (tgt := 55) C dX9_hangsBy_8 (by decide) rfl hf (fun c8 hf => ?_) (fun c8 hf => ?_)
  · have e1 := zl_x hf hx1
    have hf := hk1
    rw [← e1] at hf
    try dsimp only at hf
    refine z_iload_n (q := 56) (i := 3) C 3 dX9_hangsBy_55 rfl rfl rfl ?_
    refine z_aload_n (q := 57) (i := 0) C 0 dX9_hangsBy_56 rfl rfl rfl ?_
    refine z_aload_n (q := 58) (i := 0) C 0 dX9_hangsBy_57 rfl rfl rfl ?_
    refine z_iload_n (q := 59) (i := 1) C 1 dX9_hangsBy_58 rfl rfl rfl ?_
    refine z_iconst (q := 60) C (2 : Int32) dX9_hangsBy_59 ki_2 rfl ?_
    refine z_callVi (q := 63) (As := [.int i1, .int (2 : Int32)]) C (fun o ho => m_X9_ofBridge _ _ _ _ ho) zk9 vvX9_282 cdX9_ofBridge pnX9 dX9_hangsBy_60 rfl (by decide) (Nat.le_of_ble_eq_true rfl) hf rfl fun v3 σ hf => ?_
    refine z_callVi (q := 66) (As := [.int v3]) C (fun o ho => m_X9_weightAt _ _ _ ho) zk9 vvX9_318 cdX9_weightAt pnX9 dX9_hangsBy_63 rfl (by decide) (Nat.le_of_ble_eq_true rfl) hf rfl fun v4 σ hf => ?_
    refine z_iload_n (q := 67) (i := 2) C 2 dX9_hangsBy_66 rfl rfl rfl ?_
    refine z_isub (q := 68) C dX9_hangsBy_67 rfl ?_
    refine z_icmpgt (q := 71) (tgt := 75) C dX9_hangsBy_68 (by decide) rfl hf (fun c68 hf => ?_) (fun c68 hf => ?_)
    · refine z_iconst (q := 76) C (0 : Int32) dX9_hangsBy_75 ki_0 rfl ?_
      refine z_lv [] rfl ?_
      exact j76_0 (0 : Int32) σ hf
    · refine z_iconst (q := 72) C (1 : Int32) dX9_hangsBy_71 ki_1 rfl ?_
      refine z_goto (q := 76) C dX9_hangsBy_72 (by decide) ?_
      refine z_lv [] rfl ?_
      exact j76_0 (1 : Int32) σ hf
  · refine z_iload_n (q := 12) (i := 3) C 3 dX9_hangsBy_11 rfl rfl rfl ?_
    refine z_iload (q := 14) (i := 4) C 4 dX9_hangsBy_12 rfl rfl ?_
    refine z_aload_n (q := 15) (i := 0) C 0 dX9_hangsBy_14 rfl rfl rfl ?_
    refine z_getI (q := 18) C flX9_53 dX9_hangsBy_15 hf rfl fun v5 hf => ?_
    refine z_icmpeq (q := 21) (tgt := 46) C dX9_hangsBy_18 (by decide) rfl hf (fun c18 hf => ?_) (fun c18 hf => ?_)
    · refine z_lv [0, 1, 2, 4] rfl ?_
      exact j46_1 i_2 i_1 σ hf
    · refine z_aload_n (q := 22) (i := 0) C 0 dX9_hangsBy_21 rfl rfl rfl ?_
      refine z_iload (q := 24) (i := 4) C 4 dX9_hangsBy_22 rfl rfl ?_
      refine z_iconst (q := 25) C (2 : Int32) dX9_hangsBy_24 ki_2 rfl ?_
      refine z_callVi (q := 28) (As := [.int i_2, .int (2 : Int32)]) C (fun o ho => m_X9_ofBridge _ _ _ _ ho) zk9 vvX9_282 cdX9_ofBridge pnX9 dX9_hangsBy_25 rfl (by decide) (Nat.le_of_ble_eq_true rfl) hf rfl fun v6 σ hf => ?_
      refine z_aload_n (q := 29) (i := 0) C 0 dX9_hangsBy_28 rfl rfl rfl ?_
      refine z_iload_n (q := 30) (i := 1) C 1 dX9_hangsBy_29 rfl rfl rfl ?_
      refine z_iconst (q := 31) C (2 : Int32) dX9_hangsBy_30 ki_2 rfl ?_
      refine z_callVi (q := 34) (As := [.int i1, .int (2 : Int32)]) C (fun o ho => m_X9_ofBridge _ _ _ _ ho) zk9 vvX9_282 cdX9_ofBridge pnX9 dX9_hangsBy_31 rfl (by decide) (Nat.le_of_ble_eq_true rfl) hf rfl fun v7 σ hf => ?_
      refine z_icmpne (q := 37) (tgt := 46) C dX9_hangsBy_34 (by decide) rfl hf (fun c34 hf => ?_) (fun c34 hf => ?_)
      · refine z_lv [0, 1, 2, 4] rfl ?_
        exact j46_1 i_2 i_1 σ hf
      · refine z_aload_n (q := 38) (i := 0) C 0 dX9_hangsBy_37 rfl rfl rfl ?_
        refine z_iload (q := 40) (i := 4) C 4 dX9_hangsBy_38 rfl rfl ?_
        refine z_callVi (q := 43) (As := [.int i_2]) C (fun o ho => m_X9_takesOf _ _ _ ho) zk9 vvX9_294 cdX9_takesOf pnX9 dX9_hangsBy_40 rfl (by decide) (Nat.le_of_ble_eq_true rfl) hf rfl fun v8 σ hf => ?_
        refine z_goto (q := 47) C dX9_hangsBy_43 (by decide) ?_
        refine z_lv [0, 1, 2, 4] rfl ?_
        exact j47_1 i_2 v8 i_1 σ hf

noncomputable def f_X9_hangs_J33 (w0_33 : Int32) (w1_33 : Nat) (σ : ZT) : Option (Int32 × ZT) :=
  bnd2 (vc 9 w1_33 σ (f_X9_gives w1_33 w0_33 σ)) fun v5 σ =>
  some (v5, σ)
noncomputable def f_X9_hangs (a0 : Nat) (i1 : Int32) (σ : ZT) : Option (Int32 × ZT) :=
  bnd2 (vc 9 a0 σ (f_X9_isBridge a0 i1 σ)) fun v1 σ =>
  if v1 = 0 then
  (bnd2 (vc 9 a0 σ (f_X9_refuse a0 (1 : Int32) σ)) fun v4 σ =>
  some (v4, σ))
  else
  ((vc 9 a0 σ (f_X9_takesNow a0 σ)).bind fun σ =>
  bnd2 (vc 9 a0 σ (f_X9_hangsBy a0 i1 (0 : Int32) σ)) fun v3 σ =>
  if v3 = 0 then
  (f_X9_hangs_J33 (0 : Int32) a0 σ)
  else
  (f_X9_hangs_J33 (1 : Int32) a0 σ))
set_option maxHeartbeats 4000000 in
theorem m_X9_hangs {l : Launch} {G : ZG} (a0 : Nat) (i1 : Int32) (σ : ZT) {out : (Int32 × ZT)} (hf : f_X9_hangs a0 i1 σ = some out) : ZM l G yX9_hangs cX9_hangs 2 (some .int) [] 5 [.ref a0, .int i1] σ (.returned (some (.int out.1))) out.2 := by
  refine ZM.of [(0, .ref a0), (1, .int i1)] rfl (Nat.le_of_ble_eq_true rfl) fun X (C : ZC G RX9 "hangs" cX9_hangs 2 (some .int) [] X 5) => ?_
  unfold f_X9_hangs at hf
  have j33_0 : ∀ (w0_33 : Int32) (w1_33 : Nat) (σ : ZT), f_X9_hangs_J33 w0_33 w1_33 σ = some out → ZW l G 2 X (ZQ G X (.returned (some (.int out.1))) out.2) σ 33 [] [.int w0_33, .ref w1_33] := by
    intro w0_33 w1_33 σ hf
    unfold f_X9_hangs_J33 at hf
    refine z_callVi (q := 36) (As := [.int w0_33]) C (fun o ho => m_X9_gives _ _ _ ho) zk9 vvX9_107 cdX9_gives pnX9 dX9_hangs_33 rfl (by decide) (Nat.le_of_ble_eq_true rfl) hf rfl fun v5 σ hf => ?_
    exact z_ireturn C rfl dX9_hangs_36 (Option.some.inj hf)
  refine z_aload_n (q := 1) (i := 0) C 0 dX9_hangs_0 rfl rfl rfl ?_
  refine z_iload_n (q := 2) (i := 1) C 1 dX9_hangs_1 rfl rfl rfl ?_
  refine z_callVi (q := 5) (As := [.int i1]) C (fun o ho => m_X9_isBridge _ _ _ ho) zk9 vvX9_291 cdX9_isBridge pnX9 dX9_hangs_2 rfl (by decide) (Nat.le_of_ble_eq_true rfl) hf rfl fun v1 σ hf => ?_
  refine z_ifne (q := 8) (tgt := 14) C dX9_hangs_5 (by decide) rfl hf (fun c5 hf => ?_) (fun c5 hf => ?_)
  · refine z_aload_n (q := 15) (i := 0) C 0 dX9_hangs_14 rfl rfl rfl ?_
    refine z_callVv (q := 18) (As := []) C (fun o ho => m_X9_takesNow _ _ ho) zk9 vvX9_285 cdX9_takesNow pnX9 dX9_hangs_15 rfl (by decide) (Nat.le_of_ble_eq_true rfl) hf rfl fun σ hf => ?_
    refine z_aload_n (q := 19) (i := 0) C 0 dX9_hangs_18 rfl rfl rfl ?_
    refine z_aload_n (q := 20) (i := 0) C 0 dX9_hangs_19 rfl rfl rfl ?_
    refine z_iload_n (q := 21) (i := 1) C 1 dX9_hangs_20 rfl rfl rfl ?_
    refine z_iconst (q := 22) C (0 : Int32) dX9_hangs_21 ki_0 rfl ?_
    refine z_callVi (q := 25) (As := [.int i1, .int (0 : Int32)]) C (fun o ho => m_X9_hangsBy _ _ _ _ ho) zk9 vvX9_324 cdX9_hangsBy pnX9 dX9_hangs_22 rfl (by decide) (Nat.le_of_ble_eq_true rfl) hf rfl fun v3 σ hf => ?_
    refine z_ifeq (q := 28) (tgt := 32) C dX9_hangs_25 (by decide) rfl hf (fun c25 hf => ?_) (fun c25 hf => ?_)
    · refine z_iconst (q := 33) C (0 : Int32) dX9_hangs_32 ki_0 rfl ?_
      refine z_lv [] rfl ?_
      exact j33_0 (0 : Int32) a0 σ hf
    · refine z_iconst (q := 29) C (1 : Int32) dX9_hangs_28 ki_1 rfl ?_
      refine z_goto (q := 33) C dX9_hangs_29 (by decide) ?_
      refine z_lv [] rfl ?_
      exact j33_0 (1 : Int32) a0 σ hf
  · refine z_aload_n (q := 9) (i := 0) C 0 dX9_hangs_8 rfl rfl rfl ?_
    refine z_iconst (q := 10) C (1 : Int32) dX9_hangs_9 ki_1 rfl ?_
    refine z_callVi (q := 13) (As := [.int (1 : Int32)]) C (fun o ho => m_X9_refuse _ _ _ ho) zk9 vvX9_103 cdX9_refuse pnX9 dX9_hangs_10 rfl (by decide) (Nat.le_of_ble_eq_true rfl) hf rfl fun v4 σ hf => ?_
    exact z_ireturn C rfl dX9_hangs_13 (Option.some.inj hf)

noncomputable def f_X9_put_J16 (a0_16 : Nat) (σ : ZT) : Option (Int32 × ZT) :=
  bnd2 (vc 9 a0_16 σ (f_X9_is a0_16 (1 : Int32) σ)) fun v6 σ =>
  (rz v6).bind fun z7 =>
  some (z7, σ)
noncomputable def f_X9_put (a0 : Nat) (i1 : Int32) (i2 : Int32) (σ : ZT) : Option (Int32 × ZT) :=
  bnd2 (vc 9 a0 σ (f_X9_isPerson a0 i1 σ)) fun v1 σ =>
  if v1 = 0 then
  (f_X9_put_J16 a0 σ)
  else
  (bnd2 (vc 9 a0 σ (f_X9_isPlace a0 i2 σ)) fun v2 σ =>
  if v2 = 0 then
  (f_X9_put_J16 a0 σ)
  else
  ((gR 9 900 a0 σ).bind fun v3 =>
  (stI v3 ((110 : Int32) + i1) i2 σ).bind fun σ =>
  bnd2 (vc 9 a0 σ (f_X9_is a0 (0 : Int32) σ)) fun v4 σ =>
  (rz v4).bind fun z5 =>
  some (z5, σ)))
set_option maxHeartbeats 4000000 in
theorem m_X9_put {l : Launch} {G : ZG} (a0 : Nat) (i1 : Int32) (i2 : Int32) (σ : ZT) {out : (Int32 × ZT)} (hf : f_X9_put a0 i1 i2 σ = some out) : ZM l G yX9_put cX9_put 3 (some .boolean) [] 2 [.ref a0, .int i1, .int i2] σ (.returned (some (.int out.1))) out.2 := by
  refine ZM.of [(0, .ref a0), (1, .int i1), (2, .int i2)] rfl (Nat.le_of_ble_eq_true rfl) fun X (C : ZC G RX9 "put" cX9_put 3 (some .boolean) [] X 2) => ?_
  unfold f_X9_put at hf
  have j16_0 : ∀ (a0_16 : Nat) (σ : ZT), f_X9_put_J16 a0_16 σ = some out → ZW l G 3 X (ZQ G X (.returned (some (.int out.1))) out.2) σ 16 [(0, .ref a0_16)] [] := by
    intro a0_16 σ hf
    unfold f_X9_put_J16 at hf
    refine z_aload_n (q := 17) (i := 0) C 0 dX9_put_16 rfl rfl rfl ?_
    refine z_iconst (q := 18) C (1 : Int32) dX9_put_17 ki_1 rfl ?_
    refine z_callVi (q := 21) (As := [.int (1 : Int32)]) C (fun o ho => m_X9_is _ _ _ ho) zk9 vvX9_110 cdX9_is pnX9 dX9_put_18 rfl (by decide) (Nat.le_of_ble_eq_true rfl) hf rfl fun v6 σ hf => ?_
    refine z_rz C hf fun hn hf => ?_
    exact z_zreturn C rfl hn dX9_put_21 (Option.some.inj hf)
  refine z_aload_n (q := 1) (i := 0) C 0 dX9_put_0 rfl rfl rfl ?_
  refine z_iload_n (q := 2) (i := 1) C 1 dX9_put_1 rfl rfl rfl ?_
  refine z_callVi (q := 5) (As := [.int i1]) C (fun o ho => m_X9_isPerson _ _ _ ho) zk9 vvX9_297 cdX9_isPerson pnX9 dX9_put_2 rfl (by decide) (Nat.le_of_ble_eq_true rfl) hf rfl fun v1 σ hf => ?_
  refine z_ifeq (q := 8) (tgt := 16) C dX9_put_5 (by decide) rfl hf (fun c5 hf => ?_) (fun c5 hf => ?_)
  · refine z_lv [0] rfl ?_
    exact j16_0 a0 σ hf
  · refine z_aload_n (q := 9) (i := 0) C 0 dX9_put_8 rfl rfl rfl ?_
    refine z_iload_n (q := 10) (i := 2) C 2 dX9_put_9 rfl rfl rfl ?_
    refine z_callVi (q := 13) (As := [.int i2]) C (fun o ho => m_X9_isPlace _ _ _ ho) zk9 vvX9_303 cdX9_isPlace pnX9 dX9_put_10 rfl (by decide) (Nat.le_of_ble_eq_true rfl) hf rfl fun v2 σ hf => ?_
    refine z_ifne (q := 16) (tgt := 22) C dX9_put_13 (by decide) rfl hf (fun c13 hf => ?_) (fun c13 hf => ?_)
    · refine z_aload_n (q := 23) (i := 0) C 0 dX9_put_22 rfl rfl rfl ?_
      refine z_getR (q := 26) C flX9_7 dX9_put_23 hf rfl fun v3 hf => ?_
      refine z_bipush (q := 28) C (110 : Int32) dX9_put_26 kb_110 rfl ?_
      refine z_iload_n (q := 29) (i := 1) C 1 dX9_put_28 rfl rfl rfl ?_
      refine z_iadd (q := 30) C dX9_put_29 rfl ?_
      refine z_iload_n (q := 31) (i := 2) C 2 dX9_put_30 rfl rfl rfl ?_
      refine z_iast (q := 32) C dX9_put_31 hf rfl fun σ hf => ?_
      refine z_aload_n (q := 33) (i := 0) C 0 dX9_put_32 rfl rfl rfl ?_
      refine z_iconst (q := 34) C (0 : Int32) dX9_put_33 ki_0 rfl ?_
      refine z_callVi (q := 37) (As := [.int (0 : Int32)]) C (fun o ho => m_X9_is _ _ _ ho) zk9 vvX9_110 cdX9_is pnX9 dX9_put_34 rfl (by decide) (Nat.le_of_ble_eq_true rfl) hf rfl fun v4 σ hf => ?_
      refine z_rz C hf fun hn hf => ?_
      exact z_zreturn C rfl hn dX9_put_37 (Option.some.inj hf)
    · refine z_lv [0] rfl ?_
      exact j16_0 a0 σ hf

noncomputable def f_X9_begin (a0 : Nat) (σ : ZT) : Option (Int32 × ZT) :=
  (vc 9 a0 σ (f_X9_startsOver a0 σ)).bind fun σ =>
  bnd2 (vc 9 a0 σ (f_X9_is a0 (0 : Int32) σ)) fun v2 σ =>
  (rz v2).bind fun z3 =>
  some (z3, σ)
set_option maxHeartbeats 4000000 in
theorem m_X9_begin {l : Launch} {G : ZG} (a0 : Nat) (σ : ZT) {out : (Int32 × ZT)} (hf : f_X9_begin a0 σ = some out) : ZM l G yX9_begin cX9_begin 1 (some .boolean) [] 3 [.ref a0] σ (.returned (some (.int out.1))) out.2 := by
  refine ZM.of [(0, .ref a0)] rfl (Nat.le_of_ble_eq_true rfl) fun X (C : ZC G RX9 "begin" cX9_begin 1 (some .boolean) [] X 3) => ?_
  unfold f_X9_begin at hf
  refine z_aload_n (q := 1) (i := 0) C 0 dX9_begin_0 rfl rfl rfl ?_
  refine z_callVv (q := 4) (As := []) C (fun o ho => m_X9_startsOver _ _ ho) zk9 vvX9_252 cdX9_startsOver pnX9 dX9_begin_1 rfl (by decide) (Nat.le_of_ble_eq_true rfl) hf rfl fun σ hf => ?_
  refine z_aload_n (q := 5) (i := 0) C 0 dX9_begin_4 rfl rfl rfl ?_
  refine z_iconst (q := 6) C (0 : Int32) dX9_begin_5 ki_0 rfl ?_
  refine z_callVi (q := 9) (As := [.int (0 : Int32)]) C (fun o ho => m_X9_is _ _ _ ho) zk9 vvX9_110 cdX9_is pnX9 dX9_begin_6 rfl (by decide) (Nat.le_of_ble_eq_true rfl) hf rfl fun v2 σ hf => ?_
  refine z_rz C hf fun hn hf => ?_
  exact z_zreturn C rfl hn dX9_begin_9 (Option.some.inj hf)

noncomputable def f_X9_whyNot_J46  (σ : ZT) : Option (Int32 × ZT) :=
  some ((1 : Int32), σ)
noncomputable def f_X9_whyNot_J140 (w0_140 : Int32) (σ : ZT) : Option (Int32 × ZT) :=
  some (w0_140, σ)
noncomputable def f_X9_whyNot_J135  (σ : ZT) : Option (Int32 × ZT) :=
  f_X9_whyNot_J140 (4 : Int32) σ
noncomputable def f_X9_whyNot_J139  (σ : ZT) : Option (Int32 × ZT) :=
  f_X9_whyNot_J140 (0 : Int32) σ
noncomputable def f_X9_whyNot_J89 (a0_89 : Nat) (i1_89 : Int32) (i2_89 : Int32) (i3_89 : Int32) (i5_89 : Int32) (w0_89 : Int32) (w1_89 : Int32) (w2_89 : Nat) (σ : ZT) : Option (Int32 × ZT) :=
  bnd2 (vc 9 w2_89 σ (f_X9_hangsBy w2_89 w1_89 w0_89 σ)) fun v10 σ =>
  if v10 = 0 then
  (some ((2 : Int32), σ))
  else
  (bnd2 (vc 9 a0_89 σ (f_X9_ofBridge a0_89 i3_89 (5 : Int32) σ)) fun v11 σ =>
  if v11 < i5_89 then
  (some ((3 : Int32), σ))
  else
  (bnd2 (vc 9 a0_89 σ (f_X9_ofPerson a0_89 i1_89 (4 : Int32) σ)) fun v12 σ =>
  if v12 = (1 : Int32) then
  (if i2_89 = (-1 : Int32) then
  (f_X9_whyNot_J135  σ)
  else
  (bnd2 (vc 9 a0_89 σ (f_X9_ofPerson a0_89 i2_89 (4 : Int32) σ)) fun v13 σ =>
  if v13 = (1 : Int32) then
  (f_X9_whyNot_J135  σ)
  else
  (f_X9_whyNot_J139  σ)))
  else
  (f_X9_whyNot_J139  σ)))
noncomputable def f_X9_whyNot_J67 (a0_67 : Nat) (i1_67 : Int32) (i2_67 : Int32) (i3_67 : Int32) (i4_67 : Int32) (w0_67 : Int32) (w1_67 : Int32) (σ : ZT) : Option (Int32 × ZT) :=
  bnd2 (vc 9 a0_67 σ (f_X9_ofBridge a0_67 i3_67 (2 : Int32) σ)) fun v9 σ =>
  if i4_67 = v9 then
  (f_X9_whyNot_J89 a0_67 i1_67 i2_67 i3_67 (w1_67 + w0_67) (w1_67 + w0_67) i3_67 a0_67 σ)
  else
  (f_X9_whyNot_J89 a0_67 i1_67 i2_67 i3_67 (w1_67 + w0_67) (0 : Int32) i3_67 a0_67 σ)
noncomputable def f_X9_whyNot_J48 (a0_48 : Nat) (i1_48 : Int32) (i2_48 : Int32) (i3_48 : Int32) (i4_48 : Int32) (σ : ZT) : Option (Int32 × ZT) :=
  bnd2 (vc 9 a0_48 σ (f_X9_burden a0_48 i1_48 σ)) fun v7 σ =>
  if i2_48 = (-1 : Int32) then
  (f_X9_whyNot_J67 a0_48 i1_48 i2_48 i3_48 i4_48 (0 : Int32) v7 σ)
  else
  (bnd2 (vc 9 a0_48 σ (f_X9_burden a0_48 i2_48 σ)) fun v8 σ =>
  f_X9_whyNot_J67 a0_48 i1_48 i2_48 i3_48 i4_48 v8 v7 σ)
noncomputable def f_X9_whyNot_J30 (a0_30 : Nat) (i1_30 : Int32) (i2_30 : Int32) (i3_30 : Int32) (i4_30 : Int32) (σ : ZT) : Option (Int32 × ZT) :=
  if i2_30 = (-1 : Int32) then
  (f_X9_whyNot_J48 a0_30 i1_30 i2_30 i3_30 i4_30 σ)
  else
  ((gR 9 924 a0_30 σ).bind fun v5 =>
  (ldI 0 v5 i2_30 σ).bind fun v6 =>
  if v6 = i4_30 then
  (f_X9_whyNot_J48 a0_30 i1_30 i2_30 i3_30 i4_30 σ)
  else
  (f_X9_whyNot_J46  σ))
noncomputable def f_X9_whyNot (a0 : Nat) (i1 : Int32) (i2 : Int32) (i3 : Int32) (σ : ZT) : Option (Int32 × ZT) :=
  (gR 9 924 a0 σ).bind fun v1 =>
  (ldI 0 v1 i1 σ).bind fun v2 =>
  bnd2 (vc 9 a0 σ (f_X9_ofBridge a0 i3 (0 : Int32) σ)) fun v3 σ =>
  if v2 = v3 then
  (f_X9_whyNot_J30 a0 i1 i2 i3 v2 σ)
  else
  (bnd2 (vc 9 a0 σ (f_X9_ofBridge a0 i3 (1 : Int32) σ)) fun v4 σ =>
  if v2 = v4 then
  (f_X9_whyNot_J30 a0 i1 i2 i3 v2 σ)
  else
  (f_X9_whyNot_J46  σ))
set_option maxHeartbeats 4000000 in
theorem m_X9_whyNot {l : Launch} {G : ZG} (a0 : Nat) (i1 : Int32) (i2 : Int32) (i3 : Int32) (σ : ZT) {out : (Int32 × ZT)} (hf : f_X9_whyNot a0 i1 i2 i3 σ = some out) : ZM l G yX9_whyNot cX9_whyNot 6 (some .int) [] 5 [.ref a0, .int i1, .int i2, .int i3] σ (.returned (some (.int out.1))) out.2 := by
  refine ZM.of [(0, .ref a0), (1, .int i1), (2, .int i2), (3, .int i3)] rfl (Nat.le_of_ble_eq_true rfl) fun X (C : ZC G RX9 "whyNot" cX9_whyNot 6 (some .int) [] X 5) => ?_
  unfold f_X9_whyNot at hf
  have j140_0 : ∀ (w0_140 : Int32) (σ : ZT), f_X9_whyNot_J140 w0_140 σ = some out → ZW l G 6 X (ZQ G X (.returned (some (.int out.1))) out.2) σ 140 [] [.int w0_140] := by
    intro w0_140 σ hf
    unfold f_X9_whyNot_J140 at hf
    exact z_ireturn C rfl dX9_whyNot_140 (Option.some.inj hf)
  have j139_0 : ∀  (σ : ZT), f_X9_whyNot_J139  σ = some out → ZW l G 6 X (ZQ G X (.returned (some (.int out.1))) out.2) σ 139 [] [] := by
    intro  σ hf
    unfold f_X9_whyNot_J139 at hf
    refine z_iconst (q := 140) C (0 : Int32) dX9_whyNot_139 ki_0 rfl ?_
    exact j140_0 (0 : Int32) σ hf
  have j135_0 : ∀  (σ : ZT), f_X9_whyNot_J135  σ = some out → ZW l G 6 X (ZQ G X (.returned (some (.int out.1))) out.2) σ 135 [] [] := by
    intro  σ hf
    unfold f_X9_whyNot_J135 at hf
    refine z_iconst (q := 136) C (4 : Int32) dX9_whyNot_135 ki_4 rfl ?_
    refine z_goto (q := 140) C dX9_whyNot_136 (by decide) ?_
    exact j140_0 (4 : Int32) σ hf
  have j89_0 : ∀ (a0_89 : Nat) (i1_89 : Int32) (i2_89 : Int32) (i3_89 : Int32) (i5_89 : Int32) (w0_89 : Int32) (w1_89 : Int32) (w2_89 : Nat) (σ : ZT), f_X9_whyNot_J89 a0_89 i1_89 i2_89 i3_89 i5_89 w0_89 w1_89 w2_89 σ = some out → ZW l G 6 X (ZQ G X (.returned (some (.int out.1))) out.2) σ 89 [(0, .ref a0_89), (1, .int i1_89), (2, .int i2_89), (3, .int i3_89), (5, .int i5_89)] [.int w0_89, .int w1_89, .ref w2_89] := by
    intro a0_89 i1_89 i2_89 i3_89 i5_89 w0_89 w1_89 w2_89 σ hf
    unfold f_X9_whyNot_J89 at hf
    refine z_callVi (q := 92) (As := [.int w1_89, .int w0_89]) C (fun o ho => m_X9_hangsBy _ _ _ _ ho) zk9 vvX9_324 cdX9_hangsBy pnX9 dX9_whyNot_89 rfl (by decide) (Nat.le_of_ble_eq_true rfl) hf rfl fun v10 σ hf => ?_
    refine z_ifne (q := 95) (tgt := 97) C dX9_whyNot_92 (by decide) rfl hf (fun c92 hf => ?_) (fun c92 hf => ?_)
    · refine z_iload (q := 99) (i := 5) C 4 dX9_whyNot_97 rfl rfl ?_
      refine z_aload_n (q := 100) (i := 0) C 0 dX9_whyNot_99 rfl rfl rfl ?_
      refine z_iload_n (q := 101) (i := 3) C 3 dX9_whyNot_100 rfl rfl rfl ?_
      refine z_iconst (q := 102) C (5 : Int32) dX9_whyNot_101 ki_5 rfl ?_
      refine z_callVi (q := 105) (As := [.int i3_89, .int (5 : Int32)]) C (fun o ho => m_X9_ofBridge _ _ _ _ ho) zk9 vvX9_282 cdX9_ofBridge pnX9 dX9_whyNot_102 rfl (by decide) (Nat.le_of_ble_eq_true rfl) hf rfl fun v11 σ hf => ?_
      refine z_icmple (q := 108) (tgt := 110) C dX9_whyNot_105 (by decide) rfl hf (fun c105 hf => ?_) (fun c105 hf => ?_)
      · refine z_aload_n (q := 111) (i := 0) C 0 dX9_whyNot_110 rfl rfl rfl ?_
        refine z_iload_n (q := 112) (i := 1) C 1 dX9_whyNot_111 rfl rfl rfl ?_
        refine z_iconst (q := 113) C (4 : Int32) dX9_whyNot_112 ki_4 rfl ?_
        refine z_callVi (q := 116) (As := [.int i1_89, .int (4 : Int32)]) C (fun o ho => m_X9_ofPerson _ _ _ _ ho) zk9 vvX9_258 cdX9_ofPerson pnX9 dX9_whyNot_113 rfl (by decide) (Nat.le_of_ble_eq_true rfl) hf rfl fun v12 σ hf => ?_
        refine z_iconst (q := 117) C (1 : Int32) dX9_whyNot_116 ki_1 rfl ?_
        refine z_icmpne (q := 120) (tgt := 139) C dX9_whyNot_117 (by decide) rfl hf (fun c117 hf => ?_) (fun c117 hf => ?_)
        · refine z_lv [] rfl ?_
          exact j139_0  σ hf
        · refine z_iload_n (q := 121) (i := 2) C 2 dX9_whyNot_120 rfl rfl rfl ?_
          refine z_iconst (q := 122) C (-1 : Int32) dX9_whyNot_121 ki_m1 rfl ?_
          refine z_icmpeq (q := 125) (tgt := 135) C dX9_whyNot_122 (by decide) rfl hf (fun c122 hf => ?_) (fun c122 hf => ?_)
          · refine z_lv [] rfl ?_
            exact j135_0  σ hf
          · refine z_aload_n (q := 126) (i := 0) C 0 dX9_whyNot_125 rfl rfl rfl ?_
            refine z_iload_n (q := 127) (i := 2) C 2 dX9_whyNot_126 rfl rfl rfl ?_
            refine z_iconst (q := 128) C (4 : Int32) dX9_whyNot_127 ki_4 rfl ?_
            refine z_callVi (q := 131) (As := [.int i2_89, .int (4 : Int32)]) C (fun o ho => m_X9_ofPerson _ _ _ _ ho) zk9 vvX9_258 cdX9_ofPerson pnX9 dX9_whyNot_128 rfl (by decide) (Nat.le_of_ble_eq_true rfl) hf rfl fun v13 σ hf => ?_
            refine z_iconst (q := 132) C (1 : Int32) dX9_whyNot_131 ki_1 rfl ?_
            refine z_icmpne (q := 135) (tgt := 139) C dX9_whyNot_132 (by decide) rfl hf (fun c132 hf => ?_) (fun c132 hf => ?_)
            · refine z_lv [] rfl ?_
              exact j139_0  σ hf
            · refine z_lv [] rfl ?_
              exact j135_0  σ hf
      · refine z_iconst (q := 109) C (3 : Int32) dX9_whyNot_108 ki_3 rfl ?_
        exact z_ireturn C rfl dX9_whyNot_109 (Option.some.inj hf)
    · refine z_iconst (q := 96) C (2 : Int32) dX9_whyNot_95 ki_2 rfl ?_
      exact z_ireturn C rfl dX9_whyNot_96 (Option.some.inj hf)
  have j67_0 : ∀ (a0_67 : Nat) (i1_67 : Int32) (i2_67 : Int32) (i3_67 : Int32) (i4_67 : Int32) (w0_67 : Int32) (w1_67 : Int32) (σ : ZT), f_X9_whyNot_J67 a0_67 i1_67 i2_67 i3_67 i4_67 w0_67 w1_67 σ = some out → ZW l G 6 X (ZQ G X (.returned (some (.int out.1))) out.2) σ 67 [(0, .ref a0_67), (1, .int i1_67), (2, .int i2_67), (3, .int i3_67), (4, .int i4_67)] [.int w0_67, .int w1_67] := by
    intro a0_67 i1_67 i2_67 i3_67 i4_67 w0_67 w1_67 σ hf
    unfold f_X9_whyNot_J67 at hf
    refine z_iadd (q := 68) C dX9_whyNot_67 rfl ?_
    refine z_istore (q := 70) (i := 5) (lv' := [(5, .int (w1_67 + w0_67)), (0, .ref a0_67), (1, .int i1_67), (2, .int i2_67), (3, .int i3_67), (4, .int i4_67)]) C dX9_whyNot_68 (by decide) rfl rfl ?_
    refine z_aload_n (q := 71) (i := 0) C 1 dX9_whyNot_70 rfl rfl rfl ?_
    refine z_iload_n (q := 72) (i := 3) C 4 dX9_whyNot_71 rfl rfl rfl ?_
    refine z_iload (q := 74) (i := 4) C 5 dX9_whyNot_72 rfl rfl ?_
    refine z_aload_n (q := 75) (i := 0) C 1 dX9_whyNot_74 rfl rfl rfl ?_
    refine z_iload_n (q := 76) (i := 3) C 4 dX9_whyNot_75 rfl rfl rfl ?_
    refine z_iconst (q := 77) C (2 : Int32) dX9_whyNot_76 ki_2 rfl ?_
    refine z_callVi (q := 80) (As := [.int i3_67, .int (2 : Int32)]) C (fun o ho => m_X9_ofBridge _ _ _ _ ho) zk9 vvX9_282 cdX9_ofBridge pnX9 dX9_whyNot_77 rfl (by decide) (Nat.le_of_ble_eq_true rfl) hf rfl fun v9 σ hf => ?_
    refine z_icmpne (q := 83) (tgt := 88) C dX9_whyNot_80 (by decide) rfl hf (fun c80 hf => ?_) (fun c80 hf => ?_)
    · refine z_iconst (q := 89) C (0 : Int32) dX9_whyNot_88 ki_0 rfl ?_
      refine z_lv [1, 2, 3, 4, 0] rfl ?_
      exact j89_0 a0_67 i1_67 i2_67 i3_67 (w1_67 + w0_67) (0 : Int32) i3_67 a0_67 σ hf
    · refine z_iload (q := 85) (i := 5) C 0 dX9_whyNot_83 rfl rfl ?_
      refine z_goto (q := 89) C dX9_whyNot_85 (by decide) ?_
      refine z_lv [1, 2, 3, 4, 0] rfl ?_
      exact j89_0 a0_67 i1_67 i2_67 i3_67 (w1_67 + w0_67) (w1_67 + w0_67) i3_67 a0_67 σ hf
  have j48_0 : ∀ (a0_48 : Nat) (i1_48 : Int32) (i2_48 : Int32) (i3_48 : Int32) (i4_48 : Int32) (σ : ZT), f_X9_whyNot_J48 a0_48 i1_48 i2_48 i3_48 i4_48 σ = some out → ZW l G 6 X (ZQ G X (.returned (some (.int out.1))) out.2) σ 48 [(0, .ref a0_48), (1, .int i1_48), (2, .int i2_48), (3, .int i3_48), (4, .int i4_48)] [] := by
    intro a0_48 i1_48 i2_48 i3_48 i4_48 σ hf
    unfold f_X9_whyNot_J48 at hf
    refine z_aload_n (q := 49) (i := 0) C 0 dX9_whyNot_48 rfl rfl rfl ?_
    refine z_iload_n (q := 50) (i := 1) C 1 dX9_whyNot_49 rfl rfl rfl ?_
    refine z_callVi (q := 53) (As := [.int i1_48]) C (fun o ho => m_X9_burden _ _ _ ho) zk9 vvX9_315 cdX9_burden pnX9 dX9_whyNot_50 rfl (by decide) (Nat.le_of_ble_eq_true rfl) hf rfl fun v7 σ hf => ?_
    refine z_iload_n (q := 54) (i := 2) C 2 dX9_whyNot_53 rfl rfl rfl ?_
    refine z_iconst (q := 55) C (-1 : Int32) dX9_whyNot_54 ki_m1 rfl ?_
    refine z_icmpne (q := 58) (tgt := 62) C dX9_whyNot_55 (by decide) rfl hf (fun c55 hf => ?_) (fun c55 hf => ?_)
    · refine z_aload_n (q := 63) (i := 0) C 0 dX9_whyNot_62 rfl rfl rfl ?_
      refine z_iload_n (q := 64) (i := 2) C 2 dX9_whyNot_63 rfl rfl rfl ?_
      refine z_callVi (q := 67) (As := [.int i2_48]) C (fun o ho => m_X9_burden _ _ _ ho) zk9 vvX9_315 cdX9_burden pnX9 dX9_whyNot_64 rfl (by decide) (Nat.le_of_ble_eq_true rfl) hf rfl fun v8 σ hf => ?_
      exact j67_0 a0_48 i1_48 i2_48 i3_48 i4_48 v8 v7 σ hf
    · refine z_iconst (q := 59) C (0 : Int32) dX9_whyNot_58 ki_0 rfl ?_
      refine z_goto (q := 67) C dX9_whyNot_59 (by decide) ?_
      exact j67_0 a0_48 i1_48 i2_48 i3_48 i4_48 (0 : Int32) v7 σ hf
  have j46_0 : ∀  (σ : ZT), f_X9_whyNot_J46  σ = some out → ZW l G 6 X (ZQ G X (.returned (some (.int out.1))) out.2) σ 46 [] [] := by
    intro  σ hf
    unfold f_X9_whyNot_J46 at hf
    refine z_iconst (q := 47) C (1 : Int32) dX9_whyNot_46 ki_1 rfl ?_
    exact z_ireturn C rfl dX9_whyNot_47 (Option.some.inj hf)
  have j30_0 : ∀ (a0_30 : Nat) (i1_30 : Int32) (i2_30 : Int32) (i3_30 : Int32) (i4_30 : Int32) (σ : ZT), f_X9_whyNot_J30 a0_30 i1_30 i2_30 i3_30 i4_30 σ = some out → ZW l G 6 X (ZQ G X (.returned (some (.int out.1))) out.2) σ 30 [(0, .ref a0_30), (1, .int i1_30), (2, .int i2_30), (3, .int i3_30), (4, .int i4_30)] [] := by
    intro a0_30 i1_30 i2_30 i3_30 i4_30 σ hf
    unfold f_X9_whyNot_J30 at hf
    refine z_iload_n (q := 31) (i := 2) C 2 dX9_whyNot_30 rfl rfl rfl ?_
    refine z_iconst (q := 32) C (-1 : Int32) dX9_whyNot_31 ki_m1 rfl ?_
    refine z_icmpeq (q := 35) (tgt := 48) C dX9_whyNot_32 (by decide) rfl hf (fun c32 hf => ?_) (fun c32 hf => ?_)
    · exact j48_0 a0_30 i1_30 i2_30 i3_30 i4_30 σ hf
    · refine z_aload_n (q := 36) (i := 0) C 0 dX9_whyNot_35 rfl rfl rfl ?_
      refine z_getR (q := 39) C flX9_47 dX9_whyNot_36 hf rfl fun v5 hf => ?_
      refine z_iload_n (q := 40) (i := 2) C 2 dX9_whyNot_39 rfl rfl rfl ?_
      refine z_iald (q := 41) C dX9_whyNot_40 hf rfl fun v6 hf => ?_
      refine z_iload (q := 43) (i := 4) C 4 dX9_whyNot_41 rfl rfl ?_
      refine z_icmpeq (q := 46) (tgt := 48) C dX9_whyNot_43 (by decide) rfl hf (fun c43 hf => ?_) (fun c43 hf => ?_)
      · exact j48_0 a0_30 i1_30 i2_30 i3_30 i4_30 σ hf
      · refine z_lv [] rfl ?_
        exact j46_0  σ hf
  refine z_aload_n (q := 1) (i := 0) C 0 dX9_whyNot_0 rfl rfl rfl ?_
  refine z_getR (q := 4) C flX9_47 dX9_whyNot_1 hf rfl fun v1 hf => ?_
  refine z_iload_n (q := 5) (i := 1) C 1 dX9_whyNot_4 rfl rfl rfl ?_
  refine z_iald (q := 6) C dX9_whyNot_5 hf rfl fun v2 hf => ?_
  refine z_istore (q := 8) (i := 4) (lv' := [(4, .int v2), (0, .ref a0), (1, .int i1), (2, .int i2), (3, .int i3)]) C dX9_whyNot_6 (by decide) rfl rfl ?_
  refine z_iload (q := 10) (i := 4) C 0 dX9_whyNot_8 rfl rfl ?_
  refine z_aload_n (q := 11) (i := 0) C 1 dX9_whyNot_10 rfl rfl rfl ?_
  refine z_iload_n (q := 12) (i := 3) C 4 dX9_whyNot_11 rfl rfl rfl ?_
  refine z_iconst (q := 13) C (0 : Int32) dX9_whyNot_12 ki_0 rfl ?_
  refine z_callVi (q := 16) (As := [.int i3, .int (0 : Int32)]) C (fun o ho => m_X9_ofBridge _ _ _ _ ho) zk9 vvX9_282 cdX9_ofBridge pnX9 dX9_whyNot_13 rfl (by decide) (Nat.le_of_ble_eq_true rfl) hf rfl fun v3 σ hf => ?_
  refine z_icmpeq (q := 19) (tgt := 30) C dX9_whyNot_16 (by decide) rfl hf (fun c16 hf => ?_) (fun c16 hf => ?_)
  · refine z_lv [1, 2, 3, 4, 0] rfl ?_
    exact j30_0 a0 i1 i2 i3 v2 σ hf
  · refine z_iload (q := 21) (i := 4) C 0 dX9_whyNot_19 rfl rfl ?_
    refine z_aload_n (q := 22) (i := 0) C 1 dX9_whyNot_21 rfl rfl rfl ?_
    refine z_iload_n (q := 23) (i := 3) C 4 dX9_whyNot_22 rfl rfl rfl ?_
    refine z_iconst (q := 24) C (1 : Int32) dX9_whyNot_23 ki_1 rfl ?_
    refine z_callVi (q := 27) (As := [.int i3, .int (1 : Int32)]) C (fun o ho => m_X9_ofBridge _ _ _ _ ho) zk9 vvX9_282 cdX9_ofBridge pnX9 dX9_whyNot_24 rfl (by decide) (Nat.le_of_ble_eq_true rfl) hf rfl fun v4 σ hf => ?_
    refine z_icmpne (q := 30) (tgt := 46) C dX9_whyNot_27 (by decide) rfl hf (fun c27 hf => ?_) (fun c27 hf => ?_)
    · refine z_lv [] rfl ?_
      exact j46_0  σ hf
    · refine z_lv [1, 2, 3, 4, 0] rfl ?_
      exact j30_0 a0 i1 i2 i3 v2 σ hf

noncomputable def f_X9_crosses_J35 (w0_35 : Int32) (w1_35 : Int32) (w2_35 : Nat) (σ : ZT) : Option ZT :=
  (stI w2_35 w1_35 w0_35 σ).bind fun σ =>
  some σ
noncomputable def f_X9_crosses (a0 : Nat) (i1 : Int32) (i2 : Int32) (σ : ZT) : Option ZT :=
  (gR 9 924 a0 σ).bind fun v1 =>
  (gR 9 924 a0 σ).bind fun v2 =>
  (ldI 0 v2 i1 σ).bind fun v3 =>
  bnd2 (vc 9 a0 σ (f_X9_ofBridge a0 i2 (0 : Int32) σ)) fun v4 σ =>
  if v3 = v4 then
  (bnd2 (vc 9 a0 σ (f_X9_ofBridge a0 i2 (1 : Int32) σ)) fun v6 σ =>
  f_X9_crosses_J35 v6 i1 v1 σ)
  else
  (bnd2 (vc 9 a0 σ (f_X9_ofBridge a0 i2 (0 : Int32) σ)) fun v5 σ =>
  f_X9_crosses_J35 v5 i1 v1 σ)
set_option maxHeartbeats 4000000 in
theorem m_X9_crosses {l : Launch} {G : ZG} (a0 : Nat) (i1 : Int32) (i2 : Int32) (σ : ZT) {out : ZT} (hf : f_X9_crosses a0 i1 i2 σ = some out) : ZM l G yX9_crosses cX9_crosses 3 none [] 2 [.ref a0, .int i1, .int i2] σ (.returned none) out := by
  refine ZM.of [(0, .ref a0), (1, .int i1), (2, .int i2)] rfl (Nat.le_of_ble_eq_true rfl) fun X (C : ZC G RX9 "crosses" cX9_crosses 3 none [] X 2) => ?_
  unfold f_X9_crosses at hf
  have j35_0 : ∀ (w0_35 : Int32) (w1_35 : Int32) (w2_35 : Nat) (σ : ZT), f_X9_crosses_J35 w0_35 w1_35 w2_35 σ = some out → ZW l G 3 X (ZQ G X (.returned none) out) σ 35 [] [.int w0_35, .int w1_35, .ref w2_35] := by
    intro w0_35 w1_35 w2_35 σ hf
    unfold f_X9_crosses_J35 at hf
    refine z_iast (q := 36) C dX9_crosses_35 hf rfl fun σ hf => ?_
    exact z_return C rfl dX9_crosses_36 (Option.some.inj hf)
  refine z_aload_n (q := 1) (i := 0) C 0 dX9_crosses_0 rfl rfl rfl ?_
  refine z_getR (q := 4) C flX9_47 dX9_crosses_1 hf rfl fun v1 hf => ?_
  refine z_iload_n (q := 5) (i := 1) C 1 dX9_crosses_4 rfl rfl rfl ?_
  refine z_aload_n (q := 6) (i := 0) C 0 dX9_crosses_5 rfl rfl rfl ?_
  refine z_getR (q := 9) C flX9_47 dX9_crosses_6 hf rfl fun v2 hf => ?_
  refine z_iload_n (q := 10) (i := 1) C 1 dX9_crosses_9 rfl rfl rfl ?_
  refine z_iald (q := 11) C dX9_crosses_10 hf rfl fun v3 hf => ?_
  refine z_aload_n (q := 12) (i := 0) C 0 dX9_crosses_11 rfl rfl rfl ?_
  refine z_iload_n (q := 13) (i := 2) C 2 dX9_crosses_12 rfl rfl rfl ?_
  refine z_iconst (q := 14) C (0 : Int32) dX9_crosses_13 ki_0 rfl ?_
  refine z_callVi (q := 17) (As := [.int i2, .int (0 : Int32)]) C (fun o ho => m_X9_ofBridge _ _ _ _ ho) zk9 vvX9_282 cdX9_ofBridge pnX9 dX9_crosses_14 rfl (by decide) (Nat.le_of_ble_eq_true rfl) hf rfl fun v4 σ hf => ?_
  refine z_icmpne (q := 20) (tgt := 29) C dX9_crosses_17 (by decide) rfl hf (fun c17 hf => ?_) (fun c17 hf => ?_)
  · refine z_aload_n (q := 30) (i := 0) C 0 dX9_crosses_29 rfl rfl rfl ?_
    refine z_iload_n (q := 31) (i := 2) C 2 dX9_crosses_30 rfl rfl rfl ?_
    refine z_iconst (q := 32) C (0 : Int32) dX9_crosses_31 ki_0 rfl ?_
    refine z_callVi (q := 35) (As := [.int i2, .int (0 : Int32)]) C (fun o ho => m_X9_ofBridge _ _ _ _ ho) zk9 vvX9_282 cdX9_ofBridge pnX9 dX9_crosses_32 rfl (by decide) (Nat.le_of_ble_eq_true rfl) hf rfl fun v5 σ hf => ?_
    refine z_lv [] rfl ?_
    exact j35_0 v5 i1 v1 σ hf
  · refine z_aload_n (q := 21) (i := 0) C 0 dX9_crosses_20 rfl rfl rfl ?_
    refine z_iload_n (q := 22) (i := 2) C 2 dX9_crosses_21 rfl rfl rfl ?_
    refine z_iconst (q := 23) C (1 : Int32) dX9_crosses_22 ki_1 rfl ?_
    refine z_callVi (q := 26) (As := [.int i2, .int (1 : Int32)]) C (fun o ho => m_X9_ofBridge _ _ _ _ ho) zk9 vvX9_282 cdX9_ofBridge pnX9 dX9_crosses_23 rfl (by decide) (Nat.le_of_ble_eq_true rfl) hf rfl fun v6 σ hf => ?_
    refine z_goto (q := 35) C dX9_crosses_26 (by decide) ?_
    refine z_lv [] rfl ?_
    exact j35_0 v6 i1 v1 σ hf

noncomputable def f_X9_goesOver_J18  (σ : ZT) : Option (Int32 × ZT) :=
  some ((0 : Int32), σ)
noncomputable def f_X9_goesOver_J37  (σ : ZT) : Option (Int32 × ZT) :=
  some ((1 : Int32), σ)
noncomputable def f_X9_goesOver (a0 : Nat) (i1 : Int32) (i2 : Int32) (i3 : Int32) (σ : ZT) : Option (Int32 × ZT) :=
  (gI 9 926 a0 σ).bind fun v1 =>
  if i3 = v1 then
  (f_X9_goesOver_J18  σ)
  else
  (bnd2 (vc 9 a0 σ (f_X9_whyNot a0 i1 i2 i3 σ)) fun v2 σ =>
  if 0 < v2 then
  (f_X9_goesOver_J18  σ)
  else
  ((vc 9 a0 σ (f_X9_crosses a0 i1 i3 σ)).bind fun σ =>
  if i2 = (-1 : Int32) then
  (f_X9_goesOver_J37  σ)
  else
  ((vc 9 a0 σ (f_X9_crosses a0 i2 i3 σ)).bind fun σ =>
  f_X9_goesOver_J37  σ)))
set_option maxHeartbeats 4000000 in
theorem m_X9_goesOver {l : Launch} {G : ZG} (a0 : Nat) (i1 : Int32) (i2 : Int32) (i3 : Int32) (σ : ZT) {out : (Int32 × ZT)} (hf : f_X9_goesOver a0 i1 i2 i3 σ = some out) : ZM l G yX9_goesOver cX9_goesOver 4 (some .boolean) [] 6 [.ref a0, .int i1, .int i2, .int i3] σ (.returned (some (.int out.1))) out.2 := by
  refine ZM.of [(0, .ref a0), (1, .int i1), (2, .int i2), (3, .int i3)] rfl (Nat.le_of_ble_eq_true rfl) fun X (C : ZC G RX9 "goesOver" cX9_goesOver 4 (some .boolean) [] X 6) => ?_
  unfold f_X9_goesOver at hf
  have j37_0 : ∀  (σ : ZT), f_X9_goesOver_J37  σ = some out → ZW l G 4 X (ZQ G X (.returned (some (.int out.1))) out.2) σ 37 [] [] := by
    intro  σ hf
    unfold f_X9_goesOver_J37 at hf
    refine z_iconst (q := 38) C (1 : Int32) dX9_goesOver_37 ki_1 rfl ?_
    exact z_zreturn C rfl z_nb1 dX9_goesOver_38 (Option.some.inj hf)
  have j18_0 : ∀  (σ : ZT), f_X9_goesOver_J18  σ = some out → ZW l G 4 X (ZQ G X (.returned (some (.int out.1))) out.2) σ 18 [] [] := by
    intro  σ hf
    unfold f_X9_goesOver_J18 at hf
    refine z_iconst (q := 19) C (0 : Int32) dX9_goesOver_18 ki_0 rfl ?_
    exact z_zreturn C rfl z_nb0 dX9_goesOver_19 (Option.some.inj hf)
  refine z_iload_n (q := 1) (i := 3) C 3 dX9_goesOver_0 rfl rfl rfl ?_
  refine z_aload_n (q := 2) (i := 0) C 0 dX9_goesOver_1 rfl rfl rfl ?_
  refine z_getI (q := 5) C flX9_53 dX9_goesOver_2 hf rfl fun v1 hf => ?_
  refine z_icmpeq (q := 8) (tgt := 18) C dX9_goesOver_5 (by decide) rfl hf (fun c5 hf => ?_) (fun c5 hf => ?_)
  · refine z_lv [] rfl ?_
    exact j18_0  σ hf
  · refine z_aload_n (q := 9) (i := 0) C 0 dX9_goesOver_8 rfl rfl rfl ?_
    refine z_iload_n (q := 10) (i := 1) C 1 dX9_goesOver_9 rfl rfl rfl ?_
    refine z_iload_n (q := 11) (i := 2) C 2 dX9_goesOver_10 rfl rfl rfl ?_
    refine z_iload_n (q := 12) (i := 3) C 3 dX9_goesOver_11 rfl rfl rfl ?_
    refine z_callVi (q := 15) (As := [.int i1, .int i2, .int i3]) C (fun o ho => m_X9_whyNot _ _ _ _ _ ho) zk9 vvX9_327 cdX9_whyNot pnX9 dX9_goesOver_12 rfl (by decide) (Nat.le_of_ble_eq_true rfl) hf rfl fun v2 σ hf => ?_
    refine z_ifle (q := 18) (tgt := 20) C dX9_goesOver_15 (by decide) rfl hf (fun c15 hf => ?_) (fun c15 hf => ?_)
    · refine z_aload_n (q := 21) (i := 0) C 0 dX9_goesOver_20 rfl rfl rfl ?_
      refine z_iload_n (q := 22) (i := 1) C 1 dX9_goesOver_21 rfl rfl rfl ?_
      refine z_iload_n (q := 23) (i := 3) C 3 dX9_goesOver_22 rfl rfl rfl ?_
      refine z_callVv (q := 26) (As := [.int i1, .int i3]) C (fun o ho => m_X9_crosses _ _ _ _ ho) zk9 vvX9_331 cdX9_crosses pnX9 dX9_goesOver_23 rfl (by decide) (Nat.le_of_ble_eq_true rfl) hf rfl fun σ hf => ?_
      refine z_iload_n (q := 27) (i := 2) C 2 dX9_goesOver_26 rfl rfl rfl ?_
      refine z_iconst (q := 28) C (-1 : Int32) dX9_goesOver_27 ki_m1 rfl ?_
      refine z_icmpeq (q := 31) (tgt := 37) C dX9_goesOver_28 (by decide) rfl hf (fun c28 hf => ?_) (fun c28 hf => ?_)
      · refine z_lv [] rfl ?_
        exact j37_0  σ hf
      · refine z_aload_n (q := 32) (i := 0) C 0 dX9_goesOver_31 rfl rfl rfl ?_
        refine z_iload_n (q := 33) (i := 2) C 2 dX9_goesOver_32 rfl rfl rfl ?_
        refine z_iload_n (q := 34) (i := 3) C 3 dX9_goesOver_33 rfl rfl rfl ?_
        refine z_callVv (q := 37) (As := [.int i2, .int i3]) C (fun o ho => m_X9_crosses _ _ _ _ ho) zk9 vvX9_331 cdX9_crosses pnX9 dX9_goesOver_34 rfl (by decide) (Nat.le_of_ble_eq_true rfl) hf rfl fun σ hf => ?_
        refine z_lv [] rfl ?_
        exact j37_0  σ hf
    · refine z_lv [] rfl ?_
      exact j18_0  σ hf

noncomputable def f_X9_staysSo_L30 (c0_30 : Nat) (i_2 : Int32) (σ : ZT) : Option ((Int32 × ZT) ⊕ ZT) :=
  if i_2 < (2 : Int32) then
  ((gR 9 900 c0_30 σ).bind fun v3 =>
  (gR 9 925 c0_30 σ).bind fun v4 =>
  (ldI 0 v4 i_2 σ).bind fun v5 =>
  (stI v3 ((114 : Int32) + i_2) v5 σ).bind fun σ =>
  some (.inl ((i_2 + (1 : Int32)), σ)))
  else
  (some (.inr σ))
noncomputable def f_X9_staysSo_L2 (c0_2 : Nat) (i_1 : Int32) (σ : ZT) : Option ((Int32 × ZT) ⊕ ZT) :=
  if i_1 < (4 : Int32) then
  ((gR 9 900 c0_2 σ).bind fun v6 =>
  (gR 9 924 c0_2 σ).bind fun v7 =>
  (ldI 0 v7 i_1 σ).bind fun v8 =>
  (stI v6 ((110 : Int32) + i_1) v8 σ).bind fun σ =>
  some (.inl ((i_1 + (1 : Int32)), σ)))
  else
  (some (.inr σ))
noncomputable def f_X9_staysSo (a0 : Nat) (σ : ZT) : Option ZT :=
  (loopC (fun s : (Int32 × ZT) => f_X9_staysSo_L2 a0 s.1 s.2) ((0 : Int32), σ)).bind fun σ =>
  (loopC (fun s : (Int32 × ZT) => f_X9_staysSo_L30 a0 s.1 s.2) ((0 : Int32), σ)).bind fun σ =>
  some σ
set_option maxHeartbeats 4000000 in
theorem m_X9_staysSo {l : Launch} {G : ZG} (a0 : Nat) (σ : ZT) {out : ZT} (hf : f_X9_staysSo a0 σ = some out) : ZM l G yX9_staysSo cX9_staysSo 2 none [] 1 [.ref a0] σ (.returned none) out := by
  refine ZM.of [(0, .ref a0)] rfl (Nat.le_of_ble_eq_true rfl) fun X (C : ZC G RX9 "staysSo" cX9_staysSo 2 none [] X 1) => ?_
  unfold f_X9_staysSo at hf
  refine z_iconst (q := 1) C (0 : Int32) dX9_staysSo_0 ki_0 rfl ?_
  refine z_istore_n (q := 2) (i := 1) (lv' := [(1, .int (0 : Int32)), (0, .ref a0)]) C dX9_staysSo_1 rfl (by decide) rfl rfl ?_
  refine z_lv [1, 0] rfl ?_
  obtain ⟨r1, hr1, hk1⟩ := Option.bind_eq_some_iff.mp hf
  refine loopC_ind (P := fun s => ZW l G 2 X (ZQ G X (.returned none) out) s.2 2 [(0, .ref a0), (1, .int s.1)] []) (fun s x1 hf hx1 => ?_) hr1
  obtain ⟨i_1, σ⟩ := s
  unfold f_X9_staysSo_L2 at hf
  try dsimp only at hf
  try dsimp only
  refine z_iload_n (q := 3) (i := 1) C 1 dX9_staysSo_2 rfl rfl rfl ?_
  refine z_iconst (q := 4) C (4 : Int32) dX9_staysSo_3 ki_4 rfl ?_
  refine z_icmpge (q := 7) (tgt := 28) C dX9_staysSo_4 (by decide) rfl hf (fun c4 hf => ?_) (fun c4 hf => ?_)
  · have e1 := zl_x hf hx1
    have hf := hk1
    rw [← e1] at hf
    try dsimp only at hf
    refine z_iconst (q := 29) C (0 : Int32) dX9_staysSo_28 ki_0 rfl ?_
    refine z_istore_n (q := 30) (i := 1) (lv' := [(1, .int (0 : Int32)), (0, .ref a0)]) C dX9_staysSo_29 rfl (by decide) rfl rfl ?_
    refine z_lv [1, 0] rfl ?_
    obtain ⟨r1, hr1, hk1⟩ := Option.bind_eq_some_iff.mp hf
    refine loopC_ind (P := fun s => ZW l G 2 X (ZQ G X (.returned none) out) s.2 30 [(0, .ref a0), (1, .int s.1)] []) (fun s x1 hf hx1 => ?_) hr1
    obtain ⟨i_2, σ⟩ := s
    unfold f_X9_staysSo_L30 at hf
    try dsimp only at hf
    try dsimp only
    refine z_iload_n (q := 31) (i := 1) C 1 dX9_staysSo_30 rfl rfl rfl ?_
    refine z_iconst (q := 32) C (2 : Int32) dX9_staysSo_31 ki_2 rfl ?_
    refine z_icmpge (q := 35) (tgt := 56) C dX9_staysSo_32 (by decide) rfl hf (fun c32 hf => ?_) (fun c32 hf => ?_)
    · have e1 := zl_x hf hx1
      have hf := hk1
      rw [← e1] at hf
      try dsimp only at hf
      exact z_return C rfl dX9_staysSo_56 (Option.some.inj hf)
    · refine z_aload_n (q := 36) (i := 0) C 0 dX9_staysSo_35 rfl rfl rfl ?_
      refine z_getR (q := 39) C flX9_7 dX9_staysSo_36 hf rfl fun v3 hf => ?_
      refine z_bipush (q := 41) C (114 : Int32) dX9_staysSo_39 kb_114 rfl ?_
      refine z_iload_n (q := 42) (i := 1) C 1 dX9_staysSo_41 rfl rfl rfl ?_
      refine z_iadd (q := 43) C dX9_staysSo_42 rfl ?_
      refine z_aload_n (q := 44) (i := 0) C 0 dX9_staysSo_43 rfl rfl rfl ?_
      refine z_getR (q := 47) C flX9_50 dX9_staysSo_44 hf rfl fun v4 hf => ?_
      refine z_iload_n (q := 48) (i := 1) C 1 dX9_staysSo_47 rfl rfl rfl ?_
      refine z_iald (q := 49) C dX9_staysSo_48 hf rfl fun v5 hf => ?_
      refine z_iast (q := 50) C dX9_staysSo_49 hf rfl fun σ hf => ?_
      refine z_iinc (q := 53) (i := 1) (lv' := [(1, .int (i_2 + (1 : Int32))), (0, .ref a0)]) C 1 (i_2 + (1 : Int32)) dX9_staysSo_50 rfl (kn_1 _) (by decide) rfl rfl ?_
      refine z_goto (q := 30) C dX9_staysSo_53 (by decide) ?_
      refine z_lv [1, 0] rfl ?_
      have hc1 := zl_c hf hx1
      exact hc1
  · refine z_aload_n (q := 8) (i := 0) C 0 dX9_staysSo_7 rfl rfl rfl ?_
    refine z_getR (q := 11) C flX9_7 dX9_staysSo_8 hf rfl fun v6 hf => ?_
    refine z_bipush (q := 13) C (110 : Int32) dX9_staysSo_11 kb_110 rfl ?_
    refine z_iload_n (q := 14) (i := 1) C 1 dX9_staysSo_13 rfl rfl rfl ?_
    refine z_iadd (q := 15) C dX9_staysSo_14 rfl ?_
    refine z_aload_n (q := 16) (i := 0) C 0 dX9_staysSo_15 rfl rfl rfl ?_
    refine z_getR (q := 19) C flX9_47 dX9_staysSo_16 hf rfl fun v7 hf => ?_
    refine z_iload_n (q := 20) (i := 1) C 1 dX9_staysSo_19 rfl rfl rfl ?_
    refine z_iald (q := 21) C dX9_staysSo_20 hf rfl fun v8 hf => ?_
    refine z_iast (q := 22) C dX9_staysSo_21 hf rfl fun σ hf => ?_
    refine z_iinc (q := 25) (i := 1) (lv' := [(1, .int (i_1 + (1 : Int32))), (0, .ref a0)]) C 1 (i_1 + (1 : Int32)) dX9_staysSo_22 rfl (kn_1 _) (by decide) rfl rfl ?_
    refine z_goto (q := 2) C dX9_staysSo_25 (by decide) ?_
    refine z_lv [1, 0] rfl ?_
    have hc1 := zl_c hf hx1
    exact hc1

noncomputable def f_X9_doneOr_J19 (w0_19 : Int32) (w1_19 : Nat) (σ : ZT) : Option (Int32 × ZT) :=
  bnd2 (vc 9 w1_19 σ (f_X9_is w1_19 w0_19 σ)) fun v2 σ =>
  (rz v2).bind fun z3 =>
  some (z3, σ)
noncomputable def f_X9_doneOr_J8 (a0_8 : Nat) (i1_8 : Int32) (σ : ZT) : Option (Int32 × ZT) :=
  if i1_8 = 0 then
  (f_X9_doneOr_J19 (7 : Int32) a0_8 σ)
  else
  (f_X9_doneOr_J19 (0 : Int32) a0_8 σ)
noncomputable def f_X9_doneOr (a0 : Nat) (i1 : Int32) (σ : ZT) : Option (Int32 × ZT) :=
  if i1 = 0 then
  (f_X9_doneOr_J8 a0 i1 σ)
  else
  ((vc 9 a0 σ (f_X9_staysSo a0 σ)).bind fun σ =>
  f_X9_doneOr_J8 a0 i1 σ)
set_option maxHeartbeats 4000000 in
theorem m_X9_doneOr {l : Launch} {G : ZG} (a0 : Nat) (i1 : Int32) (σ : ZT) {out : (Int32 × ZT)} (hf : f_X9_doneOr a0 i1 σ = some out) : ZM l G yX9_doneOr cX9_doneOr 2 (some .boolean) [] 2 [.ref a0, .int i1] σ (.returned (some (.int out.1))) out.2 := by
  refine ZM.of [(0, .ref a0), (1, .int i1)] rfl (Nat.le_of_ble_eq_true rfl) fun X (C : ZC G RX9 "doneOr" cX9_doneOr 2 (some .boolean) [] X 2) => ?_
  unfold f_X9_doneOr at hf
  have j19_0 : ∀ (w0_19 : Int32) (w1_19 : Nat) (σ : ZT), f_X9_doneOr_J19 w0_19 w1_19 σ = some out → ZW l G 2 X (ZQ G X (.returned (some (.int out.1))) out.2) σ 19 [] [.int w0_19, .ref w1_19] := by
    intro w0_19 w1_19 σ hf
    unfold f_X9_doneOr_J19 at hf
    refine z_callVi (q := 22) (As := [.int w0_19]) C (fun o ho => m_X9_is _ _ _ ho) zk9 vvX9_110 cdX9_is pnX9 dX9_doneOr_19 rfl (by decide) (Nat.le_of_ble_eq_true rfl) hf rfl fun v2 σ hf => ?_
    refine z_rz C hf fun hn hf => ?_
    exact z_zreturn C rfl hn dX9_doneOr_22 (Option.some.inj hf)
  have j8_0 : ∀ (a0_8 : Nat) (i1_8 : Int32) (σ : ZT), f_X9_doneOr_J8 a0_8 i1_8 σ = some out → ZW l G 2 X (ZQ G X (.returned (some (.int out.1))) out.2) σ 8 [(0, .ref a0_8), (1, .int i1_8)] [] := by
    intro a0_8 i1_8 σ hf
    unfold f_X9_doneOr_J8 at hf
    refine z_aload_n (q := 9) (i := 0) C 0 dX9_doneOr_8 rfl rfl rfl ?_
    refine z_iload_n (q := 10) (i := 1) C 1 dX9_doneOr_9 rfl rfl rfl ?_
    refine z_ifeq (q := 13) (tgt := 17) C dX9_doneOr_10 (by decide) rfl hf (fun c10 hf => ?_) (fun c10 hf => ?_)
    · refine z_bipush (q := 19) C (7 : Int32) dX9_doneOr_17 kb_7 rfl ?_
      refine z_lv [] rfl ?_
      exact j19_0 (7 : Int32) a0_8 σ hf
    · refine z_iconst (q := 14) C (0 : Int32) dX9_doneOr_13 ki_0 rfl ?_
      refine z_goto (q := 19) C dX9_doneOr_14 (by decide) ?_
      refine z_lv [] rfl ?_
      exact j19_0 (0 : Int32) a0_8 σ hf
  refine z_iload_n (q := 1) (i := 1) C 1 dX9_doneOr_0 rfl rfl rfl ?_
  refine z_ifeq (q := 4) (tgt := 8) C dX9_doneOr_1 (by decide) rfl hf (fun c1 hf => ?_) (fun c1 hf => ?_)
  · exact j8_0 a0 i1 σ hf
  · refine z_aload_n (q := 5) (i := 0) C 0 dX9_doneOr_4 rfl rfl rfl ?_
    refine z_callVv (q := 8) (As := []) C (fun o ho => m_X9_staysSo _ _ ho) zk9 vvX9_335 cdX9_staysSo pnX9 dX9_doneOr_5 rfl (by decide) (Nat.le_of_ble_eq_true rfl) hf rfl fun σ hf => ?_
    exact j8_0 a0 i1 σ hf

noncomputable def f_X9_go_J16 (a0_16 : Nat) (σ : ZT) : Option (Int32 × ZT) :=
  bnd2 (vc 9 a0_16 σ (f_X9_is a0_16 (1 : Int32) σ)) fun v7 σ =>
  (rz v7).bind fun z8 =>
  some (z8, σ)
noncomputable def f_X9_go (a0 : Nat) (i1 : Int32) (i2 : Int32) (σ : ZT) : Option (Int32 × ZT) :=
  bnd2 (vc 9 a0 σ (f_X9_isPerson a0 i1 σ)) fun v1 σ =>
  if v1 = 0 then
  (f_X9_go_J16 a0 σ)
  else
  (bnd2 (vc 9 a0 σ (f_X9_isBridge a0 i2 σ)) fun v2 σ =>
  if v2 = 0 then
  (f_X9_go_J16 a0 σ)
  else
  ((vc 9 a0 σ (f_X9_takesNow a0 σ)).bind fun σ =>
  bnd2 (vc 9 a0 σ (f_X9_goesOver a0 i1 (-1 : Int32) i2 σ)) fun v4 σ =>
  bnd2 (vc 9 a0 σ (f_X9_doneOr a0 v4 σ)) fun v5 σ =>
  (rz v5).bind fun z6 =>
  some (z6, σ)))
set_option maxHeartbeats 4000000 in
theorem m_X9_go {l : Launch} {G : ZG} (a0 : Nat) (i1 : Int32) (i2 : Int32) (σ : ZT) {out : (Int32 × ZT)} (hf : f_X9_go a0 i1 i2 σ = some out) : ZM l G yX9_go cX9_go 3 (some .boolean) [] 7 [.ref a0, .int i1, .int i2] σ (.returned (some (.int out.1))) out.2 := by
  refine ZM.of [(0, .ref a0), (1, .int i1), (2, .int i2)] rfl (Nat.le_of_ble_eq_true rfl) fun X (C : ZC G RX9 "go" cX9_go 3 (some .boolean) [] X 7) => ?_
  unfold f_X9_go at hf
  have j16_0 : ∀ (a0_16 : Nat) (σ : ZT), f_X9_go_J16 a0_16 σ = some out → ZW l G 3 X (ZQ G X (.returned (some (.int out.1))) out.2) σ 16 [(0, .ref a0_16)] [] := by
    intro a0_16 σ hf
    unfold f_X9_go_J16 at hf
    refine z_aload_n (q := 17) (i := 0) C 0 dX9_go_16 rfl rfl rfl ?_
    refine z_iconst (q := 18) C (1 : Int32) dX9_go_17 ki_1 rfl ?_
    refine z_callVi (q := 21) (As := [.int (1 : Int32)]) C (fun o ho => m_X9_is _ _ _ ho) zk9 vvX9_110 cdX9_is pnX9 dX9_go_18 rfl (by decide) (Nat.le_of_ble_eq_true rfl) hf rfl fun v7 σ hf => ?_
    refine z_rz C hf fun hn hf => ?_
    exact z_zreturn C rfl hn dX9_go_21 (Option.some.inj hf)
  refine z_aload_n (q := 1) (i := 0) C 0 dX9_go_0 rfl rfl rfl ?_
  refine z_iload_n (q := 2) (i := 1) C 1 dX9_go_1 rfl rfl rfl ?_
  refine z_callVi (q := 5) (As := [.int i1]) C (fun o ho => m_X9_isPerson _ _ _ ho) zk9 vvX9_297 cdX9_isPerson pnX9 dX9_go_2 rfl (by decide) (Nat.le_of_ble_eq_true rfl) hf rfl fun v1 σ hf => ?_
  refine z_ifeq (q := 8) (tgt := 16) C dX9_go_5 (by decide) rfl hf (fun c5 hf => ?_) (fun c5 hf => ?_)
  · refine z_lv [0] rfl ?_
    exact j16_0 a0 σ hf
  · refine z_aload_n (q := 9) (i := 0) C 0 dX9_go_8 rfl rfl rfl ?_
    refine z_iload_n (q := 10) (i := 2) C 2 dX9_go_9 rfl rfl rfl ?_
    refine z_callVi (q := 13) (As := [.int i2]) C (fun o ho => m_X9_isBridge _ _ _ ho) zk9 vvX9_291 cdX9_isBridge pnX9 dX9_go_10 rfl (by decide) (Nat.le_of_ble_eq_true rfl) hf rfl fun v2 σ hf => ?_
    refine z_ifne (q := 16) (tgt := 22) C dX9_go_13 (by decide) rfl hf (fun c13 hf => ?_) (fun c13 hf => ?_)
    · refine z_aload_n (q := 23) (i := 0) C 0 dX9_go_22 rfl rfl rfl ?_
      refine z_callVv (q := 26) (As := []) C (fun o ho => m_X9_takesNow _ _ ho) zk9 vvX9_285 cdX9_takesNow pnX9 dX9_go_23 rfl (by decide) (Nat.le_of_ble_eq_true rfl) hf rfl fun σ hf => ?_
      refine z_aload_n (q := 27) (i := 0) C 0 dX9_go_26 rfl rfl rfl ?_
      refine z_aload_n (q := 28) (i := 0) C 0 dX9_go_27 rfl rfl rfl ?_
      refine z_iload_n (q := 29) (i := 1) C 1 dX9_go_28 rfl rfl rfl ?_
      refine z_iconst (q := 30) C (-1 : Int32) dX9_go_29 ki_m1 rfl ?_
      refine z_iload_n (q := 31) (i := 2) C 2 dX9_go_30 rfl rfl rfl ?_
      refine z_callVi (q := 34) (As := [.int i1, .int (-1 : Int32), .int i2]) C (fun o ho => m_X9_goesOver _ _ _ _ _ ho) zk9 vvX9_338 cdX9_goesOver pnX9 dX9_go_31 rfl (by decide) (Nat.le_of_ble_eq_true rfl) hf rfl fun v4 σ hf => ?_
      refine z_callVi (q := 37) (As := [.int v4]) C (fun o ho => m_X9_doneOr _ _ _ ho) zk9 vvX9_341 cdX9_doneOr pnX9 dX9_go_34 rfl (by decide) (Nat.le_of_ble_eq_true rfl) hf rfl fun v5 σ hf => ?_
      refine z_rz C hf fun hn hf => ?_
      exact z_zreturn C rfl hn dX9_go_37 (Option.some.inj hf)
    · refine z_lv [0] rfl ?_
      exact j16_0 a0 σ hf

noncomputable def f_X9_areTwo_J26 (w0_26 : Int32) (σ : ZT) : Option (Int32 × ZT) :=
  (rz w0_26).bind fun z3 =>
  some (z3, σ)
noncomputable def f_X9_areTwo_J25  (σ : ZT) : Option (Int32 × ZT) :=
  f_X9_areTwo_J26 (0 : Int32) σ
noncomputable def f_X9_areTwo (a0 : Nat) (i1 : Int32) (i2 : Int32) (σ : ZT) : Option (Int32 × ZT) :=
  bnd2 (vc 9 a0 σ (f_X9_isPerson a0 i1 σ)) fun v1 σ =>
  if v1 = 0 then
  (f_X9_areTwo_J25  σ)
  else
  (bnd2 (vc 9 a0 σ (f_X9_isPerson a0 i2 σ)) fun v2 σ =>
  if v2 = 0 then
  (f_X9_areTwo_J25  σ)
  else
  (if i1 = i2 then
  (f_X9_areTwo_J25  σ)
  else
  (f_X9_areTwo_J26 (1 : Int32) σ)))
set_option maxHeartbeats 4000000 in
theorem m_X9_areTwo {l : Launch} {G : ZG} (a0 : Nat) (i1 : Int32) (i2 : Int32) (σ : ZT) {out : (Int32 × ZT)} (hf : f_X9_areTwo a0 i1 i2 σ = some out) : ZM l G yX9_areTwo cX9_areTwo 3 (some .boolean) [] 2 [.ref a0, .int i1, .int i2] σ (.returned (some (.int out.1))) out.2 := by
  refine ZM.of [(0, .ref a0), (1, .int i1), (2, .int i2)] rfl (Nat.le_of_ble_eq_true rfl) fun X (C : ZC G RX9 "areTwo" cX9_areTwo 3 (some .boolean) [] X 2) => ?_
  unfold f_X9_areTwo at hf
  have j26_0 : ∀ (w0_26 : Int32) (σ : ZT), f_X9_areTwo_J26 w0_26 σ = some out → ZW l G 3 X (ZQ G X (.returned (some (.int out.1))) out.2) σ 26 [] [.int w0_26] := by
    intro w0_26 σ hf
    unfold f_X9_areTwo_J26 at hf
    refine z_rz C hf fun hn hf => ?_
    exact z_zreturn C rfl hn dX9_areTwo_26 (Option.some.inj hf)
  have j25_0 : ∀  (σ : ZT), f_X9_areTwo_J25  σ = some out → ZW l G 3 X (ZQ G X (.returned (some (.int out.1))) out.2) σ 25 [] [] := by
    intro  σ hf
    unfold f_X9_areTwo_J25 at hf
    refine z_iconst (q := 26) C (0 : Int32) dX9_areTwo_25 ki_0 rfl ?_
    exact j26_0 (0 : Int32) σ hf
  refine z_aload_n (q := 1) (i := 0) C 0 dX9_areTwo_0 rfl rfl rfl ?_
  refine z_iload_n (q := 2) (i := 1) C 1 dX9_areTwo_1 rfl rfl rfl ?_
  refine z_callVi (q := 5) (As := [.int i1]) C (fun o ho => m_X9_isPerson _ _ _ ho) zk9 vvX9_297 cdX9_isPerson pnX9 dX9_areTwo_2 rfl (by decide) (Nat.le_of_ble_eq_true rfl) hf rfl fun v1 σ hf => ?_
  refine z_ifeq (q := 8) (tgt := 25) C dX9_areTwo_5 (by decide) rfl hf (fun c5 hf => ?_) (fun c5 hf => ?_)
  · refine z_lv [] rfl ?_
    exact j25_0  σ hf
  · refine z_aload_n (q := 9) (i := 0) C 0 dX9_areTwo_8 rfl rfl rfl ?_
    refine z_iload_n (q := 10) (i := 2) C 2 dX9_areTwo_9 rfl rfl rfl ?_
    refine z_callVi (q := 13) (As := [.int i2]) C (fun o ho => m_X9_isPerson _ _ _ ho) zk9 vvX9_297 cdX9_isPerson pnX9 dX9_areTwo_10 rfl (by decide) (Nat.le_of_ble_eq_true rfl) hf rfl fun v2 σ hf => ?_
    refine z_ifeq (q := 16) (tgt := 25) C dX9_areTwo_13 (by decide) rfl hf (fun c13 hf => ?_) (fun c13 hf => ?_)
    · refine z_lv [] rfl ?_
      exact j25_0  σ hf
    · refine z_iload_n (q := 17) (i := 1) C 1 dX9_areTwo_16 rfl rfl rfl ?_
      refine z_iload_n (q := 18) (i := 2) C 2 dX9_areTwo_17 rfl rfl rfl ?_
      refine z_icmpeq (q := 21) (tgt := 25) C dX9_areTwo_18 (by decide) rfl hf (fun c18 hf => ?_) (fun c18 hf => ?_)
      · refine z_lv [] rfl ?_
        exact j25_0  σ hf
      · refine z_iconst (q := 22) C (1 : Int32) dX9_areTwo_21 ki_1 rfl ?_
        refine z_goto (q := 26) C dX9_areTwo_22 (by decide) ?_
        refine z_lv [] rfl ?_
        exact j26_0 (1 : Int32) σ hf

noncomputable def f_X9_both_J17 (a0_17 : Nat) (σ : ZT) : Option (Int32 × ZT) :=
  bnd2 (vc 9 a0_17 σ (f_X9_is a0_17 (1 : Int32) σ)) fun v7 σ =>
  (rz v7).bind fun z8 =>
  some (z8, σ)
noncomputable def f_X9_both (a0 : Nat) (i1 : Int32) (i2 : Int32) (i3 : Int32) (σ : ZT) : Option (Int32 × ZT) :=
  bnd2 (vc 9 a0 σ (f_X9_areTwo a0 i1 i2 σ)) fun v1 σ =>
  if v1 = 0 then
  (f_X9_both_J17 a0 σ)
  else
  (bnd2 (vc 9 a0 σ (f_X9_isBridge a0 i3 σ)) fun v2 σ =>
  if v2 = 0 then
  (f_X9_both_J17 a0 σ)
  else
  ((vc 9 a0 σ (f_X9_takesNow a0 σ)).bind fun σ =>
  bnd2 (vc 9 a0 σ (f_X9_goesOver a0 i1 i2 i3 σ)) fun v4 σ =>
  bnd2 (vc 9 a0 σ (f_X9_doneOr a0 v4 σ)) fun v5 σ =>
  (rz v5).bind fun z6 =>
  some (z6, σ)))
set_option maxHeartbeats 4000000 in
theorem m_X9_both {l : Launch} {G : ZG} (a0 : Nat) (i1 : Int32) (i2 : Int32) (i3 : Int32) (σ : ZT) {out : (Int32 × ZT)} (hf : f_X9_both a0 i1 i2 i3 σ = some out) : ZM l G yX9_both cX9_both 4 (some .boolean) [] 7 [.ref a0, .int i1, .int i2, .int i3] σ (.returned (some (.int out.1))) out.2 := by
  refine ZM.of [(0, .ref a0), (1, .int i1), (2, .int i2), (3, .int i3)] rfl (Nat.le_of_ble_eq_true rfl) fun X (C : ZC G RX9 "both" cX9_both 4 (some .boolean) [] X 7) => ?_
  unfold f_X9_both at hf
  have j17_0 : ∀ (a0_17 : Nat) (σ : ZT), f_X9_both_J17 a0_17 σ = some out → ZW l G 4 X (ZQ G X (.returned (some (.int out.1))) out.2) σ 17 [(0, .ref a0_17)] [] := by
    intro a0_17 σ hf
    unfold f_X9_both_J17 at hf
    refine z_aload_n (q := 18) (i := 0) C 0 dX9_both_17 rfl rfl rfl ?_
    refine z_iconst (q := 19) C (1 : Int32) dX9_both_18 ki_1 rfl ?_
    refine z_callVi (q := 22) (As := [.int (1 : Int32)]) C (fun o ho => m_X9_is _ _ _ ho) zk9 vvX9_110 cdX9_is pnX9 dX9_both_19 rfl (by decide) (Nat.le_of_ble_eq_true rfl) hf rfl fun v7 σ hf => ?_
    refine z_rz C hf fun hn hf => ?_
    exact z_zreturn C rfl hn dX9_both_22 (Option.some.inj hf)
  refine z_aload_n (q := 1) (i := 0) C 0 dX9_both_0 rfl rfl rfl ?_
  refine z_iload_n (q := 2) (i := 1) C 1 dX9_both_1 rfl rfl rfl ?_
  refine z_iload_n (q := 3) (i := 2) C 2 dX9_both_2 rfl rfl rfl ?_
  refine z_callVi (q := 6) (As := [.int i1, .int i2]) C (fun o ho => m_X9_areTwo _ _ _ _ ho) zk9 vvX9_345 cdX9_areTwo pnX9 dX9_both_3 rfl (by decide) (Nat.le_of_ble_eq_true rfl) hf rfl fun v1 σ hf => ?_
  refine z_ifeq (q := 9) (tgt := 17) C dX9_both_6 (by decide) rfl hf (fun c6 hf => ?_) (fun c6 hf => ?_)
  · refine z_lv [0] rfl ?_
    exact j17_0 a0 σ hf
  · refine z_aload_n (q := 10) (i := 0) C 0 dX9_both_9 rfl rfl rfl ?_
    refine z_iload_n (q := 11) (i := 3) C 3 dX9_both_10 rfl rfl rfl ?_
    refine z_callVi (q := 14) (As := [.int i3]) C (fun o ho => m_X9_isBridge _ _ _ ho) zk9 vvX9_291 cdX9_isBridge pnX9 dX9_both_11 rfl (by decide) (Nat.le_of_ble_eq_true rfl) hf rfl fun v2 σ hf => ?_
    refine z_ifne (q := 17) (tgt := 23) C dX9_both_14 (by decide) rfl hf (fun c14 hf => ?_) (fun c14 hf => ?_)
    · refine z_aload_n (q := 24) (i := 0) C 0 dX9_both_23 rfl rfl rfl ?_
      refine z_callVv (q := 27) (As := []) C (fun o ho => m_X9_takesNow _ _ ho) zk9 vvX9_285 cdX9_takesNow pnX9 dX9_both_24 rfl (by decide) (Nat.le_of_ble_eq_true rfl) hf rfl fun σ hf => ?_
      refine z_aload_n (q := 28) (i := 0) C 0 dX9_both_27 rfl rfl rfl ?_
      refine z_aload_n (q := 29) (i := 0) C 0 dX9_both_28 rfl rfl rfl ?_
      refine z_iload_n (q := 30) (i := 1) C 1 dX9_both_29 rfl rfl rfl ?_
      refine z_iload_n (q := 31) (i := 2) C 2 dX9_both_30 rfl rfl rfl ?_
      refine z_iload_n (q := 32) (i := 3) C 3 dX9_both_31 rfl rfl rfl ?_
      refine z_callVi (q := 35) (As := [.int i1, .int i2, .int i3]) C (fun o ho => m_X9_goesOver _ _ _ _ _ ho) zk9 vvX9_338 cdX9_goesOver pnX9 dX9_both_32 rfl (by decide) (Nat.le_of_ble_eq_true rfl) hf rfl fun v4 σ hf => ?_
      refine z_callVi (q := 38) (As := [.int v4]) C (fun o ho => m_X9_doneOr _ _ _ ho) zk9 vvX9_341 cdX9_doneOr pnX9 dX9_both_35 rfl (by decide) (Nat.le_of_ble_eq_true rfl) hf rfl fun v5 σ hf => ?_
      refine z_rz C hf fun hn hf => ?_
      exact z_zreturn C rfl hn dX9_both_38 (Option.some.inj hf)
    · refine z_lv [0] rfl ?_
      exact j17_0 a0 σ hf

noncomputable def f_X9_why_J30 (a0_30 : Nat) (σ : ZT) : Option (Int32 × ZT) :=
  bnd2 (vc 9 a0_30 σ (f_X9_refuse a0_30 (1 : Int32) σ)) fun v3 σ =>
  some (v3, σ)
noncomputable def f_X9_why_J22 (a0_22 : Nat) (i1_22 : Int32) (i2_22 : Int32) (i3_22 : Int32) (σ : ZT) : Option (Int32 × ZT) :=
  bnd2 (vc 9 a0_22 σ (f_X9_isBridge a0_22 i3_22 σ)) fun v4 σ =>
  if v4 = 0 then
  (f_X9_why_J30 a0_22 σ)
  else
  ((vc 9 a0_22 σ (f_X9_takesNow a0_22 σ)).bind fun σ =>
  bnd2 (vc 9 a0_22 σ (f_X9_whyNot a0_22 i1_22 i2_22 i3_22 σ)) fun v6 σ =>
  bnd2 (vc 9 a0_22 σ (f_X9_gives a0_22 v6 σ)) fun v7 σ =>
  some (v7, σ))
noncomputable def f_X9_why (a0 : Nat) (i1 : Int32) (i2 : Int32) (i3 : Int32) (σ : ZT) : Option (Int32 × ZT) :=
  bnd2 (vc 9 a0 σ (f_X9_isPerson a0 i1 σ)) fun v1 σ =>
  if v1 = 0 then
  (f_X9_why_J30 a0 σ)
  else
  (if i2 = (-1 : Int32) then
  (f_X9_why_J22 a0 i1 i2 i3 σ)
  else
  (bnd2 (vc 9 a0 σ (f_X9_areTwo a0 i1 i2 σ)) fun v2 σ =>
  if v2 = 0 then
  (f_X9_why_J30 a0 σ)
  else
  (f_X9_why_J22 a0 i1 i2 i3 σ)))
set_option maxHeartbeats 4000000 in
theorem m_X9_why {l : Launch} {G : ZG} (a0 : Nat) (i1 : Int32) (i2 : Int32) (i3 : Int32) (σ : ZT) {out : (Int32 × ZT)} (hf : f_X9_why a0 i1 i2 i3 σ = some out) : ZM l G yX9_why cX9_why 4 (some .int) [] 6 [.ref a0, .int i1, .int i2, .int i3] σ (.returned (some (.int out.1))) out.2 := by
  refine ZM.of [(0, .ref a0), (1, .int i1), (2, .int i2), (3, .int i3)] rfl (Nat.le_of_ble_eq_true rfl) fun X (C : ZC G RX9 "why" cX9_why 4 (some .int) [] X 6) => ?_
  unfold f_X9_why at hf
  have j30_0 : ∀ (a0_30 : Nat) (σ : ZT), f_X9_why_J30 a0_30 σ = some out → ZW l G 4 X (ZQ G X (.returned (some (.int out.1))) out.2) σ 30 [(0, .ref a0_30)] [] := by
    intro a0_30 σ hf
    unfold f_X9_why_J30 at hf
    refine z_aload_n (q := 31) (i := 0) C 0 dX9_why_30 rfl rfl rfl ?_
    refine z_iconst (q := 32) C (1 : Int32) dX9_why_31 ki_1 rfl ?_
    refine z_callVi (q := 35) (As := [.int (1 : Int32)]) C (fun o ho => m_X9_refuse _ _ _ ho) zk9 vvX9_103 cdX9_refuse pnX9 dX9_why_32 rfl (by decide) (Nat.le_of_ble_eq_true rfl) hf rfl fun v3 σ hf => ?_
    exact z_ireturn C rfl dX9_why_35 (Option.some.inj hf)
  have j22_0 : ∀ (a0_22 : Nat) (i1_22 : Int32) (i2_22 : Int32) (i3_22 : Int32) (σ : ZT), f_X9_why_J22 a0_22 i1_22 i2_22 i3_22 σ = some out → ZW l G 4 X (ZQ G X (.returned (some (.int out.1))) out.2) σ 22 [(0, .ref a0_22), (1, .int i1_22), (2, .int i2_22), (3, .int i3_22)] [] := by
    intro a0_22 i1_22 i2_22 i3_22 σ hf
    unfold f_X9_why_J22 at hf
    refine z_aload_n (q := 23) (i := 0) C 0 dX9_why_22 rfl rfl rfl ?_
    refine z_iload_n (q := 24) (i := 3) C 3 dX9_why_23 rfl rfl rfl ?_
    refine z_callVi (q := 27) (As := [.int i3_22]) C (fun o ho => m_X9_isBridge _ _ _ ho) zk9 vvX9_291 cdX9_isBridge pnX9 dX9_why_24 rfl (by decide) (Nat.le_of_ble_eq_true rfl) hf rfl fun v4 σ hf => ?_
    refine z_ifne (q := 30) (tgt := 36) C dX9_why_27 (by decide) rfl hf (fun c27 hf => ?_) (fun c27 hf => ?_)
    · refine z_aload_n (q := 37) (i := 0) C 0 dX9_why_36 rfl rfl rfl ?_
      refine z_callVv (q := 40) (As := []) C (fun o ho => m_X9_takesNow _ _ ho) zk9 vvX9_285 cdX9_takesNow pnX9 dX9_why_37 rfl (by decide) (Nat.le_of_ble_eq_true rfl) hf rfl fun σ hf => ?_
      refine z_aload_n (q := 41) (i := 0) C 0 dX9_why_40 rfl rfl rfl ?_
      refine z_aload_n (q := 42) (i := 0) C 0 dX9_why_41 rfl rfl rfl ?_
      refine z_iload_n (q := 43) (i := 1) C 1 dX9_why_42 rfl rfl rfl ?_
      refine z_iload_n (q := 44) (i := 2) C 2 dX9_why_43 rfl rfl rfl ?_
      refine z_iload_n (q := 45) (i := 3) C 3 dX9_why_44 rfl rfl rfl ?_
      refine z_callVi (q := 48) (As := [.int i1_22, .int i2_22, .int i3_22]) C (fun o ho => m_X9_whyNot _ _ _ _ _ ho) zk9 vvX9_327 cdX9_whyNot pnX9 dX9_why_45 rfl (by decide) (Nat.le_of_ble_eq_true rfl) hf rfl fun v6 σ hf => ?_
      refine z_callVi (q := 51) (As := [.int v6]) C (fun o ho => m_X9_gives _ _ _ ho) zk9 vvX9_107 cdX9_gives pnX9 dX9_why_48 rfl (by decide) (Nat.le_of_ble_eq_true rfl) hf rfl fun v7 σ hf => ?_
      exact z_ireturn C rfl dX9_why_51 (Option.some.inj hf)
    · refine z_lv [0] rfl ?_
      exact j30_0 a0_22 σ hf
  refine z_aload_n (q := 1) (i := 0) C 0 dX9_why_0 rfl rfl rfl ?_
  refine z_iload_n (q := 2) (i := 1) C 1 dX9_why_1 rfl rfl rfl ?_
  refine z_callVi (q := 5) (As := [.int i1]) C (fun o ho => m_X9_isPerson _ _ _ ho) zk9 vvX9_297 cdX9_isPerson pnX9 dX9_why_2 rfl (by decide) (Nat.le_of_ble_eq_true rfl) hf rfl fun v1 σ hf => ?_
  refine z_ifeq (q := 8) (tgt := 30) C dX9_why_5 (by decide) rfl hf (fun c5 hf => ?_) (fun c5 hf => ?_)
  · refine z_lv [0] rfl ?_
    exact j30_0 a0 σ hf
  · refine z_iload_n (q := 9) (i := 2) C 2 dX9_why_8 rfl rfl rfl ?_
    refine z_iconst (q := 10) C (-1 : Int32) dX9_why_9 ki_m1 rfl ?_
    refine z_icmpeq (q := 13) (tgt := 22) C dX9_why_10 (by decide) rfl hf (fun c10 hf => ?_) (fun c10 hf => ?_)
    · exact j22_0 a0 i1 i2 i3 σ hf
    · refine z_aload_n (q := 14) (i := 0) C 0 dX9_why_13 rfl rfl rfl ?_
      refine z_iload_n (q := 15) (i := 1) C 1 dX9_why_14 rfl rfl rfl ?_
      refine z_iload_n (q := 16) (i := 2) C 2 dX9_why_15 rfl rfl rfl ?_
      refine z_callVi (q := 19) (As := [.int i1, .int i2]) C (fun o ho => m_X9_areTwo _ _ _ _ ho) zk9 vvX9_345 cdX9_areTwo pnX9 dX9_why_16 rfl (by decide) (Nat.le_of_ble_eq_true rfl) hf rfl fun v2 σ hf => ?_
      refine z_ifeq (q := 22) (tgt := 30) C dX9_why_19 (by decide) rfl hf (fun c19 hf => ?_) (fun c19 hf => ?_)
      · refine z_lv [0] rfl ?_
        exact j30_0 a0 σ hf
      · exact j22_0 a0 i1 i2 i3 σ hf

noncomputable def f_X9_lifts_J44  (σ : ZT) : Option (Int32 × ZT) :=
  some ((0 : Int32), σ)
noncomputable def f_X9_lifts (a0 : Nat) (i1 : Int32) (i2 : Int32) (σ : ZT) : Option (Int32 × ZT) :=
  (gR 9 925 a0 σ).bind fun v1 =>
  (ldI 0 v1 i2 σ).bind fun v2 =>
  (gR 9 924 a0 σ).bind fun v3 =>
  (ldI 0 v3 i1 σ).bind fun v4 =>
  if v2 = v4 then
  (bnd2 (vc 9 a0 σ (f_X9_loadOf a0 i1 σ)) fun v5 σ =>
  if v5 = (-1 : Int32) then
  ((gR 9 900 a0 σ).bind fun v6 =>
  (ldI 0 v6 ((106 : Int32) + ((2 : Int32) * i2)) σ).bind fun v7 =>
  bnd2 (vc 9 a0 σ (f_X9_ofPerson a0 i1 (3 : Int32) σ)) fun v8 σ =>
  if v8 < v7 then
  (f_X9_lifts_J44  σ)
  else
  ((gR 9 925 a0 σ).bind fun v9 =>
  (stI v9 i2 ((6 : Int32) + i1) σ).bind fun σ =>
  some ((1 : Int32), σ)))
  else
  (f_X9_lifts_J44  σ))
  else
  (f_X9_lifts_J44  σ)
set_option maxHeartbeats 4000000 in
theorem m_X9_lifts {l : Launch} {G : ZG} (a0 : Nat) (i1 : Int32) (i2 : Int32) (σ : ZT) {out : (Int32 × ZT)} (hf : f_X9_lifts a0 i1 i2 σ = some out) : ZM l G yX9_lifts cX9_lifts 3 (some .boolean) [] 2 [.ref a0, .int i1, .int i2] σ (.returned (some (.int out.1))) out.2 := by
  refine ZM.of [(0, .ref a0), (1, .int i1), (2, .int i2)] rfl (Nat.le_of_ble_eq_true rfl) fun X (C : ZC G RX9 "lifts" cX9_lifts 3 (some .boolean) [] X 2) => ?_
  unfold f_X9_lifts at hf
  have j44_0 : ∀  (σ : ZT), f_X9_lifts_J44  σ = some out → ZW l G 3 X (ZQ G X (.returned (some (.int out.1))) out.2) σ 44 [] [] := by
    intro  σ hf
    unfold f_X9_lifts_J44 at hf
    refine z_iconst (q := 45) C (0 : Int32) dX9_lifts_44 ki_0 rfl ?_
    exact z_zreturn C rfl z_nb0 dX9_lifts_45 (Option.some.inj hf)
  refine z_aload_n (q := 1) (i := 0) C 0 dX9_lifts_0 rfl rfl rfl ?_
  refine z_getR (q := 4) C flX9_50 dX9_lifts_1 hf rfl fun v1 hf => ?_
  refine z_iload_n (q := 5) (i := 2) C 2 dX9_lifts_4 rfl rfl rfl ?_
  refine z_iald (q := 6) C dX9_lifts_5 hf rfl fun v2 hf => ?_
  refine z_aload_n (q := 7) (i := 0) C 0 dX9_lifts_6 rfl rfl rfl ?_
  refine z_getR (q := 10) C flX9_47 dX9_lifts_7 hf rfl fun v3 hf => ?_
  refine z_iload_n (q := 11) (i := 1) C 1 dX9_lifts_10 rfl rfl rfl ?_
  refine z_iald (q := 12) C dX9_lifts_11 hf rfl fun v4 hf => ?_
  refine z_icmpne (q := 15) (tgt := 44) C dX9_lifts_12 (by decide) rfl hf (fun c12 hf => ?_) (fun c12 hf => ?_)
  · refine z_lv [] rfl ?_
    exact j44_0  σ hf
  · refine z_aload_n (q := 16) (i := 0) C 0 dX9_lifts_15 rfl rfl rfl ?_
    refine z_iload_n (q := 17) (i := 1) C 1 dX9_lifts_16 rfl rfl rfl ?_
    refine z_callVi (q := 20) (As := [.int i1]) C (fun o ho => m_X9_loadOf _ _ _ ho) zk9 vvX9_306 cdX9_loadOf pnX9 dX9_lifts_17 rfl (by decide) (Nat.le_of_ble_eq_true rfl) hf rfl fun v5 σ hf => ?_
    refine z_iconst (q := 21) C (-1 : Int32) dX9_lifts_20 ki_m1 rfl ?_
    refine z_icmpne (q := 24) (tgt := 44) C dX9_lifts_21 (by decide) rfl hf (fun c21 hf => ?_) (fun c21 hf => ?_)
    · refine z_lv [] rfl ?_
      exact j44_0  σ hf
    · refine z_aload_n (q := 25) (i := 0) C 0 dX9_lifts_24 rfl rfl rfl ?_
      refine z_getR (q := 28) C flX9_7 dX9_lifts_25 hf rfl fun v6 hf => ?_
      refine z_bipush (q := 30) C (106 : Int32) dX9_lifts_28 kb_106 rfl ?_
      refine z_iconst (q := 31) C (2 : Int32) dX9_lifts_30 ki_2 rfl ?_
      refine z_iload_n (q := 32) (i := 2) C 2 dX9_lifts_31 rfl rfl rfl ?_
      refine z_imul (q := 33) C dX9_lifts_32 rfl ?_
      refine z_iadd (q := 34) C dX9_lifts_33 rfl ?_
      refine z_iald (q := 35) C dX9_lifts_34 hf rfl fun v7 hf => ?_
      refine z_aload_n (q := 36) (i := 0) C 0 dX9_lifts_35 rfl rfl rfl ?_
      refine z_iload_n (q := 37) (i := 1) C 1 dX9_lifts_36 rfl rfl rfl ?_
      refine z_iconst (q := 38) C (3 : Int32) dX9_lifts_37 ki_3 rfl ?_
      refine z_callVi (q := 41) (As := [.int i1, .int (3 : Int32)]) C (fun o ho => m_X9_ofPerson _ _ _ _ ho) zk9 vvX9_258 cdX9_ofPerson pnX9 dX9_lifts_38 rfl (by decide) (Nat.le_of_ble_eq_true rfl) hf rfl fun v8 σ hf => ?_
      refine z_icmple (q := 44) (tgt := 46) C dX9_lifts_41 (by decide) rfl hf (fun c41 hf => ?_) (fun c41 hf => ?_)
      · refine z_aload_n (q := 47) (i := 0) C 0 dX9_lifts_46 rfl rfl rfl ?_
        refine z_getR (q := 50) C flX9_50 dX9_lifts_47 hf rfl fun v9 hf => ?_
        refine z_iload_n (q := 51) (i := 2) C 2 dX9_lifts_50 rfl rfl rfl ?_
        refine z_bipush (q := 53) C (6 : Int32) dX9_lifts_51 kb_6 rfl ?_
        refine z_iload_n (q := 54) (i := 1) C 1 dX9_lifts_53 rfl rfl rfl ?_
        refine z_iadd (q := 55) C dX9_lifts_54 rfl ?_
        refine z_iast (q := 56) C dX9_lifts_55 hf rfl fun σ hf => ?_
        refine z_iconst (q := 57) C (1 : Int32) dX9_lifts_56 ki_1 rfl ?_
        exact z_zreturn C rfl z_nb1 dX9_lifts_57 (Option.some.inj hf)
      · refine z_lv [] rfl ?_
        exact j44_0  σ hf

noncomputable def f_X9_lift_J16 (a0_16 : Nat) (σ : ZT) : Option (Int32 × ZT) :=
  bnd2 (vc 9 a0_16 σ (f_X9_is a0_16 (1 : Int32) σ)) fun v7 σ =>
  (rz v7).bind fun z8 =>
  some (z8, σ)
noncomputable def f_X9_lift (a0 : Nat) (i1 : Int32) (i2 : Int32) (σ : ZT) : Option (Int32 × ZT) :=
  bnd2 (vc 9 a0 σ (f_X9_isPerson a0 i1 σ)) fun v1 σ =>
  if v1 = 0 then
  (f_X9_lift_J16 a0 σ)
  else
  (bnd2 (vc 9 a0 σ (f_X9_isLoad a0 i2 σ)) fun v2 σ =>
  if v2 = 0 then
  (f_X9_lift_J16 a0 σ)
  else
  ((vc 9 a0 σ (f_X9_takesNow a0 σ)).bind fun σ =>
  bnd2 (vc 9 a0 σ (f_X9_lifts a0 i1 i2 σ)) fun v4 σ =>
  bnd2 (vc 9 a0 σ (f_X9_doneOr a0 v4 σ)) fun v5 σ =>
  (rz v5).bind fun z6 =>
  some (z6, σ)))
set_option maxHeartbeats 4000000 in
theorem m_X9_lift {l : Launch} {G : ZG} (a0 : Nat) (i1 : Int32) (i2 : Int32) (σ : ZT) {out : (Int32 × ZT)} (hf : f_X9_lift a0 i1 i2 σ = some out) : ZM l G yX9_lift cX9_lift 3 (some .boolean) [] 3 [.ref a0, .int i1, .int i2] σ (.returned (some (.int out.1))) out.2 := by
  refine ZM.of [(0, .ref a0), (1, .int i1), (2, .int i2)] rfl (Nat.le_of_ble_eq_true rfl) fun X (C : ZC G RX9 "lift" cX9_lift 3 (some .boolean) [] X 3) => ?_
  unfold f_X9_lift at hf
  have j16_0 : ∀ (a0_16 : Nat) (σ : ZT), f_X9_lift_J16 a0_16 σ = some out → ZW l G 3 X (ZQ G X (.returned (some (.int out.1))) out.2) σ 16 [(0, .ref a0_16)] [] := by
    intro a0_16 σ hf
    unfold f_X9_lift_J16 at hf
    refine z_aload_n (q := 17) (i := 0) C 0 dX9_lift_16 rfl rfl rfl ?_
    refine z_iconst (q := 18) C (1 : Int32) dX9_lift_17 ki_1 rfl ?_
    refine z_callVi (q := 21) (As := [.int (1 : Int32)]) C (fun o ho => m_X9_is _ _ _ ho) zk9 vvX9_110 cdX9_is pnX9 dX9_lift_18 rfl (by decide) (Nat.le_of_ble_eq_true rfl) hf rfl fun v7 σ hf => ?_
    refine z_rz C hf fun hn hf => ?_
    exact z_zreturn C rfl hn dX9_lift_21 (Option.some.inj hf)
  refine z_aload_n (q := 1) (i := 0) C 0 dX9_lift_0 rfl rfl rfl ?_
  refine z_iload_n (q := 2) (i := 1) C 1 dX9_lift_1 rfl rfl rfl ?_
  refine z_callVi (q := 5) (As := [.int i1]) C (fun o ho => m_X9_isPerson _ _ _ ho) zk9 vvX9_297 cdX9_isPerson pnX9 dX9_lift_2 rfl (by decide) (Nat.le_of_ble_eq_true rfl) hf rfl fun v1 σ hf => ?_
  refine z_ifeq (q := 8) (tgt := 16) C dX9_lift_5 (by decide) rfl hf (fun c5 hf => ?_) (fun c5 hf => ?_)
  · refine z_lv [0] rfl ?_
    exact j16_0 a0 σ hf
  · refine z_aload_n (q := 9) (i := 0) C 0 dX9_lift_8 rfl rfl rfl ?_
    refine z_iload_n (q := 10) (i := 2) C 2 dX9_lift_9 rfl rfl rfl ?_
    refine z_callVi (q := 13) (As := [.int i2]) C (fun o ho => m_X9_isLoad _ _ _ ho) zk9 vvX9_321 cdX9_isLoad pnX9 dX9_lift_10 rfl (by decide) (Nat.le_of_ble_eq_true rfl) hf rfl fun v2 σ hf => ?_
    refine z_ifne (q := 16) (tgt := 22) C dX9_lift_13 (by decide) rfl hf (fun c13 hf => ?_) (fun c13 hf => ?_)
    · refine z_aload_n (q := 23) (i := 0) C 0 dX9_lift_22 rfl rfl rfl ?_
      refine z_callVv (q := 26) (As := []) C (fun o ho => m_X9_takesNow _ _ ho) zk9 vvX9_285 cdX9_takesNow pnX9 dX9_lift_23 rfl (by decide) (Nat.le_of_ble_eq_true rfl) hf rfl fun σ hf => ?_
      refine z_aload_n (q := 27) (i := 0) C 0 dX9_lift_26 rfl rfl rfl ?_
      refine z_aload_n (q := 28) (i := 0) C 0 dX9_lift_27 rfl rfl rfl ?_
      refine z_iload_n (q := 29) (i := 1) C 1 dX9_lift_28 rfl rfl rfl ?_
      refine z_iload_n (q := 30) (i := 2) C 2 dX9_lift_29 rfl rfl rfl ?_
      refine z_callVi (q := 33) (As := [.int i1, .int i2]) C (fun o ho => m_X9_lifts _ _ _ _ ho) zk9 vvX9_348 cdX9_lifts pnX9 dX9_lift_30 rfl (by decide) (Nat.le_of_ble_eq_true rfl) hf rfl fun v4 σ hf => ?_
      refine z_callVi (q := 36) (As := [.int v4]) C (fun o ho => m_X9_doneOr _ _ _ ho) zk9 vvX9_341 cdX9_doneOr pnX9 dX9_lift_33 rfl (by decide) (Nat.le_of_ble_eq_true rfl) hf rfl fun v5 σ hf => ?_
      refine z_rz C hf fun hn hf => ?_
      exact z_zreturn C rfl hn dX9_lift_36 (Option.some.inj hf)
    · refine z_lv [0] rfl ?_
      exact j16_0 a0 σ hf

noncomputable def f_X9_drops (a0 : Nat) (i1 : Int32) (σ : ZT) : Option (Int32 × ZT) :=
  bnd2 (vc 9 a0 σ (f_X9_loadOf a0 i1 σ)) fun v1 σ =>
  if v1 = (-1 : Int32) then
  (some ((0 : Int32), σ))
  else
  ((gR 9 925 a0 σ).bind fun v2 =>
  (gR 9 924 a0 σ).bind fun v3 =>
  (ldI 0 v3 i1 σ).bind fun v4 =>
  (stI v2 v1 v4 σ).bind fun σ =>
  some ((1 : Int32), σ))
set_option maxHeartbeats 4000000 in
theorem m_X9_drops {l : Launch} {G : ZG} (a0 : Nat) (i1 : Int32) (σ : ZT) {out : (Int32 × ZT)} (hf : f_X9_drops a0 i1 σ = some out) : ZM l G yX9_drops cX9_drops 3 (some .boolean) [] 2 [.ref a0, .int i1] σ (.returned (some (.int out.1))) out.2 := by
  refine ZM.of [(0, .ref a0), (1, .int i1)] rfl (Nat.le_of_ble_eq_true rfl) fun X (C : ZC G RX9 "drops" cX9_drops 3 (some .boolean) [] X 2) => ?_
  unfold f_X9_drops at hf
  refine z_aload_n (q := 1) (i := 0) C 0 dX9_drops_0 rfl rfl rfl ?_
  refine z_iload_n (q := 2) (i := 1) C 1 dX9_drops_1 rfl rfl rfl ?_
  refine z_callVi (q := 5) (As := [.int i1]) C (fun o ho => m_X9_loadOf _ _ _ ho) zk9 vvX9_306 cdX9_loadOf pnX9 dX9_drops_2 rfl (by decide) (Nat.le_of_ble_eq_true rfl) hf rfl fun v1 σ hf => ?_
  refine z_istore_n (q := 6) (i := 2) (lv' := [(2, .int v1), (0, .ref a0), (1, .int i1)]) C dX9_drops_5 rfl (by decide) rfl rfl ?_
  refine z_iload_n (q := 7) (i := 2) C 0 dX9_drops_6 rfl rfl rfl ?_
  refine z_iconst (q := 8) C (-1 : Int32) dX9_drops_7 ki_m1 rfl ?_
  refine z_icmpne (q := 11) (tgt := 13) C dX9_drops_8 (by decide) rfl hf (fun c8 hf => ?_) (fun c8 hf => ?_)
  · refine z_aload_n (q := 14) (i := 0) C 1 dX9_drops_13 rfl rfl rfl ?_
    refine z_getR (q := 17) C flX9_50 dX9_drops_14 hf rfl fun v2 hf => ?_
    refine z_iload_n (q := 18) (i := 2) C 0 dX9_drops_17 rfl rfl rfl ?_
    refine z_aload_n (q := 19) (i := 0) C 1 dX9_drops_18 rfl rfl rfl ?_
    refine z_getR (q := 22) C flX9_47 dX9_drops_19 hf rfl fun v3 hf => ?_
    refine z_iload_n (q := 23) (i := 1) C 2 dX9_drops_22 rfl rfl rfl ?_
    refine z_iald (q := 24) C dX9_drops_23 hf rfl fun v4 hf => ?_
    refine z_iast (q := 25) C dX9_drops_24 hf rfl fun σ hf => ?_
    refine z_iconst (q := 26) C (1 : Int32) dX9_drops_25 ki_1 rfl ?_
    exact z_zreturn C rfl z_nb1 dX9_drops_26 (Option.some.inj hf)
  · refine z_iconst (q := 12) C (0 : Int32) dX9_drops_11 ki_0 rfl ?_
    exact z_zreturn C rfl z_nb0 dX9_drops_12 (Option.some.inj hf)

noncomputable def f_X9_drop (a0 : Nat) (i1 : Int32) (σ : ZT) : Option (Int32 × ZT) :=
  bnd2 (vc 9 a0 σ (f_X9_isPerson a0 i1 σ)) fun v1 σ =>
  if v1 = 0 then
  (bnd2 (vc 9 a0 σ (f_X9_is a0 (1 : Int32) σ)) fun v6 σ =>
  (rz v6).bind fun z7 =>
  some (z7, σ))
  else
  ((vc 9 a0 σ (f_X9_takesNow a0 σ)).bind fun σ =>
  bnd2 (vc 9 a0 σ (f_X9_drops a0 i1 σ)) fun v3 σ =>
  bnd2 (vc 9 a0 σ (f_X9_doneOr a0 v3 σ)) fun v4 σ =>
  (rz v4).bind fun z5 =>
  some (z5, σ))
set_option maxHeartbeats 4000000 in
theorem m_X9_drop {l : Launch} {G : ZG} (a0 : Nat) (i1 : Int32) (σ : ZT) {out : (Int32 × ZT)} (hf : f_X9_drop a0 i1 σ = some out) : ZM l G yX9_drop cX9_drop 2 (some .boolean) [] 3 [.ref a0, .int i1] σ (.returned (some (.int out.1))) out.2 := by
  refine ZM.of [(0, .ref a0), (1, .int i1)] rfl (Nat.le_of_ble_eq_true rfl) fun X (C : ZC G RX9 "drop" cX9_drop 2 (some .boolean) [] X 3) => ?_
  unfold f_X9_drop at hf
  refine z_aload_n (q := 1) (i := 0) C 0 dX9_drop_0 rfl rfl rfl ?_
  refine z_iload_n (q := 2) (i := 1) C 1 dX9_drop_1 rfl rfl rfl ?_
  refine z_callVi (q := 5) (As := [.int i1]) C (fun o ho => m_X9_isPerson _ _ _ ho) zk9 vvX9_297 cdX9_isPerson pnX9 dX9_drop_2 rfl (by decide) (Nat.le_of_ble_eq_true rfl) hf rfl fun v1 σ hf => ?_
  refine z_ifne (q := 8) (tgt := 14) C dX9_drop_5 (by decide) rfl hf (fun c5 hf => ?_) (fun c5 hf => ?_)
  · refine z_aload_n (q := 15) (i := 0) C 0 dX9_drop_14 rfl rfl rfl ?_
    refine z_callVv (q := 18) (As := []) C (fun o ho => m_X9_takesNow _ _ ho) zk9 vvX9_285 cdX9_takesNow pnX9 dX9_drop_15 rfl (by decide) (Nat.le_of_ble_eq_true rfl) hf rfl fun σ hf => ?_
    refine z_aload_n (q := 19) (i := 0) C 0 dX9_drop_18 rfl rfl rfl ?_
    refine z_aload_n (q := 20) (i := 0) C 0 dX9_drop_19 rfl rfl rfl ?_
    refine z_iload_n (q := 21) (i := 1) C 1 dX9_drop_20 rfl rfl rfl ?_
    refine z_callVi (q := 24) (As := [.int i1]) C (fun o ho => m_X9_drops _ _ _ ho) zk9 vvX9_351 cdX9_drops pnX9 dX9_drop_21 rfl (by decide) (Nat.le_of_ble_eq_true rfl) hf rfl fun v3 σ hf => ?_
    refine z_callVi (q := 27) (As := [.int v3]) C (fun o ho => m_X9_doneOr _ _ _ ho) zk9 vvX9_341 cdX9_doneOr pnX9 dX9_drop_24 rfl (by decide) (Nat.le_of_ble_eq_true rfl) hf rfl fun v4 σ hf => ?_
    refine z_rz C hf fun hn hf => ?_
    exact z_zreturn C rfl hn dX9_drop_27 (Option.some.inj hf)
  · refine z_aload_n (q := 9) (i := 0) C 0 dX9_drop_8 rfl rfl rfl ?_
    refine z_iconst (q := 10) C (1 : Int32) dX9_drop_9 ki_1 rfl ?_
    refine z_callVi (q := 13) (As := [.int (1 : Int32)]) C (fun o ho => m_X9_is _ _ _ ho) zk9 vvX9_110 cdX9_is pnX9 dX9_drop_10 rfl (by decide) (Nat.le_of_ble_eq_true rfl) hf rfl fun v6 σ hf => ?_
    refine z_rz C hf fun hn hf => ?_
    exact z_zreturn C rfl hn dX9_drop_13 (Option.some.inj hf)

noncomputable def f_X9_adds (a0 : Nat) (i1 : Int32) (i2 : Int32) (i3 : Int32) (i4 : Int32) (σ : ZT) : Option ZT :=
  (gR 9 929 a0 σ).bind fun v1 =>
  (gI 9 933 a0 σ).bind fun v2 =>
  (stI v1 v2 i1 σ).bind fun σ =>
  (gR 9 930 a0 σ).bind fun v3 =>
  (gI 9 933 a0 σ).bind fun v4 =>
  (stI v3 v4 i2 σ).bind fun σ =>
  (gR 9 931 a0 σ).bind fun v5 =>
  (gI 9 933 a0 σ).bind fun v6 =>
  (stI v5 v6 i3 σ).bind fun σ =>
  (gR 9 932 a0 σ).bind fun v7 =>
  (gI 9 933 a0 σ).bind fun v8 =>
  (stI v7 v8 i4 σ).bind fun σ =>
  (gI 9 933 a0 σ).bind fun v9 =>
  (pI 9 933 a0 (v9 + (1 : Int32)) σ).bind fun σ =>
  some σ
set_option maxHeartbeats 4000000 in
theorem m_X9_adds {l : Launch} {G : ZG} (a0 : Nat) (i1 : Int32) (i2 : Int32) (i3 : Int32) (i4 : Int32) (σ : ZT) {out : ZT} (hf : f_X9_adds a0 i1 i2 i3 i4 σ = some out) : ZM l G yX9_adds cX9_adds 5 none [] 1 [.ref a0, .int i1, .int i2, .int i3, .int i4] σ (.returned none) out := by
  refine ZM.of [(0, .ref a0), (1, .int i1), (2, .int i2), (3, .int i3), (4, .int i4)] rfl (Nat.le_of_ble_eq_true rfl) fun X (C : ZC G RX9 "adds" cX9_adds 5 none [] X 1) => ?_
  unfold f_X9_adds at hf
  refine z_aload_n (q := 1) (i := 0) C 0 dX9_adds_0 rfl rfl rfl ?_
  refine z_getR (q := 4) C flX9_56 dX9_adds_1 hf rfl fun v1 hf => ?_
  refine z_aload_n (q := 5) (i := 0) C 0 dX9_adds_4 rfl rfl rfl ?_
  refine z_getI (q := 8) C flX9_354 dX9_adds_5 hf rfl fun v2 hf => ?_
  refine z_iload_n (q := 9) (i := 1) C 1 dX9_adds_8 rfl rfl rfl ?_
  refine z_iast (q := 10) C dX9_adds_9 hf rfl fun σ hf => ?_
  refine z_aload_n (q := 11) (i := 0) C 0 dX9_adds_10 rfl rfl rfl ?_
  refine z_getR (q := 14) C flX9_59 dX9_adds_11 hf rfl fun v3 hf => ?_
  refine z_aload_n (q := 15) (i := 0) C 0 dX9_adds_14 rfl rfl rfl ?_
  refine z_getI (q := 18) C flX9_354 dX9_adds_15 hf rfl fun v4 hf => ?_
  refine z_iload_n (q := 19) (i := 2) C 2 dX9_adds_18 rfl rfl rfl ?_
  refine z_iast (q := 20) C dX9_adds_19 hf rfl fun σ hf => ?_
  refine z_aload_n (q := 21) (i := 0) C 0 dX9_adds_20 rfl rfl rfl ?_
  refine z_getR (q := 24) C flX9_62 dX9_adds_21 hf rfl fun v5 hf => ?_
  refine z_aload_n (q := 25) (i := 0) C 0 dX9_adds_24 rfl rfl rfl ?_
  refine z_getI (q := 28) C flX9_354 dX9_adds_25 hf rfl fun v6 hf => ?_
  refine z_iload_n (q := 29) (i := 3) C 3 dX9_adds_28 rfl rfl rfl ?_
  refine z_iast (q := 30) C dX9_adds_29 hf rfl fun σ hf => ?_
  refine z_aload_n (q := 31) (i := 0) C 0 dX9_adds_30 rfl rfl rfl ?_
  refine z_getR (q := 34) C flX9_65 dX9_adds_31 hf rfl fun v7 hf => ?_
  refine z_aload_n (q := 35) (i := 0) C 0 dX9_adds_34 rfl rfl rfl ?_
  refine z_getI (q := 38) C flX9_354 dX9_adds_35 hf rfl fun v8 hf => ?_
  refine z_iload (q := 40) (i := 4) C 4 dX9_adds_38 rfl rfl ?_
  refine z_iast (q := 41) C dX9_adds_40 hf rfl fun σ hf => ?_
  refine z_aload_n (q := 42) (i := 0) C 0 dX9_adds_41 rfl rfl rfl ?_
  refine z_dup (q := 43) C dX9_adds_42 rfl rfl ?_
  refine z_getI (q := 46) C flX9_354 dX9_adds_43 hf rfl fun v9 hf => ?_
  refine z_iconst (q := 47) C (1 : Int32) dX9_adds_46 ki_1 rfl ?_
  refine z_iadd (q := 48) C dX9_adds_47 rfl ?_
  refine z_putI (q := 51) C puX9_354 dX9_adds_48 hf rfl fun σ hf => ?_
  exact z_return C rfl dX9_adds_51 (Option.some.inj hf)

noncomputable def f_X9_laysMoves_L149 (c0_149 : Nat) (c1_149 : Int32) (i_6 : Int32) (σ : ZT) : Option ((Int32 × ZT) ⊕ ZT) :=
  if i_6 < c1_149 then
  ((vc 9 c0_149 σ (f_X9_adds c0_149 (3 : Int32) i_6 (-1 : Int32) (-1 : Int32) σ)).bind fun σ =>
  some (.inl ((i_6 + (1 : Int32)), σ)))
  else
  (some (.inr σ))
noncomputable def f_X9_laysMoves_L117 (c0_117 : Nat) (c1_117 : Int32) (c2_117 : Int32) (i_8 : Int32) (σ : ZT) : Option ((Int32 × ZT) ⊕ ZT) :=
  (gR 9 900 c0_117 σ).bind fun v9 =>
  (ldI 0 v9 (3 : Int32) σ).bind fun v10 =>
  if i_8 < v10 then
  ((vc 9 c0_117 σ (f_X9_adds c0_117 (2 : Int32) c2_117 (-1 : Int32) i_8 σ)).bind fun σ =>
  some (.inl ((i_8 + (1 : Int32)), σ)))
  else
  (some (.inr σ))
noncomputable def f_X9_laysMoves_L110 (c0_110 : Nat) (c1_110 : Int32) (i_5 : Int32) (σ : ZT) : Option ((Int32 × ZT) ⊕ ZT) :=
  if i_5 < c1_110 then
  ((loopC (fun s : (Int32 × ZT) => f_X9_laysMoves_L117 c0_110 c1_110 i_5 s.1 s.2) ((0 : Int32), σ)).bind fun σ =>
  some (.inl ((i_5 + (1 : Int32)), σ)))
  else
  (some (.inr σ))
noncomputable def f_X9_laysMoves_L70 (c0_70 : Nat) (c1_70 : Int32) (c2_70 : Int32) (c3_70 : Int32) (i_15 : Int32) (σ : ZT) : Option ((Int32 × ZT) ⊕ ZT) :=
  (gR 9 900 c0_70 σ).bind fun v16 =>
  (ldI 0 v16 (1 : Int32) σ).bind fun v17 =>
  if i_15 < v17 then
  ((vc 9 c0_70 σ (f_X9_adds c0_70 (1 : Int32) c2_70 c3_70 i_15 σ)).bind fun σ =>
  some (.inl ((i_15 + (1 : Int32)), σ)))
  else
  (some (.inr σ))
noncomputable def f_X9_laysMoves_L62 (c0_62 : Nat) (c1_62 : Int32) (c2_62 : Int32) (i_14 : Int32) (σ : ZT) : Option ((Int32 × ZT) ⊕ ZT) :=
  if i_14 < c1_62 then
  ((loopC (fun s : (Int32 × ZT) => f_X9_laysMoves_L70 c0_62 c1_62 c2_62 i_14 s.1 s.2) ((0 : Int32), σ)).bind fun σ =>
  some (.inl ((i_14 + (1 : Int32)), σ)))
  else
  (some (.inr σ))
noncomputable def f_X9_laysMoves_L53 (c0_53 : Nat) (c1_53 : Int32) (i_4 : Int32) (σ : ZT) : Option ((Int32 × ZT) ⊕ ZT) :=
  if i_4 < c1_53 then
  ((loopC (fun s : (Int32 × ZT) => f_X9_laysMoves_L62 c0_53 c1_53 i_4 s.1 s.2) ((i_4 + (1 : Int32)), σ)).bind fun σ =>
  some (.inl ((i_4 + (1 : Int32)), σ)))
  else
  (some (.inr σ))
noncomputable def f_X9_laysMoves_L21 (c0_21 : Nat) (c1_21 : Int32) (c2_21 : Int32) (i_28 : Int32) (σ : ZT) : Option ((Int32 × ZT) ⊕ ZT) :=
  (gR 9 900 c0_21 σ).bind fun v29 =>
  (ldI 0 v29 (1 : Int32) σ).bind fun v30 =>
  if i_28 < v30 then
  ((vc 9 c0_21 σ (f_X9_adds c0_21 (0 : Int32) c2_21 (-1 : Int32) i_28 σ)).bind fun σ =>
  some (.inl ((i_28 + (1 : Int32)), σ)))
  else
  (some (.inr σ))
noncomputable def f_X9_laysMoves_L14 (c0_14 : Nat) (c1_14 : Int32) (i_3 : Int32) (σ : ZT) : Option ((Int32 × ZT) ⊕ ZT) :=
  if i_3 < c1_14 then
  ((loopC (fun s : (Int32 × ZT) => f_X9_laysMoves_L21 c0_14 c1_14 i_3 s.1 s.2) ((0 : Int32), σ)).bind fun σ =>
  some (.inl ((i_3 + (1 : Int32)), σ)))
  else
  (some (.inr σ))
noncomputable def f_X9_laysMoves (a0 : Nat) (σ : ZT) : Option ZT :=
  (pI 9 933 a0 (0 : Int32) σ).bind fun σ =>
  (gR 9 900 a0 σ).bind fun v1 =>
  (ldI 0 v1 (2 : Int32) σ).bind fun v2 =>
  (loopC (fun s : (Int32 × ZT) => f_X9_laysMoves_L14 a0 v2 s.1 s.2) ((0 : Int32), σ)).bind fun σ =>
  (loopC (fun s : (Int32 × ZT) => f_X9_laysMoves_L53 a0 v2 s.1 s.2) ((0 : Int32), σ)).bind fun σ =>
  (loopC (fun s : (Int32 × ZT) => f_X9_laysMoves_L110 a0 v2 s.1 s.2) ((0 : Int32), σ)).bind fun σ =>
  (loopC (fun s : (Int32 × ZT) => f_X9_laysMoves_L149 a0 v2 s.1 s.2) ((0 : Int32), σ)).bind fun σ =>
  some σ
set_option maxHeartbeats 4000000 in
theorem m_X9_laysMoves {l : Launch} {G : ZG} (a0 : Nat) (σ : ZT) {out : ZT} (hf : f_X9_laysMoves a0 σ = some out) : ZM l G yX9_laysMoves cX9_laysMoves 5 none [] 2 [.ref a0] σ (.returned none) out := by
  refine ZM.of [(0, .ref a0)] rfl (Nat.le_of_ble_eq_true rfl) fun X (C : ZC G RX9 "laysMoves" cX9_laysMoves 5 none [] X 2) => ?_
  unfold f_X9_laysMoves at hf
  refine z_aload_n (q := 1) (i := 0) C 0 dX9_laysMoves_0 rfl rfl rfl ?_
  refine z_iconst (q := 2) C (0 : Int32) dX9_laysMoves_1 ki_0 rfl ?_
  refine z_putI (q := 5) C puX9_354 dX9_laysMoves_2 hf rfl fun σ hf => ?_
  refine z_aload_n (q := 6) (i := 0) C 0 dX9_laysMoves_5 rfl rfl rfl ?_
  refine z_getR (q := 9) C flX9_7 dX9_laysMoves_6 hf rfl fun v1 hf => ?_
  refine z_iconst (q := 10) C (2 : Int32) dX9_laysMoves_9 ki_2 rfl ?_
  refine z_iald (q := 11) C dX9_laysMoves_10 hf rfl fun v2 hf => ?_
  refine z_istore_n (q := 12) (i := 1) (lv' := [(1, .int v2), (0, .ref a0)]) C dX9_laysMoves_11 rfl (by decide) rfl rfl ?_
  refine z_iconst (q := 13) C (0 : Int32) dX9_laysMoves_12 ki_0 rfl ?_
  refine z_istore_n (q := 14) (i := 2) (lv' := [(2, .int (0 : Int32)), (1, .int v2), (0, .ref a0)]) C dX9_laysMoves_13 rfl (by decide) rfl rfl ?_
  refine z_lv [2, 1, 0] rfl ?_
  obtain ⟨r1, hr1, hk1⟩ := Option.bind_eq_some_iff.mp hf
  refine loopC_ind (P := fun s => ZW l G 5 X (ZQ G X (.returned none) out) s.2 14 [(0, .ref a0), (1, .int v2), (2, .int s.1)] []) (fun s x1 hf hx1 => ?_) hr1
  obtain ⟨i_3, σ⟩ := s
  unfold f_X9_laysMoves_L14 at hf
  try dsimp only at hf
  try dsimp only
  refine z_iload_n (q := 15) (i := 2) C 2 dX9_laysMoves_14 rfl rfl rfl ?_
  refine z_iload_n (q := 16) (i := 1) C 1 dX9_laysMoves_15 rfl rfl rfl ?_
  refine z_icmpge (q := 19) (tgt := 51) C dX9_laysMoves_16 (by decide) rfl hf (fun c16 hf => ?_) (fun c16 hf => ?_)
  · have e1 := zl_x hf hx1
    have hf := hk1
    rw [← e1] at hf
    try dsimp only at hf
    refine z_iconst (q := 52) C (0 : Int32) dX9_laysMoves_51 ki_0 rfl ?_
    refine z_istore_n (q := 53) (i := 2) (lv' := [(2, .int (0 : Int32)), (0, .ref a0), (1, .int v2)]) C dX9_laysMoves_52 rfl (by decide) rfl rfl ?_
    refine z_lv [1, 2, 0] rfl ?_
    obtain ⟨r1, hr1, hk1⟩ := Option.bind_eq_some_iff.mp hf
    refine loopC_ind (P := fun s => ZW l G 5 X (ZQ G X (.returned none) out) s.2 53 [(0, .ref a0), (1, .int v2), (2, .int s.1)] []) (fun s x1 hf hx1 => ?_) hr1
    obtain ⟨i_4, σ⟩ := s
    unfold f_X9_laysMoves_L53 at hf
    try dsimp only at hf
    try dsimp only
    refine z_iload_n (q := 54) (i := 2) C 2 dX9_laysMoves_53 rfl rfl rfl ?_
    refine z_iload_n (q := 55) (i := 1) C 1 dX9_laysMoves_54 rfl rfl rfl ?_
    refine z_icmpge (q := 58) (tgt := 108) C dX9_laysMoves_55 (by decide) rfl hf (fun c55 hf => ?_) (fun c55 hf => ?_)
    · have e1 := zl_x hf hx1
      have hf := hk1
      rw [← e1] at hf
      try dsimp only at hf
      refine z_iconst (q := 109) C (0 : Int32) dX9_laysMoves_108 ki_0 rfl ?_
      refine z_istore_n (q := 110) (i := 2) (lv' := [(2, .int (0 : Int32)), (0, .ref a0), (1, .int v2)]) C dX9_laysMoves_109 rfl (by decide) rfl rfl ?_
      refine z_lv [1, 2, 0] rfl ?_
      obtain ⟨r1, hr1, hk1⟩ := Option.bind_eq_some_iff.mp hf
      refine loopC_ind (P := fun s => ZW l G 5 X (ZQ G X (.returned none) out) s.2 110 [(0, .ref a0), (1, .int v2), (2, .int s.1)] []) (fun s x1 hf hx1 => ?_) hr1
      obtain ⟨i_5, σ⟩ := s
      unfold f_X9_laysMoves_L110 at hf
      try dsimp only at hf
      try dsimp only
      refine z_iload_n (q := 111) (i := 2) C 2 dX9_laysMoves_110 rfl rfl rfl ?_
      refine z_iload_n (q := 112) (i := 1) C 1 dX9_laysMoves_111 rfl rfl rfl ?_
      refine z_icmpge (q := 115) (tgt := 147) C dX9_laysMoves_112 (by decide) rfl hf (fun c112 hf => ?_) (fun c112 hf => ?_)
      · have e1 := zl_x hf hx1
        have hf := hk1
        rw [← e1] at hf
        try dsimp only at hf
        refine z_iconst (q := 148) C (0 : Int32) dX9_laysMoves_147 ki_0 rfl ?_
        refine z_istore_n (q := 149) (i := 2) (lv' := [(2, .int (0 : Int32)), (0, .ref a0), (1, .int v2)]) C dX9_laysMoves_148 rfl (by decide) rfl rfl ?_
        refine z_lv [1, 2, 0] rfl ?_
        obtain ⟨r1, hr1, hk1⟩ := Option.bind_eq_some_iff.mp hf
        refine loopC_ind (P := fun s => ZW l G 5 X (ZQ G X (.returned none) out) s.2 149 [(0, .ref a0), (1, .int v2), (2, .int s.1)] []) (fun s x1 hf hx1 => ?_) hr1
        obtain ⟨i_6, σ⟩ := s
        unfold f_X9_laysMoves_L149 at hf
        try dsimp only at hf
        try dsimp only
        refine z_iload_n (q := 150) (i := 2) C 2 dX9_laysMoves_149 rfl rfl rfl ?_
        refine z_iload_n (q := 151) (i := 1) C 1 dX9_laysMoves_150 rfl rfl rfl ?_
        refine z_icmpge (q := 154) (tgt := 168) C dX9_laysMoves_151 (by decide) rfl hf (fun c151 hf => ?_) (fun c151 hf => ?_)
        · have e1 := zl_x hf hx1
          have hf := hk1
          rw [← e1] at hf
          try dsimp only at hf
          exact z_return C rfl dX9_laysMoves_168 (Option.some.inj hf)
        · refine z_aload_n (q := 155) (i := 0) C 0 dX9_laysMoves_154 rfl rfl rfl ?_
          refine z_iconst (q := 156) C (3 : Int32) dX9_laysMoves_155 ki_3 rfl ?_
          refine z_iload_n (q := 157) (i := 2) C 2 dX9_laysMoves_156 rfl rfl rfl ?_
          refine z_iconst (q := 158) C (-1 : Int32) dX9_laysMoves_157 ki_m1 rfl ?_
          refine z_iconst (q := 159) C (-1 : Int32) dX9_laysMoves_158 ki_m1 rfl ?_
          refine z_callVv (q := 162) (As := [.int (3 : Int32), .int i_6, .int (-1 : Int32), .int (-1 : Int32)]) C (fun o ho => m_X9_adds _ _ _ _ _ _ ho) zk9 vvX9_357 cdX9_adds pnX9 dX9_laysMoves_159 rfl (by decide) (Nat.le_of_ble_eq_true rfl) hf rfl fun σ hf => ?_
          refine z_iinc (q := 165) (i := 2) (lv' := [(2, .int (i_6 + (1 : Int32))), (0, .ref a0), (1, .int v2)]) C 2 (i_6 + (1 : Int32)) dX9_laysMoves_162 rfl (kn_1 _) (by decide) rfl rfl ?_
          refine z_goto (q := 149) C dX9_laysMoves_165 (by decide) ?_
          refine z_lv [1, 2, 0] rfl ?_
          have hc1 := zl_c hf hx1
          exact hc1
      · refine z_iconst (q := 116) C (0 : Int32) dX9_laysMoves_115 ki_0 rfl ?_
        refine z_istore_n (q := 117) (i := 3) (lv' := [(3, .int (0 : Int32)), (0, .ref a0), (1, .int v2), (2, .int i_5)]) C dX9_laysMoves_116 rfl (by decide) rfl rfl ?_
        refine z_lv [1, 2, 3, 0] rfl ?_
        obtain ⟨r2, hr2, hk2⟩ := Option.bind_eq_some_iff.mp hf
        refine loopC_ind (P := fun s => ZW l G 5 X (ZQ G X (.returned none) out) s.2 117 [(0, .ref a0), (1, .int v2), (2, .int i_5), (3, .int s.1)] []) (fun s x2 hf hx2 => ?_) hr2
        obtain ⟨i_8, σ⟩ := s
        unfold f_X9_laysMoves_L117 at hf
        try dsimp only at hf
        try dsimp only
        refine z_iload_n (q := 118) (i := 3) C 3 dX9_laysMoves_117 rfl rfl rfl ?_
        refine z_aload_n (q := 119) (i := 0) C 0 dX9_laysMoves_118 rfl rfl rfl ?_
        refine z_getR (q := 122) C flX9_7 dX9_laysMoves_119 hf rfl fun v9 hf => ?_
        refine z_iconst (q := 123) C (3 : Int32) dX9_laysMoves_122 ki_3 rfl ?_
        refine z_iald (q := 124) C dX9_laysMoves_123 hf rfl fun v10 hf => ?_
        refine z_icmpge (q := 127) (tgt := 141) C dX9_laysMoves_124 (by decide) rfl hf (fun c124 hf => ?_) (fun c124 hf => ?_)
        · have e2 := zl_x hf hx2
          have hf := hk2
          rw [← e2] at hf
          try dsimp only at hf
          refine z_iinc (q := 144) (i := 2) (lv' := [(2, .int (i_5 + (1 : Int32))), (0, .ref a0), (1, .int v2), (3, .int i_8)]) C 2 (i_5 + (1 : Int32)) dX9_laysMoves_141 rfl (kn_1 _) (by decide) rfl rfl ?_
          refine z_goto (q := 110) C dX9_laysMoves_144 (by decide) ?_
          refine z_lv [1, 2, 0] rfl ?_
          have hc1 := zl_c hf hx1
          exact hc1
        · refine z_aload_n (q := 128) (i := 0) C 0 dX9_laysMoves_127 rfl rfl rfl ?_
          refine z_iconst (q := 129) C (2 : Int32) dX9_laysMoves_128 ki_2 rfl ?_
          refine z_iload_n (q := 130) (i := 2) C 2 dX9_laysMoves_129 rfl rfl rfl ?_
          refine z_iconst (q := 131) C (-1 : Int32) dX9_laysMoves_130 ki_m1 rfl ?_
          refine z_iload_n (q := 132) (i := 3) C 3 dX9_laysMoves_131 rfl rfl rfl ?_
          refine z_callVv (q := 135) (As := [.int (2 : Int32), .int i_5, .int (-1 : Int32), .int i_8]) C (fun o ho => m_X9_adds _ _ _ _ _ _ ho) zk9 vvX9_357 cdX9_adds pnX9 dX9_laysMoves_132 rfl (by decide) (Nat.le_of_ble_eq_true rfl) hf rfl fun σ hf => ?_
          refine z_iinc (q := 138) (i := 3) (lv' := [(3, .int (i_8 + (1 : Int32))), (0, .ref a0), (1, .int v2), (2, .int i_5)]) C 3 (i_8 + (1 : Int32)) dX9_laysMoves_135 rfl (kn_1 _) (by decide) rfl rfl ?_
          refine z_goto (q := 117) C dX9_laysMoves_138 (by decide) ?_
          refine z_lv [1, 2, 3, 0] rfl ?_
          have hc2 := zl_c hf hx2
          exact hc2
    · refine z_iload_n (q := 59) (i := 2) C 2 dX9_laysMoves_58 rfl rfl rfl ?_
      refine z_iconst (q := 60) C (1 : Int32) dX9_laysMoves_59 ki_1 rfl ?_
      refine z_iadd (q := 61) C dX9_laysMoves_60 rfl ?_
      refine z_istore_n (q := 62) (i := 3) (lv' := [(3, .int (i_4 + (1 : Int32))), (0, .ref a0), (1, .int v2), (2, .int i_4)]) C dX9_laysMoves_61 rfl (by decide) rfl rfl ?_
      refine z_lv [1, 2, 3, 0] rfl ?_
      obtain ⟨r2, hr2, hk2⟩ := Option.bind_eq_some_iff.mp hf
      refine loopC_ind (P := fun s => ZW l G 5 X (ZQ G X (.returned none) out) s.2 62 [(0, .ref a0), (1, .int v2), (2, .int i_4), (3, .int s.1)] []) (fun s x2 hf hx2 => ?_) hr2
      obtain ⟨i_12, σ⟩ := s
      unfold f_X9_laysMoves_L62 at hf
      try dsimp only at hf
      try dsimp only
      refine z_iload_n (q := 63) (i := 3) C 3 dX9_laysMoves_62 rfl rfl rfl ?_
      refine z_iload_n (q := 64) (i := 1) C 1 dX9_laysMoves_63 rfl rfl rfl ?_
      refine z_icmpge (q := 67) (tgt := 102) C dX9_laysMoves_64 (by decide) rfl hf (fun c64 hf => ?_) (fun c64 hf => ?_)
      · have e2 := zl_x hf hx2
        have hf := hk2
        rw [← e2] at hf
        try dsimp only at hf
        refine z_iinc (q := 105) (i := 2) (lv' := [(2, .int (i_4 + (1 : Int32))), (0, .ref a0), (1, .int v2), (3, .int i_12)]) C 2 (i_4 + (1 : Int32)) dX9_laysMoves_102 rfl (kn_1 _) (by decide) rfl rfl ?_
        refine z_goto (q := 53) C dX9_laysMoves_105 (by decide) ?_
        refine z_lv [1, 2, 0] rfl ?_
        have hc1 := zl_c hf hx1
        exact hc1
      · refine z_iconst (q := 68) C (0 : Int32) dX9_laysMoves_67 ki_0 rfl ?_
        refine z_istore (q := 70) (i := 4) (lv' := [(4, .int (0 : Int32)), (0, .ref a0), (1, .int v2), (2, .int i_4), (3, .int i_12)]) C dX9_laysMoves_68 (by decide) rfl rfl ?_
        refine z_lv [1, 2, 3, 4, 0] rfl ?_
        obtain ⟨r3, hr3, hk3⟩ := Option.bind_eq_some_iff.mp hf
        refine loopC_ind (P := fun s => ZW l G 5 X (ZQ G X (.returned none) out) s.2 70 [(0, .ref a0), (1, .int v2), (2, .int i_4), (3, .int i_12), (4, .int s.1)] []) (fun s x3 hf hx3 => ?_) hr3
        obtain ⟨i_13, σ⟩ := s
        unfold f_X9_laysMoves_L70 at hf
        try dsimp only at hf
        try dsimp only
        refine z_iload (q := 72) (i := 4) C 4 dX9_laysMoves_70 rfl rfl ?_
        refine z_aload_n (q := 73) (i := 0) C 0 dX9_laysMoves_72 rfl rfl rfl ?_
        refine z_getR (q := 76) C flX9_7 dX9_laysMoves_73 hf rfl fun v14 hf => ?_
        refine z_iconst (q := 77) C (1 : Int32) dX9_laysMoves_76 ki_1 rfl ?_
        refine z_iald (q := 78) C dX9_laysMoves_77 hf rfl fun v15 hf => ?_
        refine z_icmpge (q := 81) (tgt := 96) C dX9_laysMoves_78 (by decide) rfl hf (fun c78 hf => ?_) (fun c78 hf => ?_)
        · have e3 := zl_x hf hx3
          have hf := hk3
          rw [← e3] at hf
          try dsimp only at hf
          refine z_iinc (q := 99) (i := 3) (lv' := [(3, .int (i_12 + (1 : Int32))), (0, .ref a0), (1, .int v2), (2, .int i_4), (4, .int i_13)]) C 3 (i_12 + (1 : Int32)) dX9_laysMoves_96 rfl (kn_1 _) (by decide) rfl rfl ?_
          refine z_goto (q := 62) C dX9_laysMoves_99 (by decide) ?_
          refine z_lv [1, 2, 3, 0] rfl ?_
          have hc2 := zl_c hf hx2
          exact hc2
        · refine z_aload_n (q := 82) (i := 0) C 0 dX9_laysMoves_81 rfl rfl rfl ?_
          refine z_iconst (q := 83) C (1 : Int32) dX9_laysMoves_82 ki_1 rfl ?_
          refine z_iload_n (q := 84) (i := 2) C 2 dX9_laysMoves_83 rfl rfl rfl ?_
          refine z_iload_n (q := 85) (i := 3) C 3 dX9_laysMoves_84 rfl rfl rfl ?_
          refine z_iload (q := 87) (i := 4) C 4 dX9_laysMoves_85 rfl rfl ?_
          refine z_callVv (q := 90) (As := [.int (1 : Int32), .int i_4, .int i_12, .int i_13]) C (fun o ho => m_X9_adds _ _ _ _ _ _ ho) zk9 vvX9_357 cdX9_adds pnX9 dX9_laysMoves_87 rfl (by decide) (Nat.le_of_ble_eq_true rfl) hf rfl fun σ hf => ?_
          refine z_iinc (q := 93) (i := 4) (lv' := [(4, .int (i_13 + (1 : Int32))), (0, .ref a0), (1, .int v2), (2, .int i_4), (3, .int i_12)]) C 4 (i_13 + (1 : Int32)) dX9_laysMoves_90 rfl (kn_1 _) (by decide) rfl rfl ?_
          refine z_goto (q := 70) C dX9_laysMoves_93 (by decide) ?_
          refine z_lv [1, 2, 3, 4, 0] rfl ?_
          have hc3 := zl_c hf hx3
          exact hc3
  · refine z_iconst (q := 20) C (0 : Int32) dX9_laysMoves_19 ki_0 rfl ?_
    refine z_istore_n (q := 21) (i := 3) (lv' := [(3, .int (0 : Int32)), (0, .ref a0), (1, .int v2), (2, .int i_3)]) C dX9_laysMoves_20 rfl (by decide) rfl rfl ?_
    refine z_lv [1, 2, 3, 0] rfl ?_
    obtain ⟨r2, hr2, hk2⟩ := Option.bind_eq_some_iff.mp hf
    refine loopC_ind (P := fun s => ZW l G 5 X (ZQ G X (.returned none) out) s.2 21 [(0, .ref a0), (1, .int v2), (2, .int i_3), (3, .int s.1)] []) (fun s x2 hf hx2 => ?_) hr2
    obtain ⟨i_17, σ⟩ := s
    unfold f_X9_laysMoves_L21 at hf
    try dsimp only at hf
    try dsimp only
    refine z_iload_n (q := 22) (i := 3) C 3 dX9_laysMoves_21 rfl rfl rfl ?_
    refine z_aload_n (q := 23) (i := 0) C 0 dX9_laysMoves_22 rfl rfl rfl ?_
    refine z_getR (q := 26) C flX9_7 dX9_laysMoves_23 hf rfl fun v18 hf => ?_
    refine z_iconst (q := 27) C (1 : Int32) dX9_laysMoves_26 ki_1 rfl ?_
    refine z_iald (q := 28) C dX9_laysMoves_27 hf rfl fun v19 hf => ?_
    refine z_icmpge (q := 31) (tgt := 45) C dX9_laysMoves_28 (by decide) rfl hf (fun c28 hf => ?_) (fun c28 hf => ?_)
    · have e2 := zl_x hf hx2
      have hf := hk2
      rw [← e2] at hf
      try dsimp only at hf
      refine z_iinc (q := 48) (i := 2) (lv' := [(2, .int (i_3 + (1 : Int32))), (0, .ref a0), (1, .int v2), (3, .int i_17)]) C 2 (i_3 + (1 : Int32)) dX9_laysMoves_45 rfl (kn_1 _) (by decide) rfl rfl ?_
      refine z_goto (q := 14) C dX9_laysMoves_48 (by decide) ?_
      refine z_lv [1, 2, 0] rfl ?_
      have hc1 := zl_c hf hx1
      exact hc1
    · refine z_aload_n (q := 32) (i := 0) C 0 dX9_laysMoves_31 rfl rfl rfl ?_
      refine z_iconst (q := 33) C (0 : Int32) dX9_laysMoves_32 ki_0 rfl ?_
      refine z_iload_n (q := 34) (i := 2) C 2 dX9_laysMoves_33 rfl rfl rfl ?_
      refine z_iconst (q := 35) C (-1 : Int32) dX9_laysMoves_34 ki_m1 rfl ?_
      refine z_iload_n (q := 36) (i := 3) C 3 dX9_laysMoves_35 rfl rfl rfl ?_
      refine z_callVv (q := 39) (As := [.int (0 : Int32), .int i_3, .int (-1 : Int32), .int i_17]) C (fun o ho => m_X9_adds _ _ _ _ _ _ ho) zk9 vvX9_357 cdX9_adds pnX9 dX9_laysMoves_36 rfl (by decide) (Nat.le_of_ble_eq_true rfl) hf rfl fun σ hf => ?_
      refine z_iinc (q := 42) (i := 3) (lv' := [(3, .int (i_17 + (1 : Int32))), (0, .ref a0), (1, .int v2), (2, .int i_3)]) C 3 (i_17 + (1 : Int32)) dX9_laysMoves_39 rfl (kn_1 _) (by decide) rfl rfl ?_
      refine z_goto (q := 21) C dX9_laysMoves_42 (by decide) ?_
      refine z_lv [1, 2, 3, 0] rfl ?_
      have hc2 := zl_c hf hx2
      exact hc2

noncomputable def f_X9_code_L42 (c0_42 : Nat) (i_7 : Int32) (i_8 : Int32) (σ : ZT) : Option ((Int32 × Int32 × ZT) ⊕ (Int32 × ZT)) :=
  if i_8 < 0 then
  (some (.inr (i_7, σ)))
  else
  ((gR 9 925 c0_42 σ).bind fun v9 =>
  (ldI 0 v9 i_8 σ).bind fun v10 =>
  some (.inl ((((10 : Int32) * i_7) + v10), (i_8 + (-1 : Int32)), σ)))
noncomputable def f_X9_code_L11 (c0_11 : Nat) (i_3 : Int32) (i_4 : Int32) (σ : ZT) : Option ((Int32 × Int32 × ZT) ⊕ (Int32 × ZT)) :=
  if i_4 < 0 then
  (some (.inr (i_3, σ)))
  else
  ((gR 9 924 c0_11 σ).bind fun v12 =>
  (ldI 0 v12 i_4 σ).bind fun v13 =>
  some (.inl ((((6 : Int32) * i_3) + v13), (i_4 + (-1 : Int32)), σ)))
noncomputable def f_X9_code (a0 : Nat) (σ : ZT) : Option (Int32 × ZT) :=
  (gR 9 900 a0 σ).bind fun v1 =>
  (ldI 0 v1 (2 : Int32) σ).bind fun v2 =>
  (loopC (fun s : (Int32 × Int32 × ZT) => f_X9_code_L11 a0 s.1 s.2.1 s.2.2) ((0 : Int32), (v2 - (1 : Int32)), σ)).bind fun x => (match x with
  | (x14, σ) => (gR 9 900 a0 σ).bind fun v15 =>
  (ldI 0 v15 (3 : Int32) σ).bind fun v16 =>
  (loopC (fun s : (Int32 × Int32 × ZT) => f_X9_code_L42 a0 s.1 s.2.1 s.2.2) (x14, (v16 - (1 : Int32)), σ)).bind fun x => (match x with
  | (x21, σ) => some (x21, σ)))
set_option maxHeartbeats 4000000 in
theorem m_X9_code {l : Launch} {G : ZG} (a0 : Nat) (σ : ZT) {out : (Int32 × ZT)} (hf : f_X9_code a0 σ = some out) : ZM l G yX9_code cX9_code 3 (some .int) [] 1 [.ref a0] σ (.returned (some (.int out.1))) out.2 := by
  refine ZM.of [(0, .ref a0)] rfl (Nat.le_of_ble_eq_true rfl) fun X (C : ZC G RX9 "code" cX9_code 3 (some .int) [] X 1) => ?_
  unfold f_X9_code at hf
  refine z_iconst (q := 1) C (0 : Int32) dX9_code_0 ki_0 rfl ?_
  refine z_istore_n (q := 2) (i := 1) (lv' := [(1, .int (0 : Int32)), (0, .ref a0)]) C dX9_code_1 rfl (by decide) rfl rfl ?_
  refine z_aload_n (q := 3) (i := 0) C 1 dX9_code_2 rfl rfl rfl ?_
  refine z_getR (q := 6) C flX9_7 dX9_code_3 hf rfl fun v1 hf => ?_
  refine z_iconst (q := 7) C (2 : Int32) dX9_code_6 ki_2 rfl ?_
  refine z_iald (q := 8) C dX9_code_7 hf rfl fun v2 hf => ?_
  refine z_iconst (q := 9) C (1 : Int32) dX9_code_8 ki_1 rfl ?_
  refine z_isub (q := 10) C dX9_code_9 rfl ?_
  refine z_istore_n (q := 11) (i := 2) (lv' := [(2, .int (v2 - (1 : Int32))), (1, .int (0 : Int32)), (0, .ref a0)]) C dX9_code_10 rfl (by decide) rfl rfl ?_
  refine z_lv [2, 1, 0] rfl ?_
  obtain ⟨r1, hr1, hk1⟩ := Option.bind_eq_some_iff.mp hf
  refine loopC_ind (P := fun s => ZW l G 3 X (ZQ G X (.returned (some (.int out.1))) out.2) s.2.2 11 [(0, .ref a0), (1, .int s.1), (2, .int s.2.1)] []) (fun s x1 hf hx1 => ?_) hr1
  obtain ⟨i_3, i_4, σ⟩ := s
  unfold f_X9_code_L11 at hf
  try dsimp only at hf
  try dsimp only
  refine z_iload_n (q := 12) (i := 2) C 2 dX9_code_11 rfl rfl rfl ?_
  refine z_iflt (q := 15) (tgt := 33) C dX9_code_12 (by decide) rfl hf (fun c12 hf => ?_) (fun c12 hf => ?_)
  · have e1 := zl_x hf hx1
    have hf := hk1
    rw [← e1] at hf
    try dsimp only at hf
    refine z_aload_n (q := 34) (i := 0) C 0 dX9_code_33 rfl rfl rfl ?_
    refine z_getR (q := 37) C flX9_7 dX9_code_34 hf rfl fun v5 hf => ?_
    refine z_iconst (q := 38) C (3 : Int32) dX9_code_37 ki_3 rfl ?_
    refine z_iald (q := 39) C dX9_code_38 hf rfl fun v6 hf => ?_
    refine z_iconst (q := 40) C (1 : Int32) dX9_code_39 ki_1 rfl ?_
    refine z_isub (q := 41) C dX9_code_40 rfl ?_
    refine z_istore_n (q := 42) (i := 2) (lv' := [(2, .int (v6 - (1 : Int32))), (0, .ref a0), (1, .int i_3)]) C dX9_code_41 rfl (by decide) rfl rfl ?_
    refine z_lv [1, 2, 0] rfl ?_
    obtain ⟨r1, hr1, hk1⟩ := Option.bind_eq_some_iff.mp hf
    refine loopC_ind (P := fun s => ZW l G 3 X (ZQ G X (.returned (some (.int out.1))) out.2) s.2.2 42 [(0, .ref a0), (1, .int s.1), (2, .int s.2.1)] []) (fun s x1 hf hx1 => ?_) hr1
    obtain ⟨i_7, i_8, σ⟩ := s
    unfold f_X9_code_L42 at hf
    try dsimp only at hf
    try dsimp only
    refine z_iload_n (q := 43) (i := 2) C 2 dX9_code_42 rfl rfl rfl ?_
    refine z_iflt (q := 46) (tgt := 64) C dX9_code_43 (by decide) rfl hf (fun c43 hf => ?_) (fun c43 hf => ?_)
    · have e1 := zl_x hf hx1
      have hf := hk1
      rw [← e1] at hf
      try dsimp only at hf
      refine z_iload_n (q := 65) (i := 1) C 1 dX9_code_64 rfl rfl rfl ?_
      exact z_ireturn C rfl dX9_code_65 (Option.some.inj hf)
    · refine z_bipush (q := 48) C (10 : Int32) dX9_code_46 kb_10 rfl ?_
      refine z_iload_n (q := 49) (i := 1) C 1 dX9_code_48 rfl rfl rfl ?_
      refine z_imul (q := 50) C dX9_code_49 rfl ?_
      refine z_aload_n (q := 51) (i := 0) C 0 dX9_code_50 rfl rfl rfl ?_
      refine z_getR (q := 54) C flX9_50 dX9_code_51 hf rfl fun v9 hf => ?_
      refine z_iload_n (q := 55) (i := 2) C 2 dX9_code_54 rfl rfl rfl ?_
      refine z_iald (q := 56) C dX9_code_55 hf rfl fun v10 hf => ?_
      refine z_iadd (q := 57) C dX9_code_56 rfl ?_
      refine z_istore_n (q := 58) (i := 1) (lv' := [(1, .int (((10 : Int32) * i_7) + v10)), (0, .ref a0), (2, .int i_8)]) C dX9_code_57 rfl (by decide) rfl rfl ?_
      refine z_iinc (q := 61) (i := 2) (lv' := [(2, .int (i_8 + (-1 : Int32))), (1, .int (((10 : Int32) * i_7) + v10)), (0, .ref a0)]) C 2 (i_8 + (-1 : Int32)) dX9_code_58 rfl (kn_m1 _) (by decide) rfl rfl ?_
      refine z_goto (q := 42) C dX9_code_61 (by decide) ?_
      refine z_lv [2, 1, 0] rfl ?_
      have hc1 := zl_c hf hx1
      exact hc1
  · refine z_bipush (q := 17) C (6 : Int32) dX9_code_15 kb_6 rfl ?_
    refine z_iload_n (q := 18) (i := 1) C 1 dX9_code_17 rfl rfl rfl ?_
    refine z_imul (q := 19) C dX9_code_18 rfl ?_
    refine z_aload_n (q := 20) (i := 0) C 0 dX9_code_19 rfl rfl rfl ?_
    refine z_getR (q := 23) C flX9_47 dX9_code_20 hf rfl fun v11 hf => ?_
    refine z_iload_n (q := 24) (i := 2) C 2 dX9_code_23 rfl rfl rfl ?_
    refine z_iald (q := 25) C dX9_code_24 hf rfl fun v12 hf => ?_
    refine z_iadd (q := 26) C dX9_code_25 rfl ?_
    refine z_istore_n (q := 27) (i := 1) (lv' := [(1, .int (((6 : Int32) * i_3) + v12)), (0, .ref a0), (2, .int i_4)]) C dX9_code_26 rfl (by decide) rfl rfl ?_
    refine z_iinc (q := 30) (i := 2) (lv' := [(2, .int (i_4 + (-1 : Int32))), (1, .int (((6 : Int32) * i_3) + v12)), (0, .ref a0)]) C 2 (i_4 + (-1 : Int32)) dX9_code_27 rfl (kn_m1 _) (by decide) rfl rfl ?_
    refine z_goto (q := 11) C dX9_code_30 (by decide) ?_
    refine z_lv [2, 1, 0] rfl ?_
    have hc1 := zl_c hf hx1
    exact hc1

