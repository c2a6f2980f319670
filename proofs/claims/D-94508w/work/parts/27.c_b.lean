set_option maxRecDepth 100000
noncomputable def f_X0_first_L95 (c0_95 : Nat) (c2_95 : Int32) (i_14 : Int32) (i_15 : Int32) (σ : ZT) : Option ((Int32 × Int32 × ZT) ⊕ ZT) :=
  if i_15 < c2_95 then
  (bnd2 (vc 0 c0_95 σ (f_X0_step c0_95 i_14 i_15 σ)) fun v16 σ =>
  some (.inl (v16, (i_15 + (1 : Int32)), σ)))
  else
  (some (.inr σ))
noncomputable def f_X0_first_L42 (c0_42 : Nat) (c2_42 : Int32) (i_8 : Int32) (σ : ZT) : Option ((Int32 × ZT) ⊕ ZT) :=
  if i_8 < 0 then
  (some (.inr σ))
  else
  ((gR 0 17 c0_42 σ).bind fun v17 =>
  (gR 0 16 c0_42 σ).bind fun v18 =>
  (ldI 0 v18 i_8 σ).bind fun v19 =>
  (gR 0 16 c0_42 σ).bind fun v20 =>
  (ldI 0 v20 i_8 σ).bind fun v21 =>
  bnd2 (vc 0 c0_42 σ (f_X0_isGood c0_42 v21 c2_42 σ)) fun v22 σ =>
  (stZ v17 v19 v22 σ).bind fun σ =>
  some (.inl ((i_8 + (-1 : Int32)), σ)))
noncomputable def f_X0_first_J20 (a0_20 : Nat) (i1_20 : Int32) (w0_20 : Int32) (w1_20 : Nat) (σ : ZT) : Option (Int32 × ZT) :=
  bnd2 (vc 0 w1_20 σ (f_X0_answer w1_20 w0_20 σ)) fun v4 σ =>
  if v4 < 0 then
  (some ((-1 : Int32), σ))
  else
  ((gR 0 15 a0_20 σ).bind fun v5 =>
  (ldI 0 v5 i1_20 σ).bind fun v6 =>
  (gI 0 18 a0_20 σ).bind fun v7 =>
  (loopC (fun s : (Int32 × ZT) => f_X0_first_L42 a0_20 v6 s.1 s.2) ((v7 - (1 : Int32)), σ)).bind fun σ =>
  (gR 0 16 a0_20 σ).bind fun v23 =>
  (ldI 0 v23 (0 : Int32) σ).bind fun v24 =>
  (gR 0 21 a0_20 σ).bind fun v25 =>
  bnd2 (vc 0 a0_20 σ (f_X0_town_2 a0_20 σ)) fun v26 σ =>
  (vc 7 v25 σ (f_X7_tell v25 v26 σ)).bind fun σ =>
  (loopC (fun s : (Int32 × Int32 × ZT) => f_X0_first_L95 a0_20 v6 s.1 s.2.1 s.2.2) (v24, (0 : Int32), σ)).bind fun σ =>
  (pI 0 22 a0_20 v6 σ).bind fun σ =>
  some (v6, σ))
noncomputable def f_X0_first (a0 : Nat) (σ : ZT) : Option (Int32 × ZT) :=
  bnd2 (vc 0 a0 σ (f_X0_findDone a0 σ)) fun v1 σ =>
  if v1 < 0 then
  (f_X0_first_J20 a0 v1 (-1 : Int32) a0 σ)
  else
  ((gR 0 15 a0 σ).bind fun v2 =>
  (ldI 0 v2 v1 σ).bind fun v3 =>
  f_X0_first_J20 a0 v1 v3 a0 σ)
set_option maxHeartbeats 4000000 in
theorem m_X0_first {l : Launch} {G : ZG} (a0 : Nat) (σ : ZT) {out : (Int32 × ZT)} (hf : f_X0_first a0 σ = some out) : ZM l G yX0_first cX0_first 5 (some .int) [] 9 [.ref a0] σ (.returned (some (.int out.1))) out.2 := by
  refine ZM.of [(0, .ref a0)] rfl (Nat.le_of_ble_eq_true rfl) fun X (C : ZC G RX0 "first" cX0_first 5 (some .int) [] X 9) => ?_
  unfold f_X0_first at hf
  have j20_0 : ∀ (a0_20 : Nat) (i1_20 : Int32) (w0_20 : Int32) (w1_20 : Nat) (σ : ZT), f_X0_first_J20 a0_20 i1_20 w0_20 w1_20 σ = some out → ZW l G 5 X (ZQ G X (.returned (some (.int out.1))) out.2) σ 20 [(0, .ref a0_20), (1, .int i1_20)] [.int w0_20, .ref w1_20] := by
    intro a0_20 i1_20 w0_20 w1_20 σ hf
    unfold f_X0_first_J20 at hf
    refine z_callVi (q := 23) (As := [.int w0_20]) C (fun o ho => m_X0_answer _ _ _ ho) zk0 vvX0_321 cdX0_answer pnX0 dX0_first_20 rfl (by decide) (Nat.le_of_ble_eq_true rfl) hf rfl fun v4 σ hf => ?_
    refine z_ifge (q := 26) (tgt := 28) C dX0_first_23 (by decide) rfl hf (fun c23 hf => ?_) (fun c23 hf => ?_)
    · refine z_aload_n (q := 29) (i := 0) C 0 dX0_first_28 rfl rfl rfl ?_
      refine z_getR (q := 32) C flX0_78 dX0_first_29 hf rfl fun v5 hf => ?_
      refine z_iload_n (q := 33) (i := 1) C 1 dX0_first_32 rfl rfl rfl ?_
      refine z_iald (q := 34) C dX0_first_33 hf rfl fun v6 hf => ?_
      refine z_istore_n (q := 35) (i := 2) (lv' := [(2, .int v6), (0, .ref a0_20), (1, .int i1_20)]) C dX0_first_34 rfl (by decide) rfl rfl ?_
      refine z_aload_n (q := 36) (i := 0) C 1 dX0_first_35 rfl rfl rfl ?_
      refine z_getI (q := 39) C flX0_372 dX0_first_36 hf rfl fun v7 hf => ?_
      refine z_iconst (q := 40) C (1 : Int32) dX0_first_39 ki_1 rfl ?_
      refine z_isub (q := 41) C dX0_first_40 rfl ?_
      refine z_istore_n (q := 42) (i := 3) (lv' := [(3, .int (v7 - (1 : Int32))), (2, .int v6), (0, .ref a0_20), (1, .int i1_20)]) C dX0_first_41 rfl (by decide) rfl rfl ?_
      refine z_lv [2, 1, 0] rfl ?_
      obtain ⟨r1, hr1, hk1⟩ := Option.bind_eq_some_iff.mp hf
      refine loopC_ind (P := fun s => ZW l G 5 X (ZQ G X (.returned (some (.int out.1))) out.2) s.2 42 [(0, .ref a0_20), (2, .int v6), (3, .int s.1)] []) (fun s x1 hf hx1 => ?_) hr1
      obtain ⟨i_8, σ⟩ := s
      unfold f_X0_first_L42 at hf
      try dsimp only at hf
      try dsimp only
      refine z_iload_n (q := 43) (i := 3) C 2 dX0_first_42 rfl rfl rfl ?_
      refine z_iflt (q := 46) (tgt := 74) C dX0_first_43 (by decide) rfl hf (fun c43 hf => ?_) (fun c43 hf => ?_)
      · have e1 := zl_x hf hx1
        have hf := hk1
        rw [← e1] at hf
        try dsimp only at hf
        refine z_aload_n (q := 75) (i := 0) C 0 dX0_first_74 rfl rfl rfl ?_
        refine z_getR (q := 78) C flX0_81 dX0_first_75 hf rfl fun v9 hf => ?_
        refine z_iconst (q := 79) C (0 : Int32) dX0_first_78 ki_0 rfl ?_
        refine z_iald (q := 80) C dX0_first_79 hf rfl fun v10 hf => ?_
        refine z_istore_n (q := 81) (i := 3) (lv' := [(3, .int v10), (0, .ref a0_20), (2, .int v6)]) C dX0_first_80 rfl (by decide) rfl rfl ?_
        refine z_aload_n (q := 82) (i := 0) C 1 dX0_first_81 rfl rfl rfl ?_
        refine z_getR (q := 85) C flX0_94 dX0_first_82 hf rfl fun v11 hf => ?_
        refine z_aload_n (q := 86) (i := 0) C 1 dX0_first_85 rfl rfl rfl ?_
        refine z_callVr (q := 89) (As := []) C (fun o ho => m_X0_town_2 _ _ ho) zk0 vvX0_188 cdX0_town_2 pnX0 dX0_first_86 rfl (by decide) (Nat.le_of_ble_eq_true rfl) hf rfl fun v12 σ hf => ?_
        refine z_callVv (q := 92) (As := [.ref v12]) C (fun o ho => m_X7_tell _ _ _ ho) zk7 vvX0_379 cdX7_tell pnX7 dX0_first_89 rfl (by decide) (Nat.le_of_ble_eq_true rfl) hf rfl fun σ hf => ?_
        refine z_iconst (q := 93) C (0 : Int32) dX0_first_92 ki_0 rfl ?_
        refine z_istore (q := 95) (i := 4) (lv' := [(4, .int (0 : Int32)), (3, .int v10), (0, .ref a0_20), (2, .int v6)]) C dX0_first_93 (by decide) rfl rfl ?_
        refine z_lv [2, 3, 1, 0] rfl ?_
        obtain ⟨r1, hr1, hk1⟩ := Option.bind_eq_some_iff.mp hf
        refine loopC_ind (P := fun s => ZW l G 5 X (ZQ G X (.returned (some (.int out.1))) out.2) s.2.2 95 [(0, .ref a0_20), (2, .int v6), (3, .int s.1), (4, .int s.2.1)] []) (fun s x1 hf hx1 => ?_) hr1
        obtain ⟨i_14, i_15, σ⟩ := s
        unfold f_X0_first_L95 at hf
        try dsimp only at hf
        try dsimp only
        refine z_iload (q := 97) (i := 4) C 3 dX0_first_95 rfl rfl ?_
        refine z_iload_n (q := 98) (i := 2) C 1 dX0_first_97 rfl rfl rfl ?_
        refine z_icmpge (q := 101) (tgt := 115) C dX0_first_98 (by decide) rfl hf (fun c98 hf => ?_) (fun c98 hf => ?_)
        · have e1 := zl_x hf hx1
          have hf := hk1
          rw [← e1] at hf
          try dsimp only at hf
          refine z_aload_n (q := 116) (i := 0) C 0 dX0_first_115 rfl rfl rfl ?_
          refine z_iload_n (q := 117) (i := 2) C 1 dX0_first_116 rfl rfl rfl ?_
          refine z_putI (q := 120) C puX0_430 dX0_first_117 hf rfl fun σ hf => ?_
          refine z_iload_n (q := 121) (i := 2) C 1 dX0_first_120 rfl rfl rfl ?_
          exact z_ireturn C rfl dX0_first_121 (Option.some.inj hf)
        · refine z_aload_n (q := 102) (i := 0) C 0 dX0_first_101 rfl rfl rfl ?_
          refine z_iload_n (q := 103) (i := 3) C 2 dX0_first_102 rfl rfl rfl ?_
          refine z_iload (q := 105) (i := 4) C 3 dX0_first_103 rfl rfl ?_
          refine z_callVi (q := 108) (As := [.int i_14, .int i_15]) C (fun o ho => m_X0_step _ _ _ _ ho) zk0 vvX0_426 cdX0_step pnX0 dX0_first_105 rfl (by decide) (Nat.le_of_ble_eq_true rfl) hf rfl fun v16 σ hf => ?_
          refine z_istore_n (q := 109) (i := 3) (lv' := [(3, .int v16), (0, .ref a0_20), (2, .int v6), (4, .int i_15)]) C dX0_first_108 rfl (by decide) rfl rfl ?_
          refine z_iinc (q := 112) (i := 4) (lv' := [(4, .int (i_15 + (1 : Int32))), (3, .int v16), (0, .ref a0_20), (2, .int v6)]) C 3 (i_15 + (1 : Int32)) dX0_first_109 rfl (kn_1 _) (by decide) rfl rfl ?_
          refine z_goto (q := 95) C dX0_first_112 (by decide) ?_
          refine z_lv [2, 3, 1, 0] rfl ?_
          have hc1 := zl_c hf hx1
          exact hc1
      · refine z_aload_n (q := 47) (i := 0) C 0 dX0_first_46 rfl rfl rfl ?_
        refine z_getR (q := 50) C flX0_84 dX0_first_47 hf rfl fun v17 hf => ?_
        refine z_aload_n (q := 51) (i := 0) C 0 dX0_first_50 rfl rfl rfl ?_
        refine z_getR (q := 54) C flX0_81 dX0_first_51 hf rfl fun v18 hf => ?_
        refine z_iload_n (q := 55) (i := 3) C 2 dX0_first_54 rfl rfl rfl ?_
        refine z_iald (q := 56) C dX0_first_55 hf rfl fun v19 hf => ?_
        refine z_aload_n (q := 57) (i := 0) C 0 dX0_first_56 rfl rfl rfl ?_
        refine z_aload_n (q := 58) (i := 0) C 0 dX0_first_57 rfl rfl rfl ?_
        refine z_getR (q := 61) C flX0_81 dX0_first_58 hf rfl fun v20 hf => ?_
        refine z_iload_n (q := 62) (i := 3) C 2 dX0_first_61 rfl rfl rfl ?_
        refine z_iald (q := 63) C dX0_first_62 hf rfl fun v21 hf => ?_
        refine z_iload_n (q := 64) (i := 2) C 1 dX0_first_63 rfl rfl rfl ?_
        refine z_callVi (q := 67) (As := [.int v21, .int v6]) C (fun o ho => m_X0_isGood _ _ _ _ ho) zk0 vvX0_423 cdX0_isGood pnX0 dX0_first_64 rfl (by decide) (Nat.le_of_ble_eq_true rfl) hf rfl fun v22 σ hf => ?_
        refine z_zast (q := 68) C dX0_first_67 hf rfl fun σ hf => ?_
        refine z_iinc (q := 71) (i := 3) (lv' := [(3, .int (i_8 + (-1 : Int32))), (0, .ref a0_20), (2, .int v6)]) C 2 (i_8 + (-1 : Int32)) dX0_first_68 rfl (kn_m1 _) (by decide) rfl rfl ?_
        refine z_goto (q := 42) C dX0_first_71 (by decide) ?_
        refine z_lv [1, 2, 0] rfl ?_
        have hc1 := zl_c hf hx1
        exact hc1
    · refine z_iconst (q := 27) C (-1 : Int32) dX0_first_26 ki_m1 rfl ?_
      exact z_ireturn C rfl dX0_first_27 (Option.some.inj hf)
  refine z_aload_n (q := 1) (i := 0) C 0 dX0_first_0 rfl rfl rfl ?_
  refine z_callVi (q := 4) (As := []) C (fun o ho => m_X0_findDone _ _ ho) zk0 vvX0_420 cdX0_findDone pnX0 dX0_first_1 rfl (by decide) (Nat.le_of_ble_eq_true rfl) hf rfl fun v1 σ hf => ?_
  refine z_istore_n (q := 5) (i := 1) (lv' := [(1, .int v1), (0, .ref a0)]) C dX0_first_4 rfl (by decide) rfl rfl ?_
  refine z_aload_n (q := 6) (i := 0) C 1 dX0_first_5 rfl rfl rfl ?_
  refine z_iload_n (q := 7) (i := 1) C 0 dX0_first_6 rfl rfl rfl ?_
  refine z_ifge (q := 10) (tgt := 14) C dX0_first_7 (by decide) rfl hf (fun c7 hf => ?_) (fun c7 hf => ?_)
  · refine z_aload_n (q := 15) (i := 0) C 1 dX0_first_14 rfl rfl rfl ?_
    refine z_getR (q := 18) C flX0_78 dX0_first_15 hf rfl fun v2 hf => ?_
    refine z_iload_n (q := 19) (i := 1) C 0 dX0_first_18 rfl rfl rfl ?_
    refine z_iald (q := 20) C dX0_first_19 hf rfl fun v3 hf => ?_
    refine z_lv [1, 0] rfl ?_
    exact j20_0 a0 v1 v3 a0 σ hf
  · refine z_iconst (q := 11) C (-1 : Int32) dX0_first_10 ki_m1 rfl ?_
    refine z_goto (q := 20) C dX0_first_11 (by decide) ?_
    refine z_lv [1, 0] rfl ?_
    exact j20_0 a0 v1 (-1 : Int32) a0 σ hf

noncomputable def f_X0_firstAt_J118 (w0_118 : Int32) (w1_118 : Nat) (σ : ZT) : Option (Int32 × ZT) :=
  bnd2 (vc 0 w1_118 σ (f_X0_answer w1_118 w0_118 σ)) fun v19 σ =>
  some (v19, σ)
noncomputable def f_X0_firstAt_J39 (a0_39 : Nat) (i1_39 : Int32) (i2_39 : Int32) (w0_39 : Int32) (w1_39 : Nat) (σ : ZT) : Option (Int32 × ZT) :=
  (pI 0 7 w1_39 w0_39 σ).bind fun σ =>
  (gI 0 7 a0_39 σ).bind fun v4 =>
  if 0 < v4 then
  (some ((-1 : Int32), σ))
  else
  ((gR 0 20 a0_39 σ).bind fun v5 =>
  (ldI 0 v5 i1_39 σ).bind fun v6 =>
  if i2_39 = 0 then
  ((gR 0 21 a0_39 σ).bind fun v16 =>
  (gR 7 700 v16 σ).bind fun v17 =>
  (ldI 0 v17 v6 σ).bind fun v18 =>
  f_X0_firstAt_J118 v18 a0_39 σ)
  else
  (if i2_39 = (1 : Int32) then
  ((gR 0 21 a0_39 σ).bind fun v13 =>
  (gR 7 701 v13 σ).bind fun v14 =>
  (ldI 0 v14 v6 σ).bind fun v15 =>
  f_X0_firstAt_J118 v15 a0_39 σ)
  else
  (if i2_39 = (2 : Int32) then
  ((gR 0 21 a0_39 σ).bind fun v10 =>
  (gR 7 702 v10 σ).bind fun v11 =>
  (ldI 0 v11 v6 σ).bind fun v12 =>
  f_X0_firstAt_J118 v12 a0_39 σ)
  else
  ((gR 0 21 a0_39 σ).bind fun v7 =>
  (gR 7 703 v7 σ).bind fun v8 =>
  (ldI 0 v8 v6 σ).bind fun v9 =>
  f_X0_firstAt_J118 v9 a0_39 σ))))
noncomputable def f_X0_firstAt (a0 : Nat) (i1 : Int32) (i2 : Int32) (σ : ZT) : Option (Int32 × ZT) :=
  bnd2 (f_X0_isIn (i2.toInt64) (0 : Int64) (3 : Int64) σ) fun v1 σ =>
  if v1 = 0 then
  (f_X0_firstAt_J39 a0 i1 i2 (1 : Int32) a0 σ)
  else
  ((gI 0 22 a0 σ).bind fun v2 =>
  bnd2 (f_X0_isIn (i1.toInt64) (0 : Int64) ((v2 - (1 : Int32)).toInt64) σ) fun v3 σ =>
  if v3 = 0 then
  (f_X0_firstAt_J39 a0 i1 i2 (6 : Int32) a0 σ)
  else
  (f_X0_firstAt_J39 a0 i1 i2 (0 : Int32) a0 σ))
set_option maxHeartbeats 4000000 in
theorem m_X0_firstAt {l : Launch} {G : ZG} (a0 : Nat) (i1 : Int32) (i2 : Int32) (σ : ZT) {out : (Int32 × ZT)} (hf : f_X0_firstAt a0 i1 i2 σ = some out) : ZM l G yX0_firstAt cX0_firstAt 4 (some .int) [] 2 [.ref a0, .int i1, .int i2] σ (.returned (some (.int out.1))) out.2 := by
  refine ZM.of [(0, .ref a0), (1, .int i1), (2, .int i2)] rfl (Nat.le_of_ble_eq_true rfl) fun X (C : ZC G RX0 "firstAt" cX0_firstAt 4 (some .int) [] X 2) => ?_
  unfold f_X0_firstAt at hf
  have j118_0 : ∀ (w0_118 : Int32) (w1_118 : Nat) (σ : ZT), f_X0_firstAt_J118 w0_118 w1_118 σ = some out → ZW l G 4 X (ZQ G X (.returned (some (.int out.1))) out.2) σ 118 [] [.int w0_118, .ref w1_118] := by
    intro w0_118 w1_118 σ hf
    unfold f_X0_firstAt_J118 at hf
    refine z_callVi (q := 121) (As := [.int w0_118]) C (fun o ho => m_X0_answer _ _ _ ho) zk0 vvX0_321 cdX0_answer pnX0 dX0_firstAt_118 rfl (by decide) (Nat.le_of_ble_eq_true rfl) hf rfl fun v19 σ hf => ?_
    exact z_ireturn C rfl dX0_firstAt_121 (Option.some.inj hf)
  have j39_0 : ∀ (a0_39 : Nat) (i1_39 : Int32) (i2_39 : Int32) (w0_39 : Int32) (w1_39 : Nat) (σ : ZT), f_X0_firstAt_J39 a0_39 i1_39 i2_39 w0_39 w1_39 σ = some out → ZW l G 4 X (ZQ G X (.returned (some (.int out.1))) out.2) σ 39 [(0, .ref a0_39), (1, .int i1_39), (2, .int i2_39)] [.int w0_39, .ref w1_39] := by
    intro a0_39 i1_39 i2_39 w0_39 w1_39 σ hf
    unfold f_X0_firstAt_J39 at hf
    refine z_putI (q := 42) C puX0_110 dX0_firstAt_39 hf rfl fun σ hf => ?_
    refine z_aload_n (q := 43) (i := 0) C 0 dX0_firstAt_42 rfl rfl rfl ?_
    refine z_getI (q := 46) C flX0_110 dX0_firstAt_43 hf rfl fun v4 hf => ?_
    refine z_ifle (q := 49) (tgt := 51) C dX0_firstAt_46 (by decide) rfl hf (fun c46 hf => ?_) (fun c46 hf => ?_)
    · refine z_aload_n (q := 52) (i := 0) C 0 dX0_firstAt_51 rfl rfl rfl ?_
      refine z_getR (q := 55) C flX0_91 dX0_firstAt_52 hf rfl fun v5 hf => ?_
      refine z_iload_n (q := 56) (i := 1) C 1 dX0_firstAt_55 rfl rfl rfl ?_
      refine z_iald (q := 57) C dX0_firstAt_56 hf rfl fun v6 hf => ?_
      refine z_istore_n (q := 58) (i := 3) (lv' := [(3, .int v6), (0, .ref a0_39), (1, .int i1_39), (2, .int i2_39)]) C dX0_firstAt_57 rfl (by decide) rfl rfl ?_
      refine z_aload_n (q := 59) (i := 0) C 1 dX0_firstAt_58 rfl rfl rfl ?_
      refine z_iload_n (q := 60) (i := 2) C 3 dX0_firstAt_59 rfl rfl rfl ?_
      refine z_ifne (q := 63) (tgt := 75) C dX0_firstAt_60 (by decide) rfl hf (fun c60 hf => ?_) (fun c60 hf => ?_)
      · refine z_iload_n (q := 76) (i := 2) C 3 dX0_firstAt_75 rfl rfl rfl ?_
        refine z_iconst (q := 77) C (1 : Int32) dX0_firstAt_76 ki_1 rfl ?_
        refine z_icmpne (q := 80) (tgt := 92) C dX0_firstAt_77 (by decide) rfl hf (fun c77 hf => ?_) (fun c77 hf => ?_)
        · refine z_iload_n (q := 93) (i := 2) C 3 dX0_firstAt_92 rfl rfl rfl ?_
          refine z_iconst (q := 94) C (2 : Int32) dX0_firstAt_93 ki_2 rfl ?_
          refine z_icmpne (q := 97) (tgt := 109) C dX0_firstAt_94 (by decide) rfl hf (fun c94 hf => ?_) (fun c94 hf => ?_)
          · refine z_aload_n (q := 110) (i := 0) C 1 dX0_firstAt_109 rfl rfl rfl ?_
            refine z_getR (q := 113) C flX0_94 dX0_firstAt_110 hf rfl fun v7 hf => ?_
            refine z_getR (q := 116) C flX0_442 dX0_firstAt_113 hf rfl fun v8 hf => ?_
            refine z_iload_n (q := 117) (i := 3) C 0 dX0_firstAt_116 rfl rfl rfl ?_
            refine z_iald (q := 118) C dX0_firstAt_117 hf rfl fun v9 hf => ?_
            refine z_lv [] rfl ?_
            exact j118_0 v9 a0_39 σ hf
          · refine z_aload_n (q := 98) (i := 0) C 1 dX0_firstAt_97 rfl rfl rfl ?_
            refine z_getR (q := 101) C flX0_94 dX0_firstAt_98 hf rfl fun v10 hf => ?_
            refine z_getR (q := 104) C flX0_439 dX0_firstAt_101 hf rfl fun v11 hf => ?_
            refine z_iload_n (q := 105) (i := 3) C 0 dX0_firstAt_104 rfl rfl rfl ?_
            refine z_iald (q := 106) C dX0_firstAt_105 hf rfl fun v12 hf => ?_
            refine z_goto (q := 118) C dX0_firstAt_106 (by decide) ?_
            refine z_lv [] rfl ?_
            exact j118_0 v12 a0_39 σ hf
        · refine z_aload_n (q := 81) (i := 0) C 1 dX0_firstAt_80 rfl rfl rfl ?_
          refine z_getR (q := 84) C flX0_94 dX0_firstAt_81 hf rfl fun v13 hf => ?_
          refine z_getR (q := 87) C flX0_436 dX0_firstAt_84 hf rfl fun v14 hf => ?_
          refine z_iload_n (q := 88) (i := 3) C 0 dX0_firstAt_87 rfl rfl rfl ?_
          refine z_iald (q := 89) C dX0_firstAt_88 hf rfl fun v15 hf => ?_
          refine z_goto (q := 118) C dX0_firstAt_89 (by decide) ?_
          refine z_lv [] rfl ?_
          exact j118_0 v15 a0_39 σ hf
      · refine z_aload_n (q := 64) (i := 0) C 1 dX0_firstAt_63 rfl rfl rfl ?_
        refine z_getR (q := 67) C flX0_94 dX0_firstAt_64 hf rfl fun v16 hf => ?_
        refine z_getR (q := 70) C flX0_433 dX0_firstAt_67 hf rfl fun v17 hf => ?_
        refine z_iload_n (q := 71) (i := 3) C 0 dX0_firstAt_70 rfl rfl rfl ?_
        refine z_iald (q := 72) C dX0_firstAt_71 hf rfl fun v18 hf => ?_
        refine z_goto (q := 118) C dX0_firstAt_72 (by decide) ?_
        refine z_lv [] rfl ?_
        exact j118_0 v18 a0_39 σ hf
    · refine z_iconst (q := 50) C (-1 : Int32) dX0_firstAt_49 ki_m1 rfl ?_
      exact z_ireturn C rfl dX0_firstAt_50 (Option.some.inj hf)
  refine z_aload_n (q := 1) (i := 0) C 0 dX0_firstAt_0 rfl rfl rfl ?_
  refine z_iload_n (q := 2) (i := 2) C 2 dX0_firstAt_1 rfl rfl rfl ?_
  refine z_i2l (q := 3) C dX0_firstAt_2 rfl ?_
  refine z_lconst (q := 4) C (0 : Int64) dX0_firstAt_3 rfl rfl ?_
  refine z_ldc2 (q := 7) C q1216 dX0_firstAt_4 rfl ?_
  refine z_callSi (q := 10) (As := [.long (i2.toInt64), .long (0 : Int64), .long (3 : Int64)]) C (fun o ho => m_X0_isIn _ _ _ _ ho) vsX0_196 cdX0_isIn pnX0 dX0_firstAt_7 rfl (by decide) (Nat.le_of_ble_eq_true rfl) hf rfl fun v1 σ hf => ?_
  refine z_ifne (q := 13) (tgt := 17) C dX0_firstAt_10 (by decide) rfl hf (fun c10 hf => ?_) (fun c10 hf => ?_)
  · refine z_iload_n (q := 18) (i := 1) C 1 dX0_firstAt_17 rfl rfl rfl ?_
    refine z_i2l (q := 19) C dX0_firstAt_18 rfl ?_
    refine z_lconst (q := 20) C (0 : Int64) dX0_firstAt_19 rfl rfl ?_
    refine z_aload_n (q := 21) (i := 0) C 0 dX0_firstAt_20 rfl rfl rfl ?_
    refine z_getI (q := 24) C flX0_430 dX0_firstAt_21 hf rfl fun v2 hf => ?_
    refine z_iconst (q := 25) C (1 : Int32) dX0_firstAt_24 ki_1 rfl ?_
    refine z_isub (q := 26) C dX0_firstAt_25 rfl ?_
    refine z_i2l (q := 27) C dX0_firstAt_26 rfl ?_
    refine z_callSi (q := 30) (As := [.long (i1.toInt64), .long (0 : Int64), .long ((v2 - (1 : Int32)).toInt64)]) C (fun o ho => m_X0_isIn _ _ _ _ ho) vsX0_196 cdX0_isIn pnX0 dX0_firstAt_27 rfl (by decide) (Nat.le_of_ble_eq_true rfl) hf rfl fun v3 σ hf => ?_
    refine z_ifne (q := 33) (tgt := 38) C dX0_firstAt_30 (by decide) rfl hf (fun c30 hf => ?_) (fun c30 hf => ?_)
    · refine z_iconst (q := 39) C (0 : Int32) dX0_firstAt_38 ki_0 rfl ?_
      exact j39_0 a0 i1 i2 (0 : Int32) a0 σ hf
    · refine z_bipush (q := 35) C (6 : Int32) dX0_firstAt_33 kb_6 rfl ?_
      refine z_goto (q := 39) C dX0_firstAt_35 (by decide) ?_
      exact j39_0 a0 i1 i2 (6 : Int32) a0 σ hf
  · refine z_iconst (q := 14) C (1 : Int32) dX0_firstAt_13 ki_1 rfl ?_
    refine z_goto (q := 39) C dX0_firstAt_14 (by decide) ?_
    exact j39_0 a0 i1 i2 (1 : Int32) a0 σ hf

noncomputable def f_X0_reach_L34 (c0_34 : Nat) (c1_34 : Int32) (i_4 : Int32) (i_5 : Int32) (σ : ZT) : Option ((Int32 × Int32 × ZT) ⊕ (Int32 × ZT)) :=
  (gI 0 18 c0_34 σ).bind fun v6 =>
  if i_5 < v6 then
  ((gR 0 14 c0_34 σ).bind fun v7 =>
  (gR 0 16 c0_34 σ).bind fun v8 =>
  (ldI 0 v8 i_5 σ).bind fun v9 =>
  (vc 5 v7 σ (f_X5_be_2 v7 v9 σ)).bind fun σ =>
  (gR 0 14 c0_34 σ).bind fun v11 =>
  (gR 5 501 v11 σ).bind fun v12 =>
  (ldI 0 v12 c1_34 σ).bind fun v13 =>
  some (.inl ((i_4 ||| ((1 : Int32) <<< (v13 &&& 31))), (i_5 + (1 : Int32)), σ)))
  else
  (some (.inr (i_4, σ)))
noncomputable def f_X0_reach_J14 (a0_14 : Nat) (i1_14 : Int32) (w0_14 : Int32) (w1_14 : Nat) (σ : ZT) : Option (Int32 × ZT) :=
  (pI 0 7 w1_14 w0_14 σ).bind fun σ =>
  (gI 0 7 a0_14 σ).bind fun v2 =>
  if 0 < v2 then
  (some ((-1 : Int32), σ))
  else
  ((vc 0 a0_14 σ (f_X0_findAll a0_14 σ)).bind fun σ =>
  (loopC (fun s : (Int32 × Int32 × ZT) => f_X0_reach_L34 a0_14 i1_14 s.1 s.2.1 s.2.2) ((0 : Int32), (0 : Int32), σ)).bind fun x => (match x with
  | (x14, σ) => some (x14, σ)))
noncomputable def f_X0_reach (a0 : Nat) (i1 : Int32) (σ : ZT) : Option (Int32 × ZT) :=
  bnd2 (vc 0 a0 σ (f_X0_isPerson a0 i1 σ)) fun v1 σ =>
  if v1 = 0 then
  (f_X0_reach_J14 a0 i1 (1 : Int32) a0 σ)
  else
  (f_X0_reach_J14 a0 i1 (0 : Int32) a0 σ)
set_option maxHeartbeats 4000000 in
theorem m_X0_reach {l : Launch} {G : ZG} (a0 : Nat) (i1 : Int32) (σ : ZT) {out : (Int32 × ZT)} (hf : f_X0_reach a0 i1 σ = some out) : ZM l G yX0_reach cX0_reach 4 (some .int) [] 9 [.ref a0, .int i1] σ (.returned (some (.int out.1))) out.2 := by
  refine ZM.of [(0, .ref a0), (1, .int i1)] rfl (Nat.le_of_ble_eq_true rfl) fun X (C : ZC G RX0 "reach" cX0_reach 4 (some .int) [] X 9) => ?_
  unfold f_X0_reach at hf
  have j14_0 : ∀ (a0_14 : Nat) (i1_14 : Int32) (w0_14 : Int32) (w1_14 : Nat) (σ : ZT), f_X0_reach_J14 a0_14 i1_14 w0_14 w1_14 σ = some out → ZW l G 4 X (ZQ G X (.returned (some (.int out.1))) out.2) σ 14 [(0, .ref a0_14), (1, .int i1_14)] [.int w0_14, .ref w1_14] := by
    intro a0_14 i1_14 w0_14 w1_14 σ hf
    unfold f_X0_reach_J14 at hf
    refine z_putI (q := 17) C puX0_110 dX0_reach_14 hf rfl fun σ hf => ?_
    refine z_aload_n (q := 18) (i := 0) C 0 dX0_reach_17 rfl rfl rfl ?_
    refine z_getI (q := 21) C flX0_110 dX0_reach_18 hf rfl fun v2 hf => ?_
    refine z_ifle (q := 24) (tgt := 26) C dX0_reach_21 (by decide) rfl hf (fun c21 hf => ?_) (fun c21 hf => ?_)
    · refine z_aload_n (q := 27) (i := 0) C 0 dX0_reach_26 rfl rfl rfl ?_
      refine z_callVv (q := 30) (As := []) C (fun o ho => m_X0_findAll _ _ ho) zk0 vvX0_402 cdX0_findAll pnX0 dX0_reach_27 rfl (by decide) (Nat.le_of_ble_eq_true rfl) hf rfl fun σ hf => ?_
      refine z_iconst (q := 31) C (0 : Int32) dX0_reach_30 ki_0 rfl ?_
      refine z_istore_n (q := 32) (i := 2) (lv' := [(2, .int (0 : Int32)), (0, .ref a0_14), (1, .int i1_14)]) C dX0_reach_31 rfl (by decide) rfl rfl ?_
      refine z_iconst (q := 33) C (0 : Int32) dX0_reach_32 ki_0 rfl ?_
      refine z_istore_n (q := 34) (i := 3) (lv' := [(3, .int (0 : Int32)), (2, .int (0 : Int32)), (0, .ref a0_14), (1, .int i1_14)]) C dX0_reach_33 rfl (by decide) rfl rfl ?_
      refine z_lv [2, 3, 1, 0] rfl ?_
      obtain ⟨r1, hr1, hk1⟩ := Option.bind_eq_some_iff.mp hf
      refine loopC_ind (P := fun s => ZW l G 4 X (ZQ G X (.returned (some (.int out.1))) out.2) s.2.2 34 [(0, .ref a0_14), (1, .int i1_14), (2, .int s.1), (3, .int s.2.1)] []) (fun s x1 hf hx1 => ?_) hr1
      obtain ⟨i_4, i_5, σ⟩ := s
      unfold f_X0_reach_L34 at hf
      try dsimp only at hf
      try dsimp only
      refine z_iload_n (q := 35) (i := 3) C 3 dX0_reach_34 rfl rfl rfl ?_
      refine z_aload_n (q := 36) (i := 0) C 0 dX0_reach_35 rfl rfl rfl ?_
      refine z_getI (q := 39) C flX0_372 dX0_reach_36 hf rfl fun v6 hf => ?_
      refine z_icmpge (q := 42) (tgt := 75) C dX0_reach_39 (by decide) rfl hf (fun c39 hf => ?_) (fun c39 hf => ?_)
      · have e1 := zl_x hf hx1
        have hf := hk1
        rw [← e1] at hf
        try dsimp only at hf
        refine z_iload_n (q := 76) (i := 2) C 2 dX0_reach_75 rfl rfl rfl ?_
        exact z_ireturn C rfl dX0_reach_76 (Option.some.inj hf)
      · refine z_aload_n (q := 43) (i := 0) C 0 dX0_reach_42 rfl rfl rfl ?_
        refine z_getR (q := 46) C flX0_73 dX0_reach_43 hf rfl fun v7 hf => ?_
        refine z_aload_n (q := 47) (i := 0) C 0 dX0_reach_46 rfl rfl rfl ?_
        refine z_getR (q := 50) C flX0_81 dX0_reach_47 hf rfl fun v8 hf => ?_
        refine z_iload_n (q := 51) (i := 3) C 3 dX0_reach_50 rfl rfl rfl ?_
        refine z_iald (q := 52) C dX0_reach_51 hf rfl fun v9 hf => ?_
        refine z_callVv (q := 55) (As := [.int v9]) C (fun o ho => m_X5_be_2 _ _ _ ho) zk5 vvX0_391 cdX5_be_2 pnX5 dX0_reach_52 rfl (by decide) (Nat.le_of_ble_eq_true rfl) hf rfl fun σ hf => ?_
        refine z_iload_n (q := 56) (i := 2) C 2 dX0_reach_55 rfl rfl rfl ?_
        refine z_iconst (q := 57) C (1 : Int32) dX0_reach_56 ki_1 rfl ?_
        refine z_aload_n (q := 58) (i := 0) C 0 dX0_reach_57 rfl rfl rfl ?_
        refine z_getR (q := 61) C flX0_73 dX0_reach_58 hf rfl fun v11 hf => ?_
        refine z_getR (q := 64) C flX0_338 dX0_reach_61 hf rfl fun v12 hf => ?_
        refine z_iload_n (q := 65) (i := 1) C 1 dX0_reach_64 rfl rfl rfl ?_
        refine z_iald (q := 66) C dX0_reach_65 hf rfl fun v13 hf => ?_
        refine z_ishl (q := 67) C dX0_reach_66 rfl ?_
        refine z_ior (q := 68) C dX0_reach_67 rfl ?_
        refine z_istore_n (q := 69) (i := 2) (lv' := [(2, .int (i_4 ||| ((1 : Int32) <<< (v13 &&& 31)))), (0, .ref a0_14), (1, .int i1_14), (3, .int i_5)]) C dX0_reach_68 rfl (by decide) rfl rfl ?_
        refine z_iinc (q := 72) (i := 3) (lv' := [(3, .int (i_5 + (1 : Int32))), (2, .int (i_4 ||| ((1 : Int32) <<< (v13 &&& 31)))), (0, .ref a0_14), (1, .int i1_14)]) C 3 (i_5 + (1 : Int32)) dX0_reach_69 rfl (kn_1 _) (by decide) rfl rfl ?_
        refine z_goto (q := 34) C dX0_reach_72 (by decide) ?_
        refine z_lv [2, 3, 1, 0] rfl ?_
        have hc1 := zl_c hf hx1
        exact hc1
    · refine z_iconst (q := 25) C (-1 : Int32) dX0_reach_24 ki_m1 rfl ?_
      exact z_ireturn C rfl dX0_reach_25 (Option.some.inj hf)
  refine z_aload_n (q := 1) (i := 0) C 0 dX0_reach_0 rfl rfl rfl ?_
  refine z_aload_n (q := 2) (i := 0) C 0 dX0_reach_1 rfl rfl rfl ?_
  refine z_iload_n (q := 3) (i := 1) C 1 dX0_reach_2 rfl rfl rfl ?_
  refine z_callVi (q := 6) (As := [.int i1]) C (fun o ho => m_X0_isPerson _ _ _ ho) zk0 vvX0_304 cdX0_isPerson pnX0 dX0_reach_3 rfl (by decide) (Nat.le_of_ble_eq_true rfl) hf rfl fun v1 σ hf => ?_
  refine z_ifeq (q := 9) (tgt := 13) C dX0_reach_6 (by decide) rfl hf (fun c6 hf => ?_) (fun c6 hf => ?_)
  · refine z_iconst (q := 14) C (1 : Int32) dX0_reach_13 ki_1 rfl ?_
    exact j14_0 a0 i1 (1 : Int32) a0 σ hf
  · refine z_iconst (q := 10) C (0 : Int32) dX0_reach_9 ki_0 rfl ?_
    refine z_goto (q := 14) C dX0_reach_10 (by decide) ?_
    exact j14_0 a0 i1 (0 : Int32) a0 σ hf

noncomputable def f_X0_fewest_L40 (c0_40 : Nat) (c1_40 : Int32) (c2_40 : Int32) (i_5 : Int32) (σ : ZT) : Option ((Int32 × ZT) ⊕ ((Int32 × ZT) ⊕ ZT)) :=
  (gI 0 18 c0_40 σ).bind fun v6 =>
  if i_5 < v6 then
  ((gR 0 14 c0_40 σ).bind fun v8 =>
  (gR 0 16 c0_40 σ).bind fun v9 =>
  (ldI 0 v9 i_5 σ).bind fun v10 =>
  (vc 5 v8 σ (f_X5_be_2 v8 v10 σ)).bind fun σ =>
  (gR 0 14 c0_40 σ).bind fun v12 =>
  (gR 5 501 v12 σ).bind fun v13 =>
  (ldI 0 v13 c1_40 σ).bind fun v14 =>
  if v14 = c2_40 then
  ((gR 0 15 c0_40 σ).bind fun v15 =>
  (gR 0 16 c0_40 σ).bind fun v16 =>
  (ldI 0 v16 i_5 σ).bind fun v17 =>
  (ldI 0 v15 v17 σ).bind fun v18 =>
  some (.inr (.inl (v18, σ))))
  else
  (some (.inl ((i_5 + (1 : Int32)), σ))))
  else
  (some (.inr (.inr σ)))
noncomputable def f_X0_fewest_J22 (a0_22 : Nat) (i1_22 : Int32) (i2_22 : Int32) (w0_22 : Int32) (w1_22 : Nat) (σ : ZT) : Option (Int32 × ZT) :=
  (pI 0 7 w1_22 w0_22 σ).bind fun σ =>
  (gI 0 7 a0_22 σ).bind fun v3 =>
  if 0 < v3 then
  (some ((-1 : Int32), σ))
  else
  ((vc 0 a0_22 σ (f_X0_findAll a0_22 σ)).bind fun σ =>
  (loopC (fun s : (Int32 × ZT) => f_X0_fewest_L40 a0_22 i1_22 i2_22 s.1 s.2) ((0 : Int32), σ)).bind fun x => (match x with
  | .inl o => some o
  | .inr σ => bnd2 (vc 0 a0_22 σ (f_X0_answer a0_22 (-1 : Int32) σ)) fun v19 σ =>
  some (v19, σ)))
noncomputable def f_X0_fewest_J21 (a0_21 : Nat) (i1_21 : Int32) (i2_21 : Int32) (w0_21 : Nat) (σ : ZT) : Option (Int32 × ZT) :=
  f_X0_fewest_J22 a0_21 i1_21 i2_21 (1 : Int32) w0_21 σ
noncomputable def f_X0_fewest (a0 : Nat) (i1 : Int32) (i2 : Int32) (σ : ZT) : Option (Int32 × ZT) :=
  bnd2 (vc 0 a0 σ (f_X0_isPerson a0 i1 σ)) fun v1 σ =>
  if v1 = 0 then
  (f_X0_fewest_J21 a0 i1 i2 a0 σ)
  else
  (bnd2 (vc 0 a0 σ (f_X0_isPlace a0 i2 σ)) fun v2 σ =>
  if v2 = 0 then
  (f_X0_fewest_J21 a0 i1 i2 a0 σ)
  else
  (f_X0_fewest_J22 a0 i1 i2 (0 : Int32) a0 σ))
set_option maxHeartbeats 4000000 in
theorem m_X0_fewest {l : Launch} {G : ZG} (a0 : Nat) (i1 : Int32) (i2 : Int32) (σ : ZT) {out : (Int32 × ZT)} (hf : f_X0_fewest a0 i1 i2 σ = some out) : ZM l G yX0_fewest cX0_fewest 4 (some .int) [] 9 [.ref a0, .int i1, .int i2] σ (.returned (some (.int out.1))) out.2 := by
  refine ZM.of [(0, .ref a0), (1, .int i1), (2, .int i2)] rfl (Nat.le_of_ble_eq_true rfl) fun X (C : ZC G RX0 "fewest" cX0_fewest 4 (some .int) [] X 9) => ?_
  unfold f_X0_fewest at hf
  have j22_0 : ∀ (a0_22 : Nat) (i1_22 : Int32) (i2_22 : Int32) (w0_22 : Int32) (w1_22 : Nat) (σ : ZT), f_X0_fewest_J22 a0_22 i1_22 i2_22 w0_22 w1_22 σ = some out → ZW l G 4 X (ZQ G X (.returned (some (.int out.1))) out.2) σ 22 [(0, .ref a0_22), (1, .int i1_22), (2, .int i2_22)] [.int w0_22, .ref w1_22] := by
    intro a0_22 i1_22 i2_22 w0_22 w1_22 σ hf
    unfold f_X0_fewest_J22 at hf
    refine z_putI (q := 25) C puX0_110 dX0_fewest_22 hf rfl fun σ hf => ?_
    refine z_aload_n (q := 26) (i := 0) C 0 dX0_fewest_25 rfl rfl rfl ?_
    refine z_getI (q := 29) C flX0_110 dX0_fewest_26 hf rfl fun v3 hf => ?_
    refine z_ifle (q := 32) (tgt := 34) C dX0_fewest_29 (by decide) rfl hf (fun c29 hf => ?_) (fun c29 hf => ?_)
    · refine z_aload_n (q := 35) (i := 0) C 0 dX0_fewest_34 rfl rfl rfl ?_
      refine z_callVv (q := 38) (As := []) C (fun o ho => m_X0_findAll _ _ ho) zk0 vvX0_402 cdX0_findAll pnX0 dX0_fewest_35 rfl (by decide) (Nat.le_of_ble_eq_true rfl) hf rfl fun σ hf => ?_
      refine z_iconst (q := 39) C (0 : Int32) dX0_fewest_38 ki_0 rfl ?_
      refine z_istore_n (q := 40) (i := 3) (lv' := [(3, .int (0 : Int32)), (0, .ref a0_22), (1, .int i1_22), (2, .int i2_22)]) C dX0_fewest_39 rfl (by decide) rfl rfl ?_
      refine z_lv [1, 2, 3, 0] rfl ?_
      obtain ⟨r1, hr1, hk1⟩ := Option.bind_eq_some_iff.mp hf
      refine loopC_ind (P := fun s => ZW l G 4 X (ZQ G X (.returned (some (.int out.1))) out.2) s.2 40 [(0, .ref a0_22), (1, .int i1_22), (2, .int i2_22), (3, .int s.1)] []) (fun s x1 hf hx1 => ?_) hr1
      obtain ⟨i_5, σ⟩ := s
      unfold f_X0_fewest_L40 at hf
      try dsimp only at hf
      try dsimp only
      refine z_iload_n (q := 41) (i := 3) C 3 dX0_fewest_40 rfl rfl rfl ?_
      refine z_aload_n (q := 42) (i := 0) C 0 dX0_fewest_41 rfl rfl rfl ?_
      refine z_getI (q := 45) C flX0_372 dX0_fewest_42 hf rfl fun v6 hf => ?_
      refine z_icmpge (q := 48) (tgt := 92) C dX0_fewest_45 (by decide) rfl hf (fun c45 hf => ?_) (fun c45 hf => ?_)
      · have e1 := zl_x hf hx1
        have hf := hk1
        rw [← e1] at hf
        try dsimp only at hf
        refine z_aload_n (q := 93) (i := 0) C 0 dX0_fewest_92 rfl rfl rfl ?_
        refine z_iconst (q := 94) C (-1 : Int32) dX0_fewest_93 ki_m1 rfl ?_
        refine z_callVi (q := 97) (As := [.int (-1 : Int32)]) C (fun o ho => m_X0_answer _ _ _ ho) zk0 vvX0_321 cdX0_answer pnX0 dX0_fewest_94 rfl (by decide) (Nat.le_of_ble_eq_true rfl) hf rfl fun v7 σ hf => ?_
        exact z_ireturn C rfl dX0_fewest_97 (Option.some.inj hf)
      · refine z_aload_n (q := 49) (i := 0) C 0 dX0_fewest_48 rfl rfl rfl ?_
        refine z_getR (q := 52) C flX0_73 dX0_fewest_49 hf rfl fun v8 hf => ?_
        refine z_aload_n (q := 53) (i := 0) C 0 dX0_fewest_52 rfl rfl rfl ?_
        refine z_getR (q := 56) C flX0_81 dX0_fewest_53 hf rfl fun v9 hf => ?_
        refine z_iload_n (q := 57) (i := 3) C 3 dX0_fewest_56 rfl rfl rfl ?_
        refine z_iald (q := 58) C dX0_fewest_57 hf rfl fun v10 hf => ?_
        refine z_callVv (q := 61) (As := [.int v10]) C (fun o ho => m_X5_be_2 _ _ _ ho) zk5 vvX0_391 cdX5_be_2 pnX5 dX0_fewest_58 rfl (by decide) (Nat.le_of_ble_eq_true rfl) hf rfl fun σ hf => ?_
        refine z_aload_n (q := 62) (i := 0) C 0 dX0_fewest_61 rfl rfl rfl ?_
        refine z_getR (q := 65) C flX0_73 dX0_fewest_62 hf rfl fun v12 hf => ?_
        refine z_getR (q := 68) C flX0_338 dX0_fewest_65 hf rfl fun v13 hf => ?_
        refine z_iload_n (q := 69) (i := 1) C 1 dX0_fewest_68 rfl rfl rfl ?_
        refine z_iald (q := 70) C dX0_fewest_69 hf rfl fun v14 hf => ?_
        refine z_iload_n (q := 71) (i := 2) C 2 dX0_fewest_70 rfl rfl rfl ?_
        refine z_icmpne (q := 74) (tgt := 86) C dX0_fewest_71 (by decide) rfl hf (fun c71 hf => ?_) (fun c71 hf => ?_)
        · refine z_iinc (q := 89) (i := 3) (lv' := [(3, .int (i_5 + (1 : Int32))), (0, .ref a0_22), (1, .int i1_22), (2, .int i2_22)]) C 3 (i_5 + (1 : Int32)) dX0_fewest_86 rfl (kn_1 _) (by decide) rfl rfl ?_
          refine z_goto (q := 40) C dX0_fewest_89 (by decide) ?_
          refine z_lv [1, 2, 3, 0] rfl ?_
          have hc1 := zl_c hf hx1
          exact hc1
        · refine z_aload_n (q := 75) (i := 0) C 0 dX0_fewest_74 rfl rfl rfl ?_
          refine z_getR (q := 78) C flX0_78 dX0_fewest_75 hf rfl fun v15 hf => ?_
          refine z_aload_n (q := 79) (i := 0) C 0 dX0_fewest_78 rfl rfl rfl ?_
          refine z_getR (q := 82) C flX0_81 dX0_fewest_79 hf rfl fun v16 hf => ?_
          refine z_iload_n (q := 83) (i := 3) C 3 dX0_fewest_82 rfl rfl rfl ?_
          refine z_iald (q := 84) C dX0_fewest_83 hf rfl fun v17 hf => ?_
          refine z_iald (q := 85) C dX0_fewest_84 hf rfl fun v18 hf => ?_
          have e1 := zl_x hf hx1
          have hf := hk1
          rw [← e1] at hf
          try dsimp only at hf
          exact z_ireturn C rfl dX0_fewest_85 (Option.some.inj hf)
    · refine z_iconst (q := 33) C (-1 : Int32) dX0_fewest_32 ki_m1 rfl ?_
      exact z_ireturn C rfl dX0_fewest_33 (Option.some.inj hf)
  have j21_0 : ∀ (a0_21 : Nat) (i1_21 : Int32) (i2_21 : Int32) (w0_21 : Nat) (σ : ZT), f_X0_fewest_J21 a0_21 i1_21 i2_21 w0_21 σ = some out → ZW l G 4 X (ZQ G X (.returned (some (.int out.1))) out.2) σ 21 [(0, .ref a0_21), (1, .int i1_21), (2, .int i2_21)] [.ref w0_21] := by
    intro a0_21 i1_21 i2_21 w0_21 σ hf
    unfold f_X0_fewest_J21 at hf
    refine z_iconst (q := 22) C (1 : Int32) dX0_fewest_21 ki_1 rfl ?_
    exact j22_0 a0_21 i1_21 i2_21 (1 : Int32) w0_21 σ hf
  refine z_aload_n (q := 1) (i := 0) C 0 dX0_fewest_0 rfl rfl rfl ?_
  refine z_aload_n (q := 2) (i := 0) C 0 dX0_fewest_1 rfl rfl rfl ?_
  refine z_iload_n (q := 3) (i := 1) C 1 dX0_fewest_2 rfl rfl rfl ?_
  refine z_callVi (q := 6) (As := [.int i1]) C (fun o ho => m_X0_isPerson _ _ _ ho) zk0 vvX0_304 cdX0_isPerson pnX0 dX0_fewest_3 rfl (by decide) (Nat.le_of_ble_eq_true rfl) hf rfl fun v1 σ hf => ?_
  refine z_ifeq (q := 9) (tgt := 21) C dX0_fewest_6 (by decide) rfl hf (fun c6 hf => ?_) (fun c6 hf => ?_)
  · exact j21_0 a0 i1 i2 a0 σ hf
  · refine z_aload_n (q := 10) (i := 0) C 0 dX0_fewest_9 rfl rfl rfl ?_
    refine z_iload_n (q := 11) (i := 2) C 2 dX0_fewest_10 rfl rfl rfl ?_
    refine z_callVi (q := 14) (As := [.int i2]) C (fun o ho => m_X0_isPlace _ _ _ ho) zk0 vvX0_332 cdX0_isPlace pnX0 dX0_fewest_11 rfl (by decide) (Nat.le_of_ble_eq_true rfl) hf rfl fun v2 σ hf => ?_
    refine z_ifeq (q := 17) (tgt := 21) C dX0_fewest_14 (by decide) rfl hf (fun c14 hf => ?_) (fun c14 hf => ?_)
    · exact j21_0 a0 i1 i2 a0 σ hf
    · refine z_iconst (q := 18) C (0 : Int32) dX0_fewest_17 ki_0 rfl ?_
      refine z_goto (q := 22) C dX0_fewest_18 (by decide) ?_
      exact j22_0 a0 i1 i2 (0 : Int32) a0 σ hf

noncomputable def f_X0_states (a0 : Nat) (σ : ZT) : Option (Int32 × ZT) :=
  (pI 0 7 a0 (0 : Int32) σ).bind fun σ =>
  (vc 0 a0 σ (f_X0_findAll a0 σ)).bind fun σ =>
  (gI 0 18 a0 σ).bind fun v2 =>
  some (v2, σ)
set_option maxHeartbeats 4000000 in
theorem m_X0_states {l : Launch} {G : ZG} (a0 : Nat) (σ : ZT) {out : (Int32 × ZT)} (hf : f_X0_states a0 σ = some out) : ZM l G yX0_states cX0_states 1 (some .int) [] 9 [.ref a0] σ (.returned (some (.int out.1))) out.2 := by
  refine ZM.of [(0, .ref a0)] rfl (Nat.le_of_ble_eq_true rfl) fun X (C : ZC G RX0 "states" cX0_states 1 (some .int) [] X 9) => ?_
  unfold f_X0_states at hf
  refine z_aload_n (q := 1) (i := 0) C 0 dX0_states_0 rfl rfl rfl ?_
  refine z_iconst (q := 2) C (0 : Int32) dX0_states_1 ki_0 rfl ?_
  refine z_putI (q := 5) C puX0_110 dX0_states_2 hf rfl fun σ hf => ?_
  refine z_aload_n (q := 6) (i := 0) C 0 dX0_states_5 rfl rfl rfl ?_
  refine z_callVv (q := 9) (As := []) C (fun o ho => m_X0_findAll _ _ ho) zk0 vvX0_402 cdX0_findAll pnX0 dX0_states_6 rfl (by decide) (Nat.le_of_ble_eq_true rfl) hf rfl fun σ hf => ?_
  refine z_aload_n (q := 10) (i := 0) C 0 dX0_states_9 rfl rfl rfl ?_
  refine z_getI (q := 13) C flX0_372 dX0_states_10 hf rfl fun v2 hf => ?_
  exact z_ireturn C rfl dX0_states_13 (Option.some.inj hf)

noncomputable def f_X0_most_J94_61 (a0_94 : Nat) (i1_94 : Int32) (i2_94 : Int32) (i3_94 : Int32) (i5_94 : Int32) (w0_94 : Int32) (w1_94 : Int32) (σ : ZT) : Option ((Int32 × Int32 × ZT) ⊕ (Int32 × ZT)) :=
  some (.inl ((w1_94 + w0_94), (i5_94 + (1 : Int32)), σ))
noncomputable def f_X0_most_L61 (c0_61 : Nat) (c1_61 : Int32) (c2_61 : Int32) (c3_61 : Int32) (i_11 : Int32) (i_12 : Int32) (σ : ZT) : Option ((Int32 × Int32 × ZT) ⊕ (Int32 × ZT)) :=
  bnd2 (vc 0 c0_61 σ (f_X0_town_2 c0_61 σ)) fun v13 σ =>
  (gI 6 602 v13 σ).bind fun v14 =>
  if i_12 < v14 then
  ((gR 0 14 c0_61 σ).bind fun v15 =>
  (gR 5 501 v15 σ).bind fun v16 =>
  (ldI 0 v16 i_12 σ).bind fun v17 =>
  if v17 = c1_61 then
  (f_X0_most_J94_61 c0_61 c1_61 c2_61 c3_61 i_12 (1 : Int32) i_11 σ)
  else
  (f_X0_most_J94_61 c0_61 c1_61 c2_61 c3_61 i_12 (0 : Int32) i_11 σ))
  else
  (some (.inr (i_11, σ)))
noncomputable def f_X0_most_L34 (c0_34 : Nat) (c1_34 : Int32) (i_4 : Int32) (i_5 : Int32) (σ : ZT) : Option ((Int32 × Int32 × ZT) ⊕ (Int32 × ZT)) :=
  (gI 0 18 c0_34 σ).bind fun v6 =>
  if i_5 < v6 then
  ((gR 0 14 c0_34 σ).bind fun v7 =>
  (gR 0 16 c0_34 σ).bind fun v8 =>
  (ldI 0 v8 i_5 σ).bind fun v9 =>
  (vc 5 v7 σ (f_X5_be_2 v7 v9 σ)).bind fun σ =>
  (loopC (fun s : (Int32 × Int32 × ZT) => f_X0_most_L61 c0_34 c1_34 i_4 i_5 s.1 s.2.1 s.2.2) ((0 : Int32), (0 : Int32), σ)).bind fun x => (match x with
  | (x18, σ) => some (.inl ((if i_4 < x18 then x18 else i_4), (i_5 + (1 : Int32)), σ))))
  else
  (some (.inr (i_4, σ)))
noncomputable def f_X0_most_J14 (a0_14 : Nat) (i1_14 : Int32) (w0_14 : Int32) (w1_14 : Nat) (σ : ZT) : Option (Int32 × ZT) :=
  (pI 0 7 w1_14 w0_14 σ).bind fun σ =>
  (gI 0 7 a0_14 σ).bind fun v2 =>
  if 0 < v2 then
  (some ((-1 : Int32), σ))
  else
  ((vc 0 a0_14 σ (f_X0_findAll a0_14 σ)).bind fun σ =>
  (loopC (fun s : (Int32 × Int32 × ZT) => f_X0_most_L34 a0_14 i1_14 s.1 s.2.1 s.2.2) ((0 : Int32), (0 : Int32), σ)).bind fun x => (match x with
  | (x19, σ) => some (x19, σ)))
noncomputable def f_X0_most (a0 : Nat) (i1 : Int32) (σ : ZT) : Option (Int32 × ZT) :=
  bnd2 (vc 0 a0 σ (f_X0_isPlace a0 i1 σ)) fun v1 σ =>
  if v1 = 0 then
  (f_X0_most_J14 a0 i1 (1 : Int32) a0 σ)
  else
  (f_X0_most_J14 a0 i1 (0 : Int32) a0 σ)
set_option maxHeartbeats 4000000 in
theorem m_X0_most {l : Launch} {G : ZG} (a0 : Nat) (i1 : Int32) (σ : ZT) {out : (Int32 × ZT)} (hf : f_X0_most a0 i1 σ = some out) : ZM l G yX0_most cX0_most 6 (some .int) [] 9 [.ref a0, .int i1] σ (.returned (some (.int out.1))) out.2 := by
  refine ZM.of [(0, .ref a0), (1, .int i1)] rfl (Nat.le_of_ble_eq_true rfl) fun X (C : ZC G RX0 "most" cX0_most 6 (some .int) [] X 9) => ?_
  unfold f_X0_most at hf
  have j14_0 : ∀ (a0_14 : Nat) (i1_14 : Int32) (w0_14 : Int32) (w1_14 : Nat) (σ : ZT), f_X0_most_J14 a0_14 i1_14 w0_14 w1_14 σ = some out → ZW l G 6 X (ZQ G X (.returned (some (.int out.1))) out.2) σ 14 [(0, .ref a0_14), (1, .int i1_14)] [.int w0_14, .ref w1_14] := by
    intro a0_14 i1_14 w0_14 w1_14 σ hf
    unfold f_X0_most_J14 at hf
    refine z_putI (q := 17) C puX0_110 dX0_most_14 hf rfl fun σ hf => ?_
    refine z_aload_n (q := 18) (i := 0) C 0 dX0_most_17 rfl rfl rfl ?_
    refine z_getI (q := 21) C flX0_110 dX0_most_18 hf rfl fun v2 hf => ?_
    refine z_ifle (q := 24) (tgt := 26) C dX0_most_21 (by decide) rfl hf (fun c21 hf => ?_) (fun c21 hf => ?_)
    · refine z_aload_n (q := 27) (i := 0) C 0 dX0_most_26 rfl rfl rfl ?_
      refine z_callVv (q := 30) (As := []) C (fun o ho => m_X0_findAll _ _ ho) zk0 vvX0_402 cdX0_findAll pnX0 dX0_most_27 rfl (by decide) (Nat.le_of_ble_eq_true rfl) hf rfl fun σ hf => ?_
      refine z_iconst (q := 31) C (0 : Int32) dX0_most_30 ki_0 rfl ?_
      refine z_istore_n (q := 32) (i := 2) (lv' := [(2, .int (0 : Int32)), (0, .ref a0_14), (1, .int i1_14)]) C dX0_most_31 rfl (by decide) rfl rfl ?_
      refine z_iconst (q := 33) C (0 : Int32) dX0_most_32 ki_0 rfl ?_
      refine z_istore_n (q := 34) (i := 3) (lv' := [(3, .int (0 : Int32)), (2, .int (0 : Int32)), (0, .ref a0_14), (1, .int i1_14)]) C dX0_most_33 rfl (by decide) rfl rfl ?_
      refine z_lv [2, 3, 1, 0] rfl ?_
      obtain ⟨r1, hr1, hk1⟩ := Option.bind_eq_some_iff.mp hf
      refine loopC_ind (P := fun s => ZW l G 6 X (ZQ G X (.returned (some (.int out.1))) out.2) s.2.2 34 [(0, .ref a0_14), (1, .int i1_14), (2, .int s.1), (3, .int s.2.1)] []) (fun s x1 hf hx1 => ?_) hr1
      obtain ⟨i_4, i_5, σ⟩ := s
      unfold f_X0_most_L34 at hf
      try dsimp only at hf
      try dsimp only
      refine z_iload_n (q := 35) (i := 3) C 3 dX0_most_34 rfl rfl rfl ?_
      refine z_aload_n (q := 36) (i := 0) C 0 dX0_most_35 rfl rfl rfl ?_
      refine z_getI (q := 39) C flX0_372 dX0_most_36 hf rfl fun v6 hf => ?_
      refine z_icmpge (q := 42) (tgt := 116) C dX0_most_39 (by decide) rfl hf (fun c39 hf => ?_) (fun c39 hf => ?_)
      · have e1 := zl_x hf hx1
        have hf := hk1
        rw [← e1] at hf
        try dsimp only at hf
        refine z_iload_n (q := 117) (i := 2) C 2 dX0_most_116 rfl rfl rfl ?_
        exact z_ireturn C rfl dX0_most_117 (Option.some.inj hf)
      · refine z_aload_n (q := 43) (i := 0) C 0 dX0_most_42 rfl rfl rfl ?_
        refine z_getR (q := 46) C flX0_73 dX0_most_43 hf rfl fun v7 hf => ?_
        refine z_aload_n (q := 47) (i := 0) C 0 dX0_most_46 rfl rfl rfl ?_
        refine z_getR (q := 50) C flX0_81 dX0_most_47 hf rfl fun v8 hf => ?_
        refine z_iload_n (q := 51) (i := 3) C 3 dX0_most_50 rfl rfl rfl ?_
        refine z_iald (q := 52) C dX0_most_51 hf rfl fun v9 hf => ?_
        refine z_callVv (q := 55) (As := [.int v9]) C (fun o ho => m_X5_be_2 _ _ _ ho) zk5 vvX0_391 cdX5_be_2 pnX5 dX0_most_52 rfl (by decide) (Nat.le_of_ble_eq_true rfl) hf rfl fun σ hf => ?_
        refine z_iconst (q := 56) C (0 : Int32) dX0_most_55 ki_0 rfl ?_
        refine z_istore (q := 58) (i := 4) (lv' := [(4, .int (0 : Int32)), (0, .ref a0_14), (1, .int i1_14), (2, .int i_4), (3, .int i_5)]) C dX0_most_56 (by decide) rfl rfl ?_
        refine z_iconst (q := 59) C (0 : Int32) dX0_most_58 ki_0 rfl ?_
        refine z_istore (q := 61) (i := 5) (lv' := [(5, .int (0 : Int32)), (4, .int (0 : Int32)), (0, .ref a0_14), (1, .int i1_14), (2, .int i_4), (3, .int i_5)]) C dX0_most_59 (by decide) rfl rfl ?_
        refine z_lv [2, 3, 4, 5, 1, 0] rfl ?_
        obtain ⟨r2, hr2, hk2⟩ := Option.bind_eq_some_iff.mp hf
        refine loopC_ind (P := fun s => ZW l G 6 X (ZQ G X (.returned (some (.int out.1))) out.2) s.2.2 61 [(0, .ref a0_14), (1, .int i1_14), (2, .int i_4), (3, .int i_5), (4, .int s.1), (5, .int s.2.1)] []) (fun s x2 hf hx2 => ?_) hr2
        obtain ⟨i_11, i_12, σ⟩ := s
        unfold f_X0_most_L61 at hf
        try dsimp only at hf
        try dsimp only
        have j94_2 : ∀ (i5_94 : Int32) (w0_94 : Int32) (w1_94 : Int32) (σ : ZT), f_X0_most_J94_61 a0_14 i1_14 i_4 i_5 i5_94 w0_94 w1_94 σ = some x2 → ZW l G 6 X (ZQ G X (.returned (some (.int out.1))) out.2) σ 94 [(0, .ref a0_14), (1, .int i1_14), (2, .int i_4), (3, .int i_5), (5, .int i5_94)] [.int w0_94, .int w1_94] := by
          intro i5_94 w0_94 w1_94 σ hf
          unfold f_X0_most_J94_61 at hf
          refine z_iadd (q := 95) C dX0_most_94 rfl ?_
          refine z_istore (q := 97) (i := 4) (lv' := [(4, .int (w1_94 + w0_94)), (0, .ref a0_14), (1, .int i1_14), (2, .int i_4), (3, .int i_5), (5, .int i5_94)]) C dX0_most_95 (by decide) rfl rfl ?_
          refine z_iinc (q := 100) (i := 5) (lv' := [(5, .int (i5_94 + (1 : Int32))), (4, .int (w1_94 + w0_94)), (0, .ref a0_14), (1, .int i1_14), (2, .int i_4), (3, .int i_5)]) C 5 (i5_94 + (1 : Int32)) dX0_most_97 rfl (kn_1 _) (by decide) rfl rfl ?_
          refine z_goto (q := 61) C dX0_most_100 (by decide) ?_
          refine z_lv [2, 3, 4, 5, 1, 0] rfl ?_
          have hc2 := zl_c hf hx2
          exact hc2
        refine z_iload (q := 63) (i := 5) C 5 dX0_most_61 rfl rfl ?_
        refine z_aload_n (q := 64) (i := 0) C 0 dX0_most_63 rfl rfl rfl ?_
        refine z_callVr (q := 67) (As := []) C (fun o ho => m_X0_town_2 _ _ ho) zk0 vvX0_188 cdX0_town_2 pnX0 dX0_most_64 rfl (by decide) (Nat.le_of_ble_eq_true rfl) hf rfl fun v13 σ hf => ?_
        refine z_getI (q := 70) C flX0_203 dX0_most_67 hf rfl fun v14 hf => ?_
        refine z_icmpge (q := 73) (tgt := 103) C dX0_most_70 (by decide) rfl hf (fun c70 hf => ?_) (fun c70 hf => ?_)
        · have e2 := zl_x hf hx2
          have hf := hk2
          rw [← e2] at hf
          try dsimp only at hf
          refine z_iload_n (q := 104) (i := 2) C 2 dX0_most_103 rfl rfl rfl ?_
          refine z_iload (q := 106) (i := 4) C 4 dX0_most_104 rfl rfl ?_
          refine z_mmax (q := 109) C q1426 dX0_most_106 (by decide) (Nat.le_of_ble_eq_true rfl) rfl ?_
          refine z_istore_n (q := 110) (i := 2) (lv' := [(2, .int (if i_4 < i_11 then i_11 else i_4)), (0, .ref a0_14), (1, .int i1_14), (3, .int i_5), (4, .int i_11), (5, .int i_12)]) C dX0_most_109 rfl (by decide) rfl rfl ?_
          refine z_iinc (q := 113) (i := 3) (lv' := [(3, .int (i_5 + (1 : Int32))), (2, .int (if i_4 < i_11 then i_11 else i_4)), (0, .ref a0_14), (1, .int i1_14), (4, .int i_11), (5, .int i_12)]) C 3 (i_5 + (1 : Int32)) dX0_most_110 rfl (kn_1 _) (by decide) rfl rfl ?_
          refine z_goto (q := 34) C dX0_most_113 (by decide) ?_
          refine z_lv [2, 3, 1, 0] rfl ?_
          have hc1 := zl_c hf hx1
          exact hc1
        · refine z_iload (q := 75) (i := 4) C 4 dX0_most_73 rfl rfl ?_
          refine z_aload_n (q := 76) (i := 0) C 0 dX0_most_75 rfl rfl rfl ?_
          refine z_getR (q := 79) C flX0_73 dX0_most_76 hf rfl fun v15 hf => ?_
          refine z_getR (q := 82) C flX0_338 dX0_most_79 hf rfl fun v16 hf => ?_
          refine z_iload (q := 84) (i := 5) C 5 dX0_most_82 rfl rfl ?_
          refine z_iald (q := 85) C dX0_most_84 hf rfl fun v17 hf => ?_
          refine z_iload_n (q := 86) (i := 1) C 1 dX0_most_85 rfl rfl rfl ?_
          refine z_icmpne (q := 89) (tgt := 93) C dX0_most_86 (by decide) rfl hf (fun c86 hf => ?_) (fun c86 hf => ?_)
          · refine z_iconst (q := 94) C (0 : Int32) dX0_most_93 ki_0 rfl ?_
            refine z_lv [0, 1, 2, 3, 5] rfl ?_
            exact j94_2 i_12 (0 : Int32) i_11 σ hf
          · refine z_iconst (q := 90) C (1 : Int32) dX0_most_89 ki_1 rfl ?_
            refine z_goto (q := 94) C dX0_most_90 (by decide) ?_
            refine z_lv [0, 1, 2, 3, 5] rfl ?_
            exact j94_2 i_12 (1 : Int32) i_11 σ hf
    · refine z_iconst (q := 25) C (-1 : Int32) dX0_most_24 ki_m1 rfl ?_
      exact z_ireturn C rfl dX0_most_25 (Option.some.inj hf)
  refine z_aload_n (q := 1) (i := 0) C 0 dX0_most_0 rfl rfl rfl ?_
  refine z_aload_n (q := 2) (i := 0) C 0 dX0_most_1 rfl rfl rfl ?_
  refine z_iload_n (q := 3) (i := 1) C 1 dX0_most_2 rfl rfl rfl ?_
  refine z_callVi (q := 6) (As := [.int i1]) C (fun o ho => m_X0_isPlace _ _ _ ho) zk0 vvX0_332 cdX0_isPlace pnX0 dX0_most_3 rfl (by decide) (Nat.le_of_ble_eq_true rfl) hf rfl fun v1 σ hf => ?_
  refine z_ifeq (q := 9) (tgt := 13) C dX0_most_6 (by decide) rfl hf (fun c6 hf => ?_) (fun c6 hf => ?_)
  · refine z_iconst (q := 14) C (1 : Int32) dX0_most_13 ki_1 rfl ?_
    exact j14_0 a0 i1 (1 : Int32) a0 σ hf
  · refine z_iconst (q := 10) C (0 : Int32) dX0_most_9 ki_0 rfl ?_
    refine z_goto (q := 14) C dX0_most_10 (by decide) ?_
    exact j14_0 a0 i1 (0 : Int32) a0 σ hf

noncomputable def f_X0_leadsToGood_J53_2 (a0_53 : Nat) (i1_53 : Int32) (i2_53 : Int32) (σ : ZT) : Option ((Int32 × ZT) ⊕ ((Int32 × ZT) ⊕ ZT)) :=
  some (.inl ((i2_53 + (1 : Int32)), σ))
noncomputable def f_X0_leadsToGood_L2 (c0_2 : Nat) (c1_2 : Int32) (i_1 : Int32) (σ : ZT) : Option ((Int32 × ZT) ⊕ ((Int32 × ZT) ⊕ ZT)) :=
  (gR 0 13 c0_2 σ).bind fun v2 =>
  (gI 7 704 v2 σ).bind fun v3 =>
  if i_1 < v3 then
  ((gR 0 14 c0_2 σ).bind fun v4 =>
  (vc 5 v4 σ (f_X5_be_2 v4 c1_2 σ)).bind fun σ =>
  (gR 0 13 c0_2 σ).bind fun v6 =>
  (gR 0 14 c0_2 σ).bind fun v7 =>
  bnd2 (vc 7 v6 σ (f_X7_does v6 v7 i_1 σ)) fun v8 σ =>
  if v8 = 0 then
  (f_X0_leadsToGood_J53_2 c0_2 c1_2 i_1 σ)
  else
  ((gR 0 17 c0_2 σ).bind fun v9 =>
  (gR 0 14 c0_2 σ).bind fun v10 =>
  bnd2 (vc 5 v10 σ (f_X5_number v10 σ)) fun v11 σ =>
  (ldI 4 v9 v11 σ).bind fun v12 =>
  if v12 = 0 then
  (f_X0_leadsToGood_J53_2 c0_2 c1_2 i_1 σ)
  else
  (some (.inr (.inl ((1 : Int32), σ))))))
  else
  (some (.inr (.inr σ)))
noncomputable def f_X0_leadsToGood (a0 : Nat) (i1 : Int32) (σ : ZT) : Option (Int32 × ZT) :=
  (loopC (fun s : (Int32 × ZT) => f_X0_leadsToGood_L2 a0 i1 s.1 s.2) ((0 : Int32), σ)).bind fun x => (match x with
  | .inl o => some o
  | .inr σ => some ((0 : Int32), σ))
set_option maxHeartbeats 4000000 in
theorem m_X0_leadsToGood {l : Launch} {G : ZG} (a0 : Nat) (i1 : Int32) (σ : ZT) {out : (Int32 × ZT)} (hf : f_X0_leadsToGood a0 i1 σ = some out) : ZM l G yX0_leadsToGood cX0_leadsToGood 3 (some .boolean) [] 7 [.ref a0, .int i1] σ (.returned (some (.int out.1))) out.2 := by
  refine ZM.of [(0, .ref a0), (1, .int i1)] rfl (Nat.le_of_ble_eq_true rfl) fun X (C : ZC G RX0 "leadsToGood" cX0_leadsToGood 3 (some .boolean) [] X 7) => ?_
  unfold f_X0_leadsToGood at hf
  refine z_iconst (q := 1) C (0 : Int32) dX0_leadsToGood_0 ki_0 rfl ?_
  refine z_istore_n (q := 2) (i := 2) (lv' := [(2, .int (0 : Int32)), (0, .ref a0), (1, .int i1)]) C dX0_leadsToGood_1 rfl (by decide) rfl rfl ?_
  refine z_lv [1, 2, 0] rfl ?_
  obtain ⟨r1, hr1, hk1⟩ := Option.bind_eq_some_iff.mp hf
  refine loopC_ind (P := fun s => ZW l G 3 X (ZQ G X (.returned (some (.int out.1))) out.2) s.2 2 [(0, .ref a0), (1, .int i1), (2, .int s.1)] []) (fun s x1 hf hx1 => ?_) hr1
  obtain ⟨i_1, σ⟩ := s
  unfold f_X0_leadsToGood_L2 at hf
  try dsimp only at hf
  try dsimp only
  have j53_1 : ∀ (i2_53 : Int32) (σ : ZT), f_X0_leadsToGood_J53_2 a0 i1 i2_53 σ = some x1 → ZW l G 3 X (ZQ G X (.returned (some (.int out.1))) out.2) σ 53 [(0, .ref a0), (1, .int i1), (2, .int i2_53)] [] := by
    intro i2_53 σ hf
    unfold f_X0_leadsToGood_J53_2 at hf
    refine z_iinc (q := 56) (i := 2) (lv' := [(2, .int (i2_53 + (1 : Int32))), (0, .ref a0), (1, .int i1)]) C 2 (i2_53 + (1 : Int32)) dX0_leadsToGood_53 rfl (kn_1 _) (by decide) rfl rfl ?_
    refine z_goto (q := 2) C dX0_leadsToGood_56 (by decide) ?_
    refine z_lv [1, 2, 0] rfl ?_
    have hc1 := zl_c hf hx1
    exact hc1
  refine z_iload_n (q := 3) (i := 2) C 2 dX0_leadsToGood_2 rfl rfl rfl ?_
  refine z_aload_n (q := 4) (i := 0) C 0 dX0_leadsToGood_3 rfl rfl rfl ?_
  refine z_getR (q := 7) C flX0_66 dX0_leadsToGood_4 hf rfl fun v2 hf => ?_
  refine z_getI (q := 10) C flX0_388 dX0_leadsToGood_7 hf rfl fun v3 hf => ?_
  refine z_icmpge (q := 13) (tgt := 59) C dX0_leadsToGood_10 (by decide) rfl hf (fun c10 hf => ?_) (fun c10 hf => ?_)
  · have e1 := zl_x hf hx1
    have hf := hk1
    rw [← e1] at hf
    try dsimp only at hf
    refine z_iconst (q := 60) C (0 : Int32) dX0_leadsToGood_59 ki_0 rfl ?_
    exact z_zreturn C rfl z_nb0 dX0_leadsToGood_60 (Option.some.inj hf)
  · refine z_aload_n (q := 14) (i := 0) C 0 dX0_leadsToGood_13 rfl rfl rfl ?_
    refine z_getR (q := 17) C flX0_73 dX0_leadsToGood_14 hf rfl fun v4 hf => ?_
    refine z_iload_n (q := 18) (i := 1) C 1 dX0_leadsToGood_17 rfl rfl rfl ?_
    refine z_callVv (q := 21) (As := [.int i1]) C (fun o ho => m_X5_be_2 _ _ _ ho) zk5 vvX0_391 cdX5_be_2 pnX5 dX0_leadsToGood_18 rfl (by decide) (Nat.le_of_ble_eq_true rfl) hf rfl fun σ hf => ?_
    refine z_aload_n (q := 22) (i := 0) C 0 dX0_leadsToGood_21 rfl rfl rfl ?_
    refine z_getR (q := 25) C flX0_66 dX0_leadsToGood_22 hf rfl fun v6 hf => ?_
    refine z_aload_n (q := 26) (i := 0) C 0 dX0_leadsToGood_25 rfl rfl rfl ?_
    refine z_getR (q := 29) C flX0_73 dX0_leadsToGood_26 hf rfl fun v7 hf => ?_
    refine z_iload_n (q := 30) (i := 2) C 2 dX0_leadsToGood_29 rfl rfl rfl ?_
    refine z_callVi (q := 33) (As := [.ref v7, .int i_1]) C (fun o ho => m_X7_does _ _ _ _ ho) zk7 vvX0_393 cdX7_does pnX7 dX0_leadsToGood_30 rfl (by decide) (Nat.le_of_ble_eq_true rfl) hf rfl fun v8 σ hf => ?_
    refine z_ifeq (q := 36) (tgt := 53) C dX0_leadsToGood_33 (by decide) rfl hf (fun c33 hf => ?_) (fun c33 hf => ?_)
    · exact j53_1 i_1 σ hf
    · refine z_aload_n (q := 37) (i := 0) C 0 dX0_leadsToGood_36 rfl rfl rfl ?_
      refine z_getR (q := 40) C flX0_84 dX0_leadsToGood_37 hf rfl fun v9 hf => ?_
      refine z_aload_n (q := 41) (i := 0) C 0 dX0_leadsToGood_40 rfl rfl rfl ?_
      refine z_getR (q := 44) C flX0_73 dX0_leadsToGood_41 hf rfl fun v10 hf => ?_
      refine z_callVi (q := 47) (As := []) C (fun o ho => m_X5_number _ _ ho) zk5 vvX0_382 cdX5_number pnX5 dX0_leadsToGood_44 rfl (by decide) (Nat.le_of_ble_eq_true rfl) hf rfl fun v11 σ hf => ?_
      refine z_zald (q := 48) C dX0_leadsToGood_47 hf rfl fun v12 hf => ?_
      refine z_ifeq (q := 51) (tgt := 53) C dX0_leadsToGood_48 (by decide) rfl hf (fun c48 hf => ?_) (fun c48 hf => ?_)
      · exact j53_1 i_1 σ hf
      · refine z_iconst (q := 52) C (1 : Int32) dX0_leadsToGood_51 ki_1 rfl ?_
        have e1 := zl_x hf hx1
        have hf := hk1
        rw [← e1] at hf
        try dsimp only at hf
        exact z_zreturn C rfl z_nb1 dX0_leadsToGood_52 (Option.some.inj hf)

noncomputable def f_X0_findGood_J114_66 (a0_114 : Nat) (i1_114 : Int32) (i2_114 : Int32) (σ : ZT) : Option ((Int32 × Int32 × ZT) ⊕ (Int32 × ZT)) :=
  some (.inl (i1_114, (i2_114 + (-1 : Int32)), σ))
noncomputable def f_X0_findGood_L66 (c0_66 : Nat) (i_6 : Int32) (i_7 : Int32) (σ : ZT) : Option ((Int32 × Int32 × ZT) ⊕ (Int32 × ZT)) :=
  if i_7 < 0 then
  (some (.inr (i_6, σ)))
  else
  ((gR 0 17 c0_66 σ).bind fun v8 =>
  (gR 0 16 c0_66 σ).bind fun v9 =>
  (ldI 0 v9 i_7 σ).bind fun v10 =>
  (ldI 4 v8 v10 σ).bind fun v11 =>
  if v11 = 0 then
  ((gR 0 16 c0_66 σ).bind fun v12 =>
  (ldI 0 v12 i_7 σ).bind fun v13 =>
  bnd2 (vc 0 c0_66 σ (f_X0_leadsToGood c0_66 v13 σ)) fun v14 σ =>
  if v14 = 0 then
  (f_X0_findGood_J114_66 c0_66 i_6 i_7 σ)
  else
  ((gR 0 17 c0_66 σ).bind fun v15 =>
  (gR 0 16 c0_66 σ).bind fun v16 =>
  (ldI 0 v16 i_7 σ).bind fun v17 =>
  (stZ v15 v17 (1 : Int32) σ).bind fun σ =>
  f_X0_findGood_J114_66 c0_66 (1 : Int32) i_7 σ))
  else
  (f_X0_findGood_J114_66 c0_66 i_6 i_7 σ))
noncomputable def f_X0_findGood_L53 (c0_53 : Nat) (i_4 : Int32) (σ : ZT) : Option ((Int32 × ZT) ⊕ ZT) :=
  if i_4 = 0 then
  (some (.inr σ))
  else
  ((gI 0 18 c0_53 σ).bind fun v5 =>
  (loopC (fun s : (Int32 × Int32 × ZT) => f_X0_findGood_L66 c0_53 s.1 s.2.1 s.2.2) ((0 : Int32), (v5 - (1 : Int32)), σ)).bind fun x => (match x with
  | (x18, σ) => some (.inl (x18, σ))))
noncomputable def f_X0_findGood_L6 (c0_6 : Nat) (i_2 : Int32) (σ : ZT) : Option ((Int32 × ZT) ⊕ ZT) :=
  (gI 0 18 c0_6 σ).bind fun v3 =>
  if i_2 < v3 then
  ((gR 0 14 c0_6 σ).bind fun v19 =>
  (gR 0 16 c0_6 σ).bind fun v20 =>
  (ldI 0 v20 i_2 σ).bind fun v21 =>
  (vc 5 v19 σ (f_X5_be_2 v19 v21 σ)).bind fun σ =>
  (gR 0 17 c0_6 σ).bind fun v23 =>
  (gR 0 16 c0_6 σ).bind fun v24 =>
  (ldI 0 v24 i_2 σ).bind fun v25 =>
  (gR 0 14 c0_6 σ).bind fun v26 =>
  bnd2 (vc 5 v26 σ (f_X5_isDone v26 σ)) fun v27 σ =>
  (stZ v23 v25 v27 σ).bind fun σ =>
  some (.inl ((i_2 + (1 : Int32)), σ)))
  else
  (some (.inr σ))
noncomputable def f_X0_findGood (a0 : Nat) (σ : ZT) : Option ZT :=
  (vc 0 a0 σ (f_X0_findAll a0 σ)).bind fun σ =>
  (loopC (fun s : (Int32 × ZT) => f_X0_findGood_L6 a0 s.1 s.2) ((0 : Int32), σ)).bind fun σ =>
  (loopC (fun s : (Int32 × ZT) => f_X0_findGood_L53 a0 s.1 s.2) ((1 : Int32), σ)).bind fun σ =>
  some σ
set_option maxHeartbeats 4000000 in
theorem m_X0_findGood {l : Launch} {G : ZG} (a0 : Nat) (σ : ZT) {out : ZT} (hf : f_X0_findGood a0 σ = some out) : ZM l G yX0_findGood cX0_findGood 3 none [] 9 [.ref a0] σ (.returned none) out := by
  refine ZM.of [(0, .ref a0)] rfl (Nat.le_of_ble_eq_true rfl) fun X (C : ZC G RX0 "findGood" cX0_findGood 3 none [] X 9) => ?_
  unfold f_X0_findGood at hf
  refine z_aload_n (q := 1) (i := 0) C 0 dX0_findGood_0 rfl rfl rfl ?_
  refine z_callVv (q := 4) (As := []) C (fun o ho => m_X0_findAll _ _ ho) zk0 vvX0_402 cdX0_findAll pnX0 dX0_findGood_1 rfl (by decide) (Nat.le_of_ble_eq_true rfl) hf rfl fun σ hf => ?_
  refine z_iconst (q := 5) C (0 : Int32) dX0_findGood_4 ki_0 rfl ?_
  refine z_istore_n (q := 6) (i := 1) (lv' := [(1, .int (0 : Int32)), (0, .ref a0)]) C dX0_findGood_5 rfl (by decide) rfl rfl ?_
  refine z_lv [1, 0] rfl ?_
  obtain ⟨r1, hr1, hk1⟩ := Option.bind_eq_some_iff.mp hf
  refine loopC_ind (P := fun s => ZW l G 3 X (ZQ G X (.returned none) out) s.2 6 [(0, .ref a0), (1, .int s.1)] []) (fun s x1 hf hx1 => ?_) hr1
  obtain ⟨i_2, σ⟩ := s
  unfold f_X0_findGood_L6 at hf
  try dsimp only at hf
  try dsimp only
  refine z_iload_n (q := 7) (i := 1) C 1 dX0_findGood_6 rfl rfl rfl ?_
  refine z_aload_n (q := 8) (i := 0) C 0 dX0_findGood_7 rfl rfl rfl ?_
  refine z_getI (q := 11) C flX0_372 dX0_findGood_8 hf rfl fun v3 hf => ?_
  refine z_icmpge (q := 14) (tgt := 51) C dX0_findGood_11 (by decide) rfl hf (fun c11 hf => ?_) (fun c11 hf => ?_)
  · have e1 := zl_x hf hx1
    have hf := hk1
    rw [← e1] at hf
    try dsimp only at hf
    refine z_iconst (q := 52) C (1 : Int32) dX0_findGood_51 ki_1 rfl ?_
    refine z_istore_n (q := 53) (i := 1) (lv' := [(1, .int (1 : Int32)), (0, .ref a0)]) C dX0_findGood_52 rfl (by decide) rfl rfl ?_
    refine z_lv [1, 0] rfl ?_
    obtain ⟨r1, hr1, hk1⟩ := Option.bind_eq_some_iff.mp hf
    refine loopC_ind (P := fun s => ZW l G 3 X (ZQ G X (.returned none) out) s.2 53 [(0, .ref a0), (1, .int s.1)] []) (fun s x1 hf hx1 => ?_) hr1
    obtain ⟨i_4, σ⟩ := s
    unfold f_X0_findGood_L53 at hf
    try dsimp only at hf
    try dsimp only
    refine z_iload_n (q := 54) (i := 1) C 1 dX0_findGood_53 rfl rfl rfl ?_
    refine z_ifeq (q := 57) (tgt := 123) C dX0_findGood_54 (by decide) rfl hf (fun c54 hf => ?_) (fun c54 hf => ?_)
    · have e1 := zl_x hf hx1
      have hf := hk1
      rw [← e1] at hf
      try dsimp only at hf
      exact z_return C rfl dX0_findGood_123 (Option.some.inj hf)
    · refine z_iconst (q := 58) C (0 : Int32) dX0_findGood_57 ki_0 rfl ?_
      refine z_istore_n (q := 59) (i := 1) (lv' := [(1, .int (0 : Int32)), (0, .ref a0)]) C dX0_findGood_58 rfl (by decide) rfl rfl ?_
      refine z_aload_n (q := 60) (i := 0) C 1 dX0_findGood_59 rfl rfl rfl ?_
      refine z_getI (q := 63) C flX0_372 dX0_findGood_60 hf rfl fun v5 hf => ?_
      refine z_iconst (q := 64) C (1 : Int32) dX0_findGood_63 ki_1 rfl ?_
      refine z_isub (q := 65) C dX0_findGood_64 rfl ?_
      refine z_istore_n (q := 66) (i := 2) (lv' := [(2, .int (v5 - (1 : Int32))), (1, .int (0 : Int32)), (0, .ref a0)]) C dX0_findGood_65 rfl (by decide) rfl rfl ?_
      refine z_lv [2, 1, 0] rfl ?_
      obtain ⟨r2, hr2, hk2⟩ := Option.bind_eq_some_iff.mp hf
      refine loopC_ind (P := fun s => ZW l G 3 X (ZQ G X (.returned none) out) s.2.2 66 [(0, .ref a0), (1, .int s.1), (2, .int s.2.1)] []) (fun s x2 hf hx2 => ?_) hr2
      obtain ⟨i_6, i_7, σ⟩ := s
      unfold f_X0_findGood_L66 at hf
      try dsimp only at hf
      try dsimp only
      have j114_2 : ∀ (i1_114 : Int32) (i2_114 : Int32) (σ : ZT), f_X0_findGood_J114_66 a0 i1_114 i2_114 σ = some x2 → ZW l G 3 X (ZQ G X (.returned none) out) σ 114 [(0, .ref a0), (1, .int i1_114), (2, .int i2_114)] [] := by
        intro i1_114 i2_114 σ hf
        unfold f_X0_findGood_J114_66 at hf
        refine z_iinc (q := 117) (i := 2) (lv' := [(2, .int (i2_114 + (-1 : Int32))), (0, .ref a0), (1, .int i1_114)]) C 2 (i2_114 + (-1 : Int32)) dX0_findGood_114 rfl (kn_m1 _) (by decide) rfl rfl ?_
        refine z_goto (q := 66) C dX0_findGood_117 (by decide) ?_
        refine z_lv [1, 2, 0] rfl ?_
        have hc2 := zl_c hf hx2
        exact hc2
      refine z_iload_n (q := 67) (i := 2) C 2 dX0_findGood_66 rfl rfl rfl ?_
      refine z_iflt (q := 70) (tgt := 120) C dX0_findGood_67 (by decide) rfl hf (fun c67 hf => ?_) (fun c67 hf => ?_)
      · have e2 := zl_x hf hx2
        have hf := hk2
        rw [← e2] at hf
        try dsimp only at hf
        refine z_goto (q := 53) C dX0_findGood_120 (by decide) ?_
        refine z_lv [0, 1] rfl ?_
        have hc1 := zl_c hf hx1
        exact hc1
      · refine z_aload_n (q := 71) (i := 0) C 0 dX0_findGood_70 rfl rfl rfl ?_
        refine z_getR (q := 74) C flX0_84 dX0_findGood_71 hf rfl fun v8 hf => ?_
        refine z_aload_n (q := 75) (i := 0) C 0 dX0_findGood_74 rfl rfl rfl ?_
        refine z_getR (q := 78) C flX0_81 dX0_findGood_75 hf rfl fun v9 hf => ?_
        refine z_iload_n (q := 79) (i := 2) C 2 dX0_findGood_78 rfl rfl rfl ?_
        refine z_iald (q := 80) C dX0_findGood_79 hf rfl fun v10 hf => ?_
        refine z_zald (q := 81) C dX0_findGood_80 hf rfl fun v11 hf => ?_
        refine z_ifne (q := 84) (tgt := 114) C dX0_findGood_81 (by decide) rfl hf (fun c81 hf => ?_) (fun c81 hf => ?_)
        · exact j114_2 i_6 i_7 σ hf
        · refine z_aload_n (q := 85) (i := 0) C 0 dX0_findGood_84 rfl rfl rfl ?_
          refine z_aload_n (q := 86) (i := 0) C 0 dX0_findGood_85 rfl rfl rfl ?_
          refine z_getR (q := 89) C flX0_81 dX0_findGood_86 hf rfl fun v12 hf => ?_
          refine z_iload_n (q := 90) (i := 2) C 2 dX0_findGood_89 rfl rfl rfl ?_
          refine z_iald (q := 91) C dX0_findGood_90 hf rfl fun v13 hf => ?_
          refine z_callVi (q := 94) (As := [.int v13]) C (fun o ho => m_X0_leadsToGood _ _ _ ho) zk0 vvX0_448 cdX0_leadsToGood pnX0 dX0_findGood_91 rfl (by decide) (Nat.le_of_ble_eq_true rfl) hf rfl fun v14 σ hf => ?_
          refine z_ifne (q := 97) (tgt := 100) C dX0_findGood_94 (by decide) rfl hf (fun c94 hf => ?_) (fun c94 hf => ?_)
          · refine z_aload_n (q := 101) (i := 0) C 0 dX0_findGood_100 rfl rfl rfl ?_
            refine z_getR (q := 104) C flX0_84 dX0_findGood_101 hf rfl fun v15 hf => ?_
            refine z_aload_n (q := 105) (i := 0) C 0 dX0_findGood_104 rfl rfl rfl ?_
            refine z_getR (q := 108) C flX0_81 dX0_findGood_105 hf rfl fun v16 hf => ?_
            refine z_iload_n (q := 109) (i := 2) C 2 dX0_findGood_108 rfl rfl rfl ?_
            refine z_iald (q := 110) C dX0_findGood_109 hf rfl fun v17 hf => ?_
            refine z_iconst (q := 111) C (1 : Int32) dX0_findGood_110 ki_1 rfl ?_
            refine z_zast (q := 112) C dX0_findGood_111 hf rfl fun σ hf => ?_
            refine z_iconst (q := 113) C (1 : Int32) dX0_findGood_112 ki_1 rfl ?_
            refine z_istore_n (q := 114) (i := 1) (lv' := [(1, .int (1 : Int32)), (0, .ref a0), (2, .int i_7)]) C dX0_findGood_113 rfl (by decide) rfl rfl ?_
            refine z_lv [1, 0, 2] rfl ?_
            exact j114_2 (1 : Int32) i_7 σ hf
          · refine z_goto (q := 114) C dX0_findGood_97 (by decide) ?_
            exact j114_2 i_6 i_7 σ hf
  · refine z_aload_n (q := 15) (i := 0) C 0 dX0_findGood_14 rfl rfl rfl ?_
    refine z_getR (q := 18) C flX0_73 dX0_findGood_15 hf rfl fun v18 hf => ?_
    refine z_aload_n (q := 19) (i := 0) C 0 dX0_findGood_18 rfl rfl rfl ?_
    refine z_getR (q := 22) C flX0_81 dX0_findGood_19 hf rfl fun v19 hf => ?_
    refine z_iload_n (q := 23) (i := 1) C 1 dX0_findGood_22 rfl rfl rfl ?_
    refine z_iald (q := 24) C dX0_findGood_23 hf rfl fun v20 hf => ?_
    refine z_callVv (q := 27) (As := [.int v20]) C (fun o ho => m_X5_be_2 _ _ _ ho) zk5 vvX0_391 cdX5_be_2 pnX5 dX0_findGood_24 rfl (by decide) (Nat.le_of_ble_eq_true rfl) hf rfl fun σ hf => ?_
    refine z_aload_n (q := 28) (i := 0) C 0 dX0_findGood_27 rfl rfl rfl ?_
    refine z_getR (q := 31) C flX0_84 dX0_findGood_28 hf rfl fun v22 hf => ?_
    refine z_aload_n (q := 32) (i := 0) C 0 dX0_findGood_31 rfl rfl rfl ?_
    refine z_getR (q := 35) C flX0_81 dX0_findGood_32 hf rfl fun v23 hf => ?_
    refine z_iload_n (q := 36) (i := 1) C 1 dX0_findGood_35 rfl rfl rfl ?_
    refine z_iald (q := 37) C dX0_findGood_36 hf rfl fun v24 hf => ?_
    refine z_aload_n (q := 38) (i := 0) C 0 dX0_findGood_37 rfl rfl rfl ?_
    refine z_getR (q := 41) C flX0_73 dX0_findGood_38 hf rfl fun v25 hf => ?_
    refine z_callVi (q := 44) (As := []) C (fun o ho => m_X5_isDone _ _ ho) zk5 vvX0_258 cdX5_isDone pnX5 dX0_findGood_41 rfl (by decide) (Nat.le_of_ble_eq_true rfl) hf rfl fun v26 σ hf => ?_
    refine z_zast (q := 45) C dX0_findGood_44 hf rfl fun σ hf => ?_
    refine z_iinc (q := 48) (i := 1) (lv' := [(1, .int (i_2 + (1 : Int32))), (0, .ref a0)]) C 1 (i_2 + (1 : Int32)) dX0_findGood_45 rfl (kn_1 _) (by decide) rfl rfl ?_
    refine z_goto (q := 6) C dX0_findGood_48 (by decide) ?_
    refine z_lv [1, 0] rfl ?_
    have hc1 := zl_c hf hx1
    exact hc1

noncomputable def f_X0_lost_J41_13 (a0_41 : Nat) (i2_41 : Int32) (w0_41 : Int32) (w1_41 : Int32) (σ : ZT) : Option ((Int32 × Int32 × ZT) ⊕ (Int32 × ZT)) :=
  some (.inl ((w1_41 + w0_41), (i2_41 + (1 : Int32)), σ))
noncomputable def f_X0_lost_L13 (c0_13 : Nat) (i_2 : Int32) (i_3 : Int32) (σ : ZT) : Option ((Int32 × Int32 × ZT) ⊕ (Int32 × ZT)) :=
  (gI 0 18 c0_13 σ).bind fun v4 =>
  if i_3 < v4 then
  ((gR 0 17 c0_13 σ).bind fun v5 =>
  (gR 0 16 c0_13 σ).bind fun v6 =>
  (ldI 0 v6 i_3 σ).bind fun v7 =>
  (ldI 4 v5 v7 σ).bind fun v8 =>
  if v8 = 0 then
  (f_X0_lost_J41_13 c0_13 i_3 (1 : Int32) i_2 σ)
  else
  (f_X0_lost_J41_13 c0_13 i_3 (0 : Int32) i_2 σ))
  else
  (some (.inr (i_2, σ)))
noncomputable def f_X0_lost (a0 : Nat) (σ : ZT) : Option (Int32 × ZT) :=
  (pI 0 7 a0 (0 : Int32) σ).bind fun σ =>
  (vc 0 a0 σ (f_X0_findGood a0 σ)).bind fun σ =>
  (loopC (fun s : (Int32 × Int32 × ZT) => f_X0_lost_L13 a0 s.1 s.2.1 s.2.2) ((0 : Int32), (0 : Int32), σ)).bind fun x => (match x with
  | (x9, σ) => some (x9, σ))
set_option maxHeartbeats 4000000 in
theorem m_X0_lost {l : Launch} {G : ZG} (a0 : Nat) (σ : ZT) {out : (Int32 × ZT)} (hf : f_X0_lost a0 σ = some out) : ZM l G yX0_lost cX0_lost 3 (some .int) [] 10 [.ref a0] σ (.returned (some (.int out.1))) out.2 := by
  refine ZM.of [(0, .ref a0)] rfl (Nat.le_of_ble_eq_true rfl) fun X (C : ZC G RX0 "lost" cX0_lost 3 (some .int) [] X 10) => ?_
  unfold f_X0_lost at hf
  refine z_aload_n (q := 1) (i := 0) C 0 dX0_lost_0 rfl rfl rfl ?_
  refine z_iconst (q := 2) C (0 : Int32) dX0_lost_1 ki_0 rfl ?_
  refine z_putI (q := 5) C puX0_110 dX0_lost_2 hf rfl fun σ hf => ?_
  refine z_aload_n (q := 6) (i := 0) C 0 dX0_lost_5 rfl rfl rfl ?_
  refine z_callVv (q := 9) (As := []) C (fun o ho => m_X0_findGood _ _ ho) zk0 vvX0_451 cdX0_findGood pnX0 dX0_lost_6 rfl (by decide) (Nat.le_of_ble_eq_true rfl) hf rfl fun σ hf => ?_
  refine z_iconst (q := 10) C (0 : Int32) dX0_lost_9 ki_0 rfl ?_
  refine z_istore_n (q := 11) (i := 1) (lv' := [(1, .int (0 : Int32)), (0, .ref a0)]) C dX0_lost_10 rfl (by decide) rfl rfl ?_
  refine z_iconst (q := 12) C (0 : Int32) dX0_lost_11 ki_0 rfl ?_
  refine z_istore_n (q := 13) (i := 2) (lv' := [(2, .int (0 : Int32)), (1, .int (0 : Int32)), (0, .ref a0)]) C dX0_lost_12 rfl (by decide) rfl rfl ?_
  refine z_lv [2, 1, 0] rfl ?_
  obtain ⟨r1, hr1, hk1⟩ := Option.bind_eq_some_iff.mp hf
  refine loopC_ind (P := fun s => ZW l G 3 X (ZQ G X (.returned (some (.int out.1))) out.2) s.2.2 13 [(0, .ref a0), (1, .int s.1), (2, .int s.2.1)] []) (fun s x1 hf hx1 => ?_) hr1
  obtain ⟨i_2, i_3, σ⟩ := s
  unfold f_X0_lost_L13 at hf
  try dsimp only at hf
  try dsimp only
  have j41_1 : ∀ (i2_41 : Int32) (w0_41 : Int32) (w1_41 : Int32) (σ : ZT), f_X0_lost_J41_13 a0 i2_41 w0_41 w1_41 σ = some x1 → ZW l G 3 X (ZQ G X (.returned (some (.int out.1))) out.2) σ 41 [(0, .ref a0), (2, .int i2_41)] [.int w0_41, .int w1_41] := by
    intro i2_41 w0_41 w1_41 σ hf
    unfold f_X0_lost_J41_13 at hf
    refine z_iadd (q := 42) C dX0_lost_41 rfl ?_
    refine z_istore_n (q := 43) (i := 1) (lv' := [(1, .int (w1_41 + w0_41)), (0, .ref a0), (2, .int i2_41)]) C dX0_lost_42 rfl (by decide) rfl rfl ?_
    refine z_iinc (q := 46) (i := 2) (lv' := [(2, .int (i2_41 + (1 : Int32))), (1, .int (w1_41 + w0_41)), (0, .ref a0)]) C 2 (i2_41 + (1 : Int32)) dX0_lost_43 rfl (kn_1 _) (by decide) rfl rfl ?_
    refine z_goto (q := 13) C dX0_lost_46 (by decide) ?_
    refine z_lv [2, 1, 0] rfl ?_
    have hc1 := zl_c hf hx1
    exact hc1
  refine z_iload_n (q := 14) (i := 2) C 2 dX0_lost_13 rfl rfl rfl ?_
  refine z_aload_n (q := 15) (i := 0) C 0 dX0_lost_14 rfl rfl rfl ?_
  refine z_getI (q := 18) C flX0_372 dX0_lost_15 hf rfl fun v4 hf => ?_
  refine z_icmpge (q := 21) (tgt := 49) C dX0_lost_18 (by decide) rfl hf (fun c18 hf => ?_) (fun c18 hf => ?_)
  · have e1 := zl_x hf hx1
    have hf := hk1
    rw [← e1] at hf
    try dsimp only at hf
    refine z_iload_n (q := 50) (i := 1) C 1 dX0_lost_49 rfl rfl rfl ?_
    exact z_ireturn C rfl dX0_lost_50 (Option.some.inj hf)
  · refine z_iload_n (q := 22) (i := 1) C 1 dX0_lost_21 rfl rfl rfl ?_
    refine z_aload_n (q := 23) (i := 0) C 0 dX0_lost_22 rfl rfl rfl ?_
    refine z_getR (q := 26) C flX0_84 dX0_lost_23 hf rfl fun v5 hf => ?_
    refine z_aload_n (q := 27) (i := 0) C 0 dX0_lost_26 rfl rfl rfl ?_
    refine z_getR (q := 30) C flX0_81 dX0_lost_27 hf rfl fun v6 hf => ?_
    refine z_iload_n (q := 31) (i := 2) C 2 dX0_lost_30 rfl rfl rfl ?_
    refine z_iald (q := 32) C dX0_lost_31 hf rfl fun v7 hf => ?_
    refine z_zald (q := 33) C dX0_lost_32 hf rfl fun v8 hf => ?_
    refine z_ifeq (q := 36) (tgt := 40) C dX0_lost_33 (by decide) rfl hf (fun c33 hf => ?_) (fun c33 hf => ?_)
    · refine z_iconst (q := 41) C (1 : Int32) dX0_lost_40 ki_1 rfl ?_
      refine z_lv [0, 2] rfl ?_
      exact j41_1 i_3 (1 : Int32) i_2 σ hf
    · refine z_iconst (q := 37) C (0 : Int32) dX0_lost_36 ki_0 rfl ?_
      refine z_goto (q := 41) C dX0_lost_37 (by decide) ?_
      refine z_lv [0, 2] rfl ?_
      exact j41_1 i_3 (0 : Int32) i_2 σ hf

noncomputable def f_X0_safe_J73_13 (a0_73 : Nat) (i2_73 : Int32) (w0_73 : Int32) (w1_73 : Int32) (σ : ZT) : Option ((Int32 × Int32 × ZT) ⊕ (Int32 × ZT)) :=
  some (.inl ((w1_73 + w0_73), (i2_73 + (1 : Int32)), σ))
noncomputable def f_X0_safe_J72_13 (a0_72 : Nat) (i2_72 : Int32) (w0_72 : Int32) (σ : ZT) : Option ((Int32 × Int32 × ZT) ⊕ (Int32 × ZT)) :=
  f_X0_safe_J73_13 a0_72 i2_72 (0 : Int32) w0_72 σ
noncomputable def f_X0_safe_L13 (c0_13 : Nat) (i_2 : Int32) (i_3 : Int32) (σ : ZT) : Option ((Int32 × Int32 × ZT) ⊕ (Int32 × ZT)) :=
  (gR 0 13 c0_13 σ).bind fun v4 =>
  (gI 7 704 v4 σ).bind fun v5 =>
  if i_3 < v5 then
  ((gR 0 14 c0_13 σ).bind fun v6 =>
  (gR 0 16 c0_13 σ).bind fun v7 =>
  (ldI 0 v7 (0 : Int32) σ).bind fun v8 =>
  (vc 5 v6 σ (f_X5_be_2 v6 v8 σ)).bind fun σ =>
  (gR 0 13 c0_13 σ).bind fun v10 =>
  (gR 0 14 c0_13 σ).bind fun v11 =>
  bnd2 (vc 7 v10 σ (f_X7_does v10 v11 i_3 σ)) fun v12 σ =>
  if v12 = 0 then
  (f_X0_safe_J72_13 c0_13 i_3 i_2 σ)
  else
  ((gR 0 17 c0_13 σ).bind fun v13 =>
  (gR 0 14 c0_13 σ).bind fun v14 =>
  bnd2 (vc 5 v14 σ (f_X5_number v14 σ)) fun v15 σ =>
  (ldI 4 v13 v15 σ).bind fun v16 =>
  if v16 = 0 then
  (f_X0_safe_J72_13 c0_13 i_3 i_2 σ)
  else
  (f_X0_safe_J73_13 c0_13 i_3 (1 : Int32) i_2 σ)))
  else
  (some (.inr (i_2, σ)))
noncomputable def f_X0_safe (a0 : Nat) (σ : ZT) : Option (Int32 × ZT) :=
  (pI 0 7 a0 (0 : Int32) σ).bind fun σ =>
  (vc 0 a0 σ (f_X0_findGood a0 σ)).bind fun σ =>
  (loopC (fun s : (Int32 × Int32 × ZT) => f_X0_safe_L13 a0 s.1 s.2.1 s.2.2) ((0 : Int32), (0 : Int32), σ)).bind fun x => (match x with
  | (x17, σ) => some (x17, σ))
set_option maxHeartbeats 4000000 in
theorem m_X0_safe {l : Launch} {G : ZG} (a0 : Nat) (σ : ZT) {out : (Int32 × ZT)} (hf : f_X0_safe a0 σ = some out) : ZM l G yX0_safe cX0_safe 3 (some .int) [] 10 [.ref a0] σ (.returned (some (.int out.1))) out.2 := by
  refine ZM.of [(0, .ref a0)] rfl (Nat.le_of_ble_eq_true rfl) fun X (C : ZC G RX0 "safe" cX0_safe 3 (some .int) [] X 10) => ?_
  unfold f_X0_safe at hf
  refine z_aload_n (q := 1) (i := 0) C 0 dX0_safe_0 rfl rfl rfl ?_
  refine z_iconst (q := 2) C (0 : Int32) dX0_safe_1 ki_0 rfl ?_
  refine z_putI (q := 5) C puX0_110 dX0_safe_2 hf rfl fun σ hf => ?_
  refine z_aload_n (q := 6) (i := 0) C 0 dX0_safe_5 rfl rfl rfl ?_
  refine z_callVv (q := 9) (As := []) C (fun o ho => m_X0_findGood _ _ ho) zk0 vvX0_451 cdX0_findGood pnX0 dX0_safe_6 rfl (by decide) (Nat.le_of_ble_eq_true rfl) hf rfl fun σ hf => ?_
  refine z_iconst (q := 10) C (0 : Int32) dX0_safe_9 ki_0 rfl ?_
  refine z_istore_n (q := 11) (i := 1) (lv' := [(1, .int (0 : Int32)), (0, .ref a0)]) C dX0_safe_10 rfl (by decide) rfl rfl ?_
  refine z_iconst (q := 12) C (0 : Int32) dX0_safe_11 ki_0 rfl ?_
  refine z_istore_n (q := 13) (i := 2) (lv' := [(2, .int (0 : Int32)), (1, .int (0 : Int32)), (0, .ref a0)]) C dX0_safe_12 rfl (by decide) rfl rfl ?_
  refine z_lv [2, 1, 0] rfl ?_
  obtain ⟨r1, hr1, hk1⟩ := Option.bind_eq_some_iff.mp hf
  refine loopC_ind (P := fun s => ZW l G 3 X (ZQ G X (.returned (some (.int out.1))) out.2) s.2.2 13 [(0, .ref a0), (1, .int s.1), (2, .int s.2.1)] []) (fun s x1 hf hx1 => ?_) hr1
  obtain ⟨i_2, i_3, σ⟩ := s
  unfold f_X0_safe_L13 at hf
  try dsimp only at hf
  try dsimp only
  have j73_1 : ∀ (i2_73 : Int32) (w0_73 : Int32) (w1_73 : Int32) (σ : ZT), f_X0_safe_J73_13 a0 i2_73 w0_73 w1_73 σ = some x1 → ZW l G 3 X (ZQ G X (.returned (some (.int out.1))) out.2) σ 73 [(0, .ref a0), (2, .int i2_73)] [.int w0_73, .int w1_73] := by
    intro i2_73 w0_73 w1_73 σ hf
    unfold f_X0_safe_J73_13 at hf
    refine z_iadd (q := 74) C dX0_safe_73 rfl ?_
    refine z_istore_n (q := 75) (i := 1) (lv' := [(1, .int (w1_73 + w0_73)), (0, .ref a0), (2, .int i2_73)]) C dX0_safe_74 rfl (by decide) rfl rfl ?_
    refine z_iinc (q := 78) (i := 2) (lv' := [(2, .int (i2_73 + (1 : Int32))), (1, .int (w1_73 + w0_73)), (0, .ref a0)]) C 2 (i2_73 + (1 : Int32)) dX0_safe_75 rfl (kn_1 _) (by decide) rfl rfl ?_
    refine z_goto (q := 13) C dX0_safe_78 (by decide) ?_
    refine z_lv [2, 1, 0] rfl ?_
    have hc1 := zl_c hf hx1
    exact hc1
  have j72_1 : ∀ (i2_72 : Int32) (w0_72 : Int32) (σ : ZT), f_X0_safe_J72_13 a0 i2_72 w0_72 σ = some x1 → ZW l G 3 X (ZQ G X (.returned (some (.int out.1))) out.2) σ 72 [(0, .ref a0), (2, .int i2_72)] [.int w0_72] := by
    intro i2_72 w0_72 σ hf
    unfold f_X0_safe_J72_13 at hf
    refine z_iconst (q := 73) C (0 : Int32) dX0_safe_72 ki_0 rfl ?_
    exact j73_1 i2_72 (0 : Int32) w0_72 σ hf
  refine z_iload_n (q := 14) (i := 2) C 2 dX0_safe_13 rfl rfl rfl ?_
  refine z_aload_n (q := 15) (i := 0) C 0 dX0_safe_14 rfl rfl rfl ?_
  refine z_getR (q := 18) C flX0_66 dX0_safe_15 hf rfl fun v4 hf => ?_
  refine z_getI (q := 21) C flX0_388 dX0_safe_18 hf rfl fun v5 hf => ?_
  refine z_icmpge (q := 24) (tgt := 81) C dX0_safe_21 (by decide) rfl hf (fun c21 hf => ?_) (fun c21 hf => ?_)
  · have e1 := zl_x hf hx1
    have hf := hk1
    rw [← e1] at hf
    try dsimp only at hf
    refine z_iload_n (q := 82) (i := 1) C 1 dX0_safe_81 rfl rfl rfl ?_
    exact z_ireturn C rfl dX0_safe_82 (Option.some.inj hf)
  · refine z_aload_n (q := 25) (i := 0) C 0 dX0_safe_24 rfl rfl rfl ?_
    refine z_getR (q := 28) C flX0_73 dX0_safe_25 hf rfl fun v6 hf => ?_
    refine z_aload_n (q := 29) (i := 0) C 0 dX0_safe_28 rfl rfl rfl ?_
    refine z_getR (q := 32) C flX0_81 dX0_safe_29 hf rfl fun v7 hf => ?_
    refine z_iconst (q := 33) C (0 : Int32) dX0_safe_32 ki_0 rfl ?_
    refine z_iald (q := 34) C dX0_safe_33 hf rfl fun v8 hf => ?_
    refine z_callVv (q := 37) (As := [.int v8]) C (fun o ho => m_X5_be_2 _ _ _ ho) zk5 vvX0_391 cdX5_be_2 pnX5 dX0_safe_34 rfl (by decide) (Nat.le_of_ble_eq_true rfl) hf rfl fun σ hf => ?_
    refine z_iload_n (q := 38) (i := 1) C 1 dX0_safe_37 rfl rfl rfl ?_
    refine z_aload_n (q := 39) (i := 0) C 0 dX0_safe_38 rfl rfl rfl ?_
    refine z_getR (q := 42) C flX0_66 dX0_safe_39 hf rfl fun v10 hf => ?_
    refine z_aload_n (q := 43) (i := 0) C 0 dX0_safe_42 rfl rfl rfl ?_
    refine z_getR (q := 46) C flX0_73 dX0_safe_43 hf rfl fun v11 hf => ?_
    refine z_iload_n (q := 47) (i := 2) C 2 dX0_safe_46 rfl rfl rfl ?_
    refine z_callVi (q := 50) (As := [.ref v11, .int i_3]) C (fun o ho => m_X7_does _ _ _ _ ho) zk7 vvX0_393 cdX7_does pnX7 dX0_safe_47 rfl (by decide) (Nat.le_of_ble_eq_true rfl) hf rfl fun v12 σ hf => ?_
    refine z_ifeq (q := 53) (tgt := 72) C dX0_safe_50 (by decide) rfl hf (fun c50 hf => ?_) (fun c50 hf => ?_)
    · refine z_lv [0, 2] rfl ?_
      exact j72_1 i_3 i_2 σ hf
    · refine z_aload_n (q := 54) (i := 0) C 0 dX0_safe_53 rfl rfl rfl ?_
      refine z_getR (q := 57) C flX0_84 dX0_safe_54 hf rfl fun v13 hf => ?_
      refine z_aload_n (q := 58) (i := 0) C 0 dX0_safe_57 rfl rfl rfl ?_
      refine z_getR (q := 61) C flX0_73 dX0_safe_58 hf rfl fun v14 hf => ?_
      refine z_callVi (q := 64) (As := []) C (fun o ho => m_X5_number _ _ ho) zk5 vvX0_382 cdX5_number pnX5 dX0_safe_61 rfl (by decide) (Nat.le_of_ble_eq_true rfl) hf rfl fun v15 σ hf => ?_
      refine z_zald (q := 65) C dX0_safe_64 hf rfl fun v16 hf => ?_
      refine z_ifeq (q := 68) (tgt := 72) C dX0_safe_65 (by decide) rfl hf (fun c65 hf => ?_) (fun c65 hf => ?_)
      · refine z_lv [0, 2] rfl ?_
        exact j72_1 i_3 i_2 σ hf
      · refine z_iconst (q := 69) C (1 : Int32) dX0_safe_68 ki_1 rfl ?_
        refine z_goto (q := 73) C dX0_safe_69 (by decide) ?_
        refine z_lv [0, 2] rfl ?_
        exact j73_1 i_3 (1 : Int32) i_2 σ hf

noncomputable def f_X0_free_J94_36 (a0_94 : Nat) (i2_94 : Int32) (i3_94 : Int32) (w0_94 : Int32) (w1_94 : Int32) (σ : ZT) : Option ((Int32 × Int32 × ZT) ⊕ (Int32 × ZT)) :=
  some (.inl ((w1_94 ||| w0_94), (i3_94 + (1 : Int32)), σ))
noncomputable def f_X0_free_J87_36 (a0_87 : Nat) (i2_87 : Int32) (i3_87 : Int32) (w0_87 : Int32) (σ : ZT) : Option ((Int32 × Int32 × ZT) ⊕ (Int32 × ZT)) :=
  f_X0_free_J94_36 a0_87 i2_87 i3_87 ((1 : Int32) <<< (i3_87 &&& 31)) w0_87 σ
noncomputable def f_X0_free_L36 (c0_36 : Nat) (c2_36 : Int32) (i_9 : Int32) (i_10 : Int32) (σ : ZT) : Option ((Int32 × Int32 × ZT) ⊕ (Int32 × ZT)) :=
  bnd2 (vc 0 c0_36 σ (f_X0_town_2 c0_36 σ)) fun v11 σ =>
  (gI 6 602 v11 σ).bind fun v12 =>
  if i_10 < v12 then
  (bnd2 (vc 0 c0_36 σ (f_X0_town_2 c0_36 σ)) fun v13 σ =>
  (gR 6 607 v13 σ).bind fun v14 =>
  (ldR 7 v14 i_10 σ).bind fun v15 =>
  (gI 12 1203 v15 σ).bind fun v16 =>
  if v16 < 0 then
  (f_X0_free_J87_36 c0_36 c2_36 i_10 i_9 σ)
  else
  (bnd2 (vc 0 c0_36 σ (f_X0_town_2 c0_36 σ)) fun v17 σ =>
  (gR 6 607 v17 σ).bind fun v18 =>
  (ldR 7 v18 i_10 σ).bind fun v19 =>
  (gI 12 1203 v19 σ).bind fun v20 =>
  (gR 0 14 c0_36 σ).bind fun v21 =>
  (gR 5 501 v21 σ).bind fun v22 =>
  (ldI 0 v22 i_10 σ).bind fun v23 =>
  if v20 = v23 then
  (f_X0_free_J87_36 c0_36 c2_36 i_10 i_9 σ)
  else
  (f_X0_free_J94_36 c0_36 c2_36 i_10 (0 : Int32) i_9 σ)))
  else
  (some (.inr (i_9, σ)))
noncomputable def f_X0_free_L13 (c0_13 : Nat) (i_2 : Int32) (i_3 : Int32) (σ : ZT) : Option ((Int32 × Int32 × ZT) ⊕ (Int32 × ZT)) :=
  (gI 0 18 c0_13 σ).bind fun v4 =>
  if i_3 < v4 then
  ((gR 0 14 c0_13 σ).bind fun v5 =>
  (gR 0 16 c0_13 σ).bind fun v6 =>
  (ldI 0 v6 i_3 σ).bind fun v7 =>
  (vc 5 v5 σ (f_X5_be_2 v5 v7 σ)).bind fun σ =>
  (loopC (fun s : (Int32 × Int32 × ZT) => f_X0_free_L36 c0_13 i_3 s.1 s.2.1 s.2.2) (i_2, (0 : Int32), σ)).bind fun x => (match x with
  | (x24, σ) => some (.inl (x24, (i_3 + (1 : Int32)), σ))))
  else
  (some (.inr (i_2, σ)))
noncomputable def f_X0_free (a0 : Nat) (σ : ZT) : Option (Int32 × ZT) :=
  (pI 0 7 a0 (0 : Int32) σ).bind fun σ =>
  (vc 0 a0 σ (f_X0_findAll a0 σ)).bind fun σ =>
  (loopC (fun s : (Int32 × Int32 × ZT) => f_X0_free_L13 a0 s.1 s.2.1 s.2.2) ((0 : Int32), (0 : Int32), σ)).bind fun x => (match x with
  | (x25, σ) => some (x25, σ))
set_option maxHeartbeats 4000000 in
theorem m_X0_free {l : Launch} {G : ZG} (a0 : Nat) (σ : ZT) {out : (Int32 × ZT)} (hf : f_X0_free a0 σ = some out) : ZM l G yX0_free cX0_free 4 (some .int) [] 9 [.ref a0] σ (.returned (some (.int out.1))) out.2 := by
  refine ZM.of [(0, .ref a0)] rfl (Nat.le_of_ble_eq_true rfl) fun X (C : ZC G RX0 "free" cX0_free 4 (some .int) [] X 9) => ?_
  unfold f_X0_free at hf
  refine z_aload_n (q := 1) (i := 0) C 0 dX0_free_0 rfl rfl rfl ?_
  refine z_iconst (q := 2) C (0 : Int32) dX0_free_1 ki_0 rfl ?_
  refine z_putI (q := 5) C puX0_110 dX0_free_2 hf rfl fun σ hf => ?_
  refine z_aload_n (q := 6) (i := 0) C 0 dX0_free_5 rfl rfl rfl ?_
  refine z_callVv (q := 9) (As := []) C (fun o ho => m_X0_findAll _ _ ho) zk0 vvX0_402 cdX0_findAll pnX0 dX0_free_6 rfl (by decide) (Nat.le_of_ble_eq_true rfl) hf rfl fun σ hf => ?_
  refine z_iconst (q := 10) C (0 : Int32) dX0_free_9 ki_0 rfl ?_
  refine z_istore_n (q := 11) (i := 1) (lv' := [(1, .int (0 : Int32)), (0, .ref a0)]) C dX0_free_10 rfl (by decide) rfl rfl ?_
  refine z_iconst (q := 12) C (0 : Int32) dX0_free_11 ki_0 rfl ?_
  refine z_istore_n (q := 13) (i := 2) (lv' := [(2, .int (0 : Int32)), (1, .int (0 : Int32)), (0, .ref a0)]) C dX0_free_12 rfl (by decide) rfl rfl ?_
  refine z_lv [2, 1, 0] rfl ?_
  obtain ⟨r1, hr1, hk1⟩ := Option.bind_eq_some_iff.mp hf
  refine loopC_ind (P := fun s => ZW l G 4 X (ZQ G X (.returned (some (.int out.1))) out.2) s.2.2 13 [(0, .ref a0), (1, .int s.1), (2, .int s.2.1)] []) (fun s x1 hf hx1 => ?_) hr1
  obtain ⟨i_2, i_3, σ⟩ := s
  unfold f_X0_free_L13 at hf
  try dsimp only at hf
  try dsimp only
  refine z_iload_n (q := 14) (i := 2) C 2 dX0_free_13 rfl rfl rfl ?_
  refine z_aload_n (q := 15) (i := 0) C 0 dX0_free_14 rfl rfl rfl ?_
  refine z_getI (q := 18) C flX0_372 dX0_free_15 hf rfl fun v4 hf => ?_
  refine z_icmpge (q := 21) (tgt := 108) C dX0_free_18 (by decide) rfl hf (fun c18 hf => ?_) (fun c18 hf => ?_)
  · have e1 := zl_x hf hx1
    have hf := hk1
    rw [← e1] at hf
    try dsimp only at hf
    refine z_iload_n (q := 109) (i := 1) C 1 dX0_free_108 rfl rfl rfl ?_
    exact z_ireturn C rfl dX0_free_109 (Option.some.inj hf)
  · refine z_aload_n (q := 22) (i := 0) C 0 dX0_free_21 rfl rfl rfl ?_
    refine z_getR (q := 25) C flX0_73 dX0_free_22 hf rfl fun v5 hf => ?_
    refine z_aload_n (q := 26) (i := 0) C 0 dX0_free_25 rfl rfl rfl ?_
    refine z_getR (q := 29) C flX0_81 dX0_free_26 hf rfl fun v6 hf => ?_
    refine z_iload_n (q := 30) (i := 2) C 2 dX0_free_29 rfl rfl rfl ?_
    refine z_iald (q := 31) C dX0_free_30 hf rfl fun v7 hf => ?_
    refine z_callVv (q := 34) (As := [.int v7]) C (fun o ho => m_X5_be_2 _ _ _ ho) zk5 vvX0_391 cdX5_be_2 pnX5 dX0_free_31 rfl (by decide) (Nat.le_of_ble_eq_true rfl) hf rfl fun σ hf => ?_
    refine z_iconst (q := 35) C (0 : Int32) dX0_free_34 ki_0 rfl ?_
    refine z_istore_n (q := 36) (i := 3) (lv' := [(3, .int (0 : Int32)), (0, .ref a0), (1, .int i_2), (2, .int i_3)]) C dX0_free_35 rfl (by decide) rfl rfl ?_
    refine z_lv [1, 2, 3, 0] rfl ?_
    obtain ⟨r2, hr2, hk2⟩ := Option.bind_eq_some_iff.mp hf
    refine loopC_ind (P := fun s => ZW l G 4 X (ZQ G X (.returned (some (.int out.1))) out.2) s.2.2 36 [(0, .ref a0), (1, .int s.1), (2, .int i_3), (3, .int s.2.1)] []) (fun s x2 hf hx2 => ?_) hr2
    obtain ⟨i_9, i_10, σ⟩ := s
    unfold f_X0_free_L36 at hf
    try dsimp only at hf
    try dsimp only
    have j94_2 : ∀ (i3_94 : Int32) (w0_94 : Int32) (w1_94 : Int32) (σ : ZT), f_X0_free_J94_36 a0 i_3 i3_94 w0_94 w1_94 σ = some x2 → ZW l G 4 X (ZQ G X (.returned (some (.int out.1))) out.2) σ 94 [(0, .ref a0), (2, .int i_3), (3, .int i3_94)] [.int w0_94, .int w1_94] := by
      intro i3_94 w0_94 w1_94 σ hf
      unfold f_X0_free_J94_36 at hf
      refine z_ior (q := 95) C dX0_free_94 rfl ?_
      refine z_istore_n (q := 96) (i := 1) (lv' := [(1, .int (w1_94 ||| w0_94)), (0, .ref a0), (2, .int i_3), (3, .int i3_94)]) C dX0_free_95 rfl (by decide) rfl rfl ?_
      refine z_iinc (q := 99) (i := 3) (lv' := [(3, .int (i3_94 + (1 : Int32))), (1, .int (w1_94 ||| w0_94)), (0, .ref a0), (2, .int i_3)]) C 3 (i3_94 + (1 : Int32)) dX0_free_96 rfl (kn_1 _) (by decide) rfl rfl ?_
      refine z_goto (q := 36) C dX0_free_99 (by decide) ?_
      refine z_lv [2, 1, 3, 0] rfl ?_
      have hc2 := zl_c hf hx2
      exact hc2
    have j87_2 : ∀ (i3_87 : Int32) (w0_87 : Int32) (σ : ZT), f_X0_free_J87_36 a0 i_3 i3_87 w0_87 σ = some x2 → ZW l G 4 X (ZQ G X (.returned (some (.int out.1))) out.2) σ 87 [(0, .ref a0), (2, .int i_3), (3, .int i3_87)] [.int w0_87] := by
      intro i3_87 w0_87 σ hf
      unfold f_X0_free_J87_36 at hf
      refine z_iconst (q := 88) C (1 : Int32) dX0_free_87 ki_1 rfl ?_
      refine z_iload_n (q := 89) (i := 3) C 2 dX0_free_88 rfl rfl rfl ?_
      refine z_ishl (q := 90) C dX0_free_89 rfl ?_
      refine z_goto (q := 94) C dX0_free_90 (by decide) ?_
      exact j94_2 i3_87 ((1 : Int32) <<< (i3_87 &&& 31)) w0_87 σ hf
    refine z_iload_n (q := 37) (i := 3) C 3 dX0_free_36 rfl rfl rfl ?_
    refine z_aload_n (q := 38) (i := 0) C 0 dX0_free_37 rfl rfl rfl ?_
    refine z_callVr (q := 41) (As := []) C (fun o ho => m_X0_town_2 _ _ ho) zk0 vvX0_188 cdX0_town_2 pnX0 dX0_free_38 rfl (by decide) (Nat.le_of_ble_eq_true rfl) hf rfl fun v11 σ hf => ?_
    refine z_getI (q := 44) C flX0_203 dX0_free_41 hf rfl fun v12 hf => ?_
    refine z_icmpge (q := 47) (tgt := 102) C dX0_free_44 (by decide) rfl hf (fun c44 hf => ?_) (fun c44 hf => ?_)
    · have e2 := zl_x hf hx2
      have hf := hk2
      rw [← e2] at hf
      try dsimp only at hf
      refine z_iinc (q := 105) (i := 2) (lv' := [(2, .int (i_3 + (1 : Int32))), (0, .ref a0), (1, .int i_9), (3, .int i_10)]) C 2 (i_3 + (1 : Int32)) dX0_free_102 rfl (kn_1 _) (by decide) rfl rfl ?_
      refine z_goto (q := 13) C dX0_free_105 (by decide) ?_
      refine z_lv [1, 2, 0] rfl ?_
      have hc1 := zl_c hf hx1
      exact hc1
    · refine z_iload_n (q := 48) (i := 1) C 1 dX0_free_47 rfl rfl rfl ?_
      refine z_aload_n (q := 49) (i := 0) C 0 dX0_free_48 rfl rfl rfl ?_
      refine z_callVr (q := 52) (As := []) C (fun o ho => m_X0_town_2 _ _ ho) zk0 vvX0_188 cdX0_town_2 pnX0 dX0_free_49 rfl (by decide) (Nat.le_of_ble_eq_true rfl) hf rfl fun v13 σ hf => ?_
      refine z_getR (q := 55) C flX0_309 dX0_free_52 hf rfl fun v14 hf => ?_
      refine z_iload_n (q := 56) (i := 3) C 3 dX0_free_55 rfl rfl rfl ?_
      refine z_aaldR (q := 57) C 7 (by decide) (by decide) dX0_free_56 hf rfl fun v15 hf => ?_
      refine z_getI (q := 60) C flX0_318 dX0_free_57 hf rfl fun v16 hf => ?_
      refine z_iflt (q := 63) (tgt := 87) C dX0_free_60 (by decide) rfl hf (fun c60 hf => ?_) (fun c60 hf => ?_)
      · refine z_lv [0, 2, 3] rfl ?_
        exact j87_2 i_10 i_9 σ hf
      · refine z_aload_n (q := 64) (i := 0) C 0 dX0_free_63 rfl rfl rfl ?_
        refine z_callVr (q := 67) (As := []) C (fun o ho => m_X0_town_2 _ _ ho) zk0 vvX0_188 cdX0_town_2 pnX0 dX0_free_64 rfl (by decide) (Nat.le_of_ble_eq_true rfl) hf rfl fun v17 σ hf => ?_
        refine z_getR (q := 70) C flX0_309 dX0_free_67 hf rfl fun v18 hf => ?_
        refine z_iload_n (q := 71) (i := 3) C 3 dX0_free_70 rfl rfl rfl ?_
        refine z_aaldR (q := 72) C 7 (by decide) (by decide) dX0_free_71 hf rfl fun v19 hf => ?_
        refine z_getI (q := 75) C flX0_318 dX0_free_72 hf rfl fun v20 hf => ?_
        refine z_aload_n (q := 76) (i := 0) C 0 dX0_free_75 rfl rfl rfl ?_
        refine z_getR (q := 79) C flX0_73 dX0_free_76 hf rfl fun v21 hf => ?_
        refine z_getR (q := 82) C flX0_338 dX0_free_79 hf rfl fun v22 hf => ?_
        refine z_iload_n (q := 83) (i := 3) C 3 dX0_free_82 rfl rfl rfl ?_
        refine z_iald (q := 84) C dX0_free_83 hf rfl fun v23 hf => ?_
        refine z_icmpne (q := 87) (tgt := 93) C dX0_free_84 (by decide) rfl hf (fun c84 hf => ?_) (fun c84 hf => ?_)
        · refine z_iconst (q := 94) C (0 : Int32) dX0_free_93 ki_0 rfl ?_
          refine z_lv [0, 2, 3] rfl ?_
          exact j94_2 i_10 (0 : Int32) i_9 σ hf
        · refine z_lv [0, 2, 3] rfl ?_
          exact j87_2 i_10 i_9 σ hf

noncomputable def f_X0_canBe_J36 (a0_36 : Nat) (w0_36 : Int32) (σ : ZT) : Option (Int32 × ZT) :=
  (gR 0 14 a0_36 σ).bind fun v5 =>
  (pI 5 503 v5 (-1 : Int32) σ).bind fun σ =>
  (gR 0 14 a0_36 σ).bind fun v6 =>
  (pI 5 504 v6 (-1 : Int32) σ).bind fun σ =>
  (rz w0_36).bind fun z7 =>
  some (z7, σ)
noncomputable def f_X0_canBe (a0 : Nat) (i1 : Int32) (i2 : Int32) (i3 : Int32) (σ : ZT) : Option (Int32 × ZT) :=
  (gR 0 14 a0 σ).bind fun v1 =>
  (pI 5 503 v1 i1 σ).bind fun σ =>
  (gR 0 14 a0 σ).bind fun v2 =>
  (pI 5 504 v2 i2 σ).bind fun σ =>
  (gR 0 14 a0 σ).bind fun v3 =>
  (pI 5 505 v3 i3 σ).bind fun σ =>
  bnd2 (vc 0 a0 σ (f_X0_findDone a0 σ)) fun v4 σ =>
  if v4 < 0 then
  (f_X0_canBe_J36 a0 (0 : Int32) σ)
  else
  (f_X0_canBe_J36 a0 (1 : Int32) σ)
set_option maxHeartbeats 4000000 in
theorem m_X0_canBe {l : Launch} {G : ZG} (a0 : Nat) (i1 : Int32) (i2 : Int32) (i3 : Int32) (σ : ZT) {out : (Int32 × ZT)} (hf : f_X0_canBe a0 i1 i2 i3 σ = some out) : ZM l G yX0_canBe cX0_canBe 5 (some .boolean) [] 9 [.ref a0, .int i1, .int i2, .int i3] σ (.returned (some (.int out.1))) out.2 := by
  refine ZM.of [(0, .ref a0), (1, .int i1), (2, .int i2), (3, .int i3)] rfl (Nat.le_of_ble_eq_true rfl) fun X (C : ZC G RX0 "canBe" cX0_canBe 5 (some .boolean) [] X 9) => ?_
  unfold f_X0_canBe at hf
  have j36_0 : ∀ (a0_36 : Nat) (w0_36 : Int32) (σ : ZT), f_X0_canBe_J36 a0_36 w0_36 σ = some out → ZW l G 5 X (ZQ G X (.returned (some (.int out.1))) out.2) σ 36 [(0, .ref a0_36)] [.int w0_36] := by
    intro a0_36 w0_36 σ hf
    unfold f_X0_canBe_J36 at hf
    refine z_istore (q := 38) (i := 4) (lv' := [(4, .int w0_36), (0, .ref a0_36)]) C dX0_canBe_36 (by decide) rfl rfl ?_
    refine z_aload_n (q := 39) (i := 0) C 1 dX0_canBe_38 rfl rfl rfl ?_
    refine z_getR (q := 42) C flX0_73 dX0_canBe_39 hf rfl fun v5 hf => ?_
    refine z_iconst (q := 43) C (-1 : Int32) dX0_canBe_42 ki_m1 rfl ?_
    refine z_putI (q := 46) C puX0_454 dX0_canBe_43 hf rfl fun σ hf => ?_
    refine z_aload_n (q := 47) (i := 0) C 1 dX0_canBe_46 rfl rfl rfl ?_
    refine z_getR (q := 50) C flX0_73 dX0_canBe_47 hf rfl fun v6 hf => ?_
    refine z_iconst (q := 51) C (-1 : Int32) dX0_canBe_50 ki_m1 rfl ?_
    refine z_putI (q := 54) C puX0_457 dX0_canBe_51 hf rfl fun σ hf => ?_
    refine z_iload (q := 56) (i := 4) C 0 dX0_canBe_54 rfl rfl ?_
    refine z_rz C hf fun hn hf => ?_
    exact z_zreturn C rfl hn dX0_canBe_56 (Option.some.inj hf)
  refine z_aload_n (q := 1) (i := 0) C 0 dX0_canBe_0 rfl rfl rfl ?_
  refine z_getR (q := 4) C flX0_73 dX0_canBe_1 hf rfl fun v1 hf => ?_
  refine z_iload_n (q := 5) (i := 1) C 1 dX0_canBe_4 rfl rfl rfl ?_
  refine z_putI (q := 8) C puX0_454 dX0_canBe_5 hf rfl fun σ hf => ?_
  refine z_aload_n (q := 9) (i := 0) C 0 dX0_canBe_8 rfl rfl rfl ?_
  refine z_getR (q := 12) C flX0_73 dX0_canBe_9 hf rfl fun v2 hf => ?_
  refine z_iload_n (q := 13) (i := 2) C 2 dX0_canBe_12 rfl rfl rfl ?_
  refine z_putI (q := 16) C puX0_457 dX0_canBe_13 hf rfl fun σ hf => ?_
  refine z_aload_n (q := 17) (i := 0) C 0 dX0_canBe_16 rfl rfl rfl ?_
  refine z_getR (q := 20) C flX0_73 dX0_canBe_17 hf rfl fun v3 hf => ?_
  refine z_iload_n (q := 21) (i := 3) C 3 dX0_canBe_20 rfl rfl rfl ?_
  refine z_putI (q := 24) C puX0_460 dX0_canBe_21 hf rfl fun σ hf => ?_
  refine z_aload_n (q := 25) (i := 0) C 0 dX0_canBe_24 rfl rfl rfl ?_
  refine z_callVi (q := 28) (As := []) C (fun o ho => m_X0_findDone _ _ ho) zk0 vvX0_420 cdX0_findDone pnX0 dX0_canBe_25 rfl (by decide) (Nat.le_of_ble_eq_true rfl) hf rfl fun v4 σ hf => ?_
  refine z_iflt (q := 31) (tgt := 35) C dX0_canBe_28 (by decide) rfl hf (fun c28 hf => ?_) (fun c28 hf => ?_)
  · refine z_iconst (q := 36) C (0 : Int32) dX0_canBe_35 ki_0 rfl ?_
    refine z_lv [0] rfl ?_
    exact j36_0 a0 (0 : Int32) σ hf
  · refine z_iconst (q := 32) C (1 : Int32) dX0_canBe_31 ki_1 rfl ?_
    refine z_goto (q := 36) C dX0_canBe_32 (by decide) ?_
    refine z_lv [0] rfl ?_
    exact j36_0 a0 (1 : Int32) σ hf

noncomputable def f_X0_needed_J62_33 (a0_62 : Nat) (i2_62 : Int32) (w0_62 : Int32) (w1_62 : Int32) (σ : ZT) : Option ((Int32 × Int32 × ZT) ⊕ (Int32 × ZT)) :=
  some (.inl ((w1_62 ||| w0_62), (i2_62 + (1 : Int32)), σ))
noncomputable def f_X0_needed_L33 (c0_33 : Nat) (i_3 : Int32) (i_4 : Int32) (σ : ZT) : Option ((Int32 × Int32 × ZT) ⊕ (Int32 × ZT)) :=
  bnd2 (vc 0 c0_33 σ (f_X0_town_2 c0_33 σ)) fun v5 σ =>
  (gI 6 601 v5 σ).bind fun v6 =>
  if i_4 < v6 then
  (bnd2 (vc 0 c0_33 σ (f_X0_canBe c0_33 i_4 (-1 : Int32) (0 : Int32) σ)) fun v7 σ =>
  if v7 = 0 then
  (f_X0_needed_J62_33 c0_33 i_4 ((1 : Int32) <<< (i_4 &&& 31)) i_3 σ)
  else
  (f_X0_needed_J62_33 c0_33 i_4 (0 : Int32) i_3 σ))
  else
  (some (.inr (i_3, σ)))
noncomputable def f_X0_needed_J17 (a0_17 : Nat) (w0_17 : Int32) (w1_17 : Nat) (σ : ZT) : Option (Int32 × ZT) :=
  (pI 0 7 w1_17 w0_17 σ).bind fun σ =>
  (gI 0 7 a0_17 σ).bind fun v2 =>
  if 0 < v2 then
  (some ((-1 : Int32), σ))
  else
  ((loopC (fun s : (Int32 × Int32 × ZT) => f_X0_needed_L33 a0_17 s.1 s.2.1 s.2.2) ((0 : Int32), (0 : Int32), σ)).bind fun x => (match x with
  | (x8, σ) => some (x8, σ)))
noncomputable def f_X0_needed (a0 : Nat) (σ : ZT) : Option (Int32 × ZT) :=
  bnd2 (vc 0 a0 σ (f_X0_canBe a0 (-1 : Int32) (-1 : Int32) (0 : Int32) σ)) fun v1 σ =>
  if v1 = 0 then
  (f_X0_needed_J17 a0 (6 : Int32) a0 σ)
  else
  (f_X0_needed_J17 a0 (0 : Int32) a0 σ)
set_option maxHeartbeats 4000000 in
theorem m_X0_needed {l : Launch} {G : ZG} (a0 : Nat) (σ : ZT) {out : (Int32 × ZT)} (hf : f_X0_needed a0 σ = some out) : ZM l G yX0_needed cX0_needed 3 (some .int) [] 10 [.ref a0] σ (.returned (some (.int out.1))) out.2 := by
  refine ZM.of [(0, .ref a0)] rfl (Nat.le_of_ble_eq_true rfl) fun X (C : ZC G RX0 "needed" cX0_needed 3 (some .int) [] X 10) => ?_
  unfold f_X0_needed at hf
  have j17_0 : ∀ (a0_17 : Nat) (w0_17 : Int32) (w1_17 : Nat) (σ : ZT), f_X0_needed_J17 a0_17 w0_17 w1_17 σ = some out → ZW l G 3 X (ZQ G X (.returned (some (.int out.1))) out.2) σ 17 [(0, .ref a0_17)] [.int w0_17, .ref w1_17] := by
    intro a0_17 w0_17 w1_17 σ hf
    unfold f_X0_needed_J17 at hf
    refine z_putI (q := 20) C puX0_110 dX0_needed_17 hf rfl fun σ hf => ?_
    refine z_aload_n (q := 21) (i := 0) C 0 dX0_needed_20 rfl rfl rfl ?_
    refine z_getI (q := 24) C flX0_110 dX0_needed_21 hf rfl fun v2 hf => ?_
    refine z_ifle (q := 27) (tgt := 29) C dX0_needed_24 (by decide) rfl hf (fun c24 hf => ?_) (fun c24 hf => ?_)
    · refine z_iconst (q := 30) C (0 : Int32) dX0_needed_29 ki_0 rfl ?_
      refine z_istore_n (q := 31) (i := 1) (lv' := [(1, .int (0 : Int32)), (0, .ref a0_17)]) C dX0_needed_30 rfl (by decide) rfl rfl ?_
      refine z_iconst (q := 32) C (0 : Int32) dX0_needed_31 ki_0 rfl ?_
      refine z_istore_n (q := 33) (i := 2) (lv' := [(2, .int (0 : Int32)), (1, .int (0 : Int32)), (0, .ref a0_17)]) C dX0_needed_32 rfl (by decide) rfl rfl ?_
      refine z_lv [2, 1, 0] rfl ?_
      obtain ⟨r1, hr1, hk1⟩ := Option.bind_eq_some_iff.mp hf
      refine loopC_ind (P := fun s => ZW l G 3 X (ZQ G X (.returned (some (.int out.1))) out.2) s.2.2 33 [(0, .ref a0_17), (1, .int s.1), (2, .int s.2.1)] []) (fun s x1 hf hx1 => ?_) hr1
      obtain ⟨i_3, i_4, σ⟩ := s
      unfold f_X0_needed_L33 at hf
      try dsimp only at hf
      try dsimp only
      have j62_1 : ∀ (i2_62 : Int32) (w0_62 : Int32) (w1_62 : Int32) (σ : ZT), f_X0_needed_J62_33 a0_17 i2_62 w0_62 w1_62 σ = some x1 → ZW l G 3 X (ZQ G X (.returned (some (.int out.1))) out.2) σ 62 [(0, .ref a0_17), (2, .int i2_62)] [.int w0_62, .int w1_62] := by
        intro i2_62 w0_62 w1_62 σ hf
        unfold f_X0_needed_J62_33 at hf
        refine z_ior (q := 63) C dX0_needed_62 rfl ?_
        refine z_istore_n (q := 64) (i := 1) (lv' := [(1, .int (w1_62 ||| w0_62)), (0, .ref a0_17), (2, .int i2_62)]) C dX0_needed_63 rfl (by decide) rfl rfl ?_
        refine z_iinc (q := 67) (i := 2) (lv' := [(2, .int (i2_62 + (1 : Int32))), (1, .int (w1_62 ||| w0_62)), (0, .ref a0_17)]) C 2 (i2_62 + (1 : Int32)) dX0_needed_64 rfl (kn_1 _) (by decide) rfl rfl ?_
        refine z_goto (q := 33) C dX0_needed_67 (by decide) ?_
        refine z_lv [2, 1, 0] rfl ?_
        have hc1 := zl_c hf hx1
        exact hc1
      refine z_iload_n (q := 34) (i := 2) C 2 dX0_needed_33 rfl rfl rfl ?_
      refine z_aload_n (q := 35) (i := 0) C 0 dX0_needed_34 rfl rfl rfl ?_
      refine z_callVr (q := 38) (As := []) C (fun o ho => m_X0_town_2 _ _ ho) zk0 vvX0_188 cdX0_town_2 pnX0 dX0_needed_35 rfl (by decide) (Nat.le_of_ble_eq_true rfl) hf rfl fun v5 σ hf => ?_
      refine z_getI (q := 41) C flX0_200 dX0_needed_38 hf rfl fun v6 hf => ?_
      refine z_icmpge (q := 44) (tgt := 70) C dX0_needed_41 (by decide) rfl hf (fun c41 hf => ?_) (fun c41 hf => ?_)
      · have e1 := zl_x hf hx1
        have hf := hk1
        rw [← e1] at hf
        try dsimp only at hf
        refine z_iload_n (q := 71) (i := 1) C 1 dX0_needed_70 rfl rfl rfl ?_
        exact z_ireturn C rfl dX0_needed_71 (Option.some.inj hf)
      · refine z_iload_n (q := 45) (i := 1) C 1 dX0_needed_44 rfl rfl rfl ?_
        refine z_aload_n (q := 46) (i := 0) C 0 dX0_needed_45 rfl rfl rfl ?_
        refine z_iload_n (q := 47) (i := 2) C 2 dX0_needed_46 rfl rfl rfl ?_
        refine z_iconst (q := 48) C (-1 : Int32) dX0_needed_47 ki_m1 rfl ?_
        refine z_iconst (q := 49) C (0 : Int32) dX0_needed_48 ki_0 rfl ?_
        refine z_callVi (q := 52) (As := [.int i_4, .int (-1 : Int32), .int (0 : Int32)]) C (fun o ho => m_X0_canBe _ _ _ _ _ ho) zk0 vvX0_463 cdX0_canBe pnX0 dX0_needed_49 rfl (by decide) (Nat.le_of_ble_eq_true rfl) hf rfl fun v7 σ hf => ?_
        refine z_ifeq (q := 55) (tgt := 59) C dX0_needed_52 (by decide) rfl hf (fun c52 hf => ?_) (fun c52 hf => ?_)
        · refine z_iconst (q := 60) C (1 : Int32) dX0_needed_59 ki_1 rfl ?_
          refine z_iload_n (q := 61) (i := 2) C 2 dX0_needed_60 rfl rfl rfl ?_
          refine z_ishl (q := 62) C dX0_needed_61 rfl ?_
          refine z_lv [0, 2] rfl ?_
          exact j62_1 i_4 ((1 : Int32) <<< (i_4 &&& 31)) i_3 σ hf
        · refine z_iconst (q := 56) C (0 : Int32) dX0_needed_55 ki_0 rfl ?_
          refine z_goto (q := 62) C dX0_needed_56 (by decide) ?_
          refine z_lv [0, 2] rfl ?_
          exact j62_1 i_4 (0 : Int32) i_3 σ hf
    · refine z_iconst (q := 28) C (-1 : Int32) dX0_needed_27 ki_m1 rfl ?_
      exact z_ireturn C rfl dX0_needed_28 (Option.some.inj hf)
  refine z_aload_n (q := 1) (i := 0) C 0 dX0_needed_0 rfl rfl rfl ?_
  refine z_aload_n (q := 2) (i := 0) C 0 dX0_needed_1 rfl rfl rfl ?_
  refine z_iconst (q := 3) C (-1 : Int32) dX0_needed_2 ki_m1 rfl ?_
  refine z_iconst (q := 4) C (-1 : Int32) dX0_needed_3 ki_m1 rfl ?_
  refine z_iconst (q := 5) C (0 : Int32) dX0_needed_4 ki_0 rfl ?_
  refine z_callVi (q := 8) (As := [.int (-1 : Int32), .int (-1 : Int32), .int (0 : Int32)]) C (fun o ho => m_X0_canBe _ _ _ _ _ ho) zk0 vvX0_463 cdX0_canBe pnX0 dX0_needed_5 rfl (by decide) (Nat.le_of_ble_eq_true rfl) hf rfl fun v1 σ hf => ?_
  refine z_ifeq (q := 11) (tgt := 15) C dX0_needed_8 (by decide) rfl hf (fun c8 hf => ?_) (fun c8 hf => ?_)
  · refine z_bipush (q := 17) C (6 : Int32) dX0_needed_15 kb_6 rfl ?_
    exact j17_0 a0 (6 : Int32) a0 σ hf
  · refine z_iconst (q := 12) C (0 : Int32) dX0_needed_11 ki_0 rfl ?_
    refine z_goto (q := 17) C dX0_needed_12 (by decide) ?_
    exact j17_0 a0 (0 : Int32) a0 σ hf

noncomputable def f_X0_leastStone_J54_20 (a0_54 : Nat) (i1_54 : Int32) (i2_54 : Int32) (i3_54 : Int32) (σ : ZT) : Option ((Int32 × Int32 × ZT) ⊕ (Int32 × ZT)) :=
  some (.inl (i2_54, i3_54, σ))
noncomputable def f_X0_leastStone_L20 (c0_20 : Nat) (c1_20 : Int32) (i_2 : Int32) (i_3 : Int32) (σ : ZT) : Option ((Int32 × Int32 × ZT) ⊕ (Int32 × ZT)) :=
  if i_2 < i_3 then
  ((zidiv (i_2 + i_3) (2 : Int32)).bind fun v4 =>
  bnd2 (vc 0 c0_20 σ (f_X0_canBe c0_20 (-1 : Int32) c1_20 v4 σ)) fun v5 σ =>
  if v5 = 0 then
  (f_X0_leastStone_J54_20 c0_20 c1_20 (v4 + (1 : Int32)) i_3 σ)
  else
  (f_X0_leastStone_J54_20 c0_20 c1_20 i_2 v4 σ))
  else
  (some (.inr (i_2, σ)))
noncomputable def f_X0_leastStone (a0 : Nat) (i1 : Int32) (σ : ZT) : Option (Int32 × ZT) :=
  bnd2 (vc 0 a0 σ (f_X0_canBe a0 (-1 : Int32) i1 (999 : Int32) σ)) fun v1 σ =>
  if v1 = 0 then
  (some ((-1 : Int32), σ))
  else
  ((loopC (fun s : (Int32 × Int32 × ZT) => f_X0_leastStone_L20 a0 i1 s.1 s.2.1 s.2.2) ((0 : Int32), (999 : Int32), σ)).bind fun x => (match x with
  | (x6, σ) => some (x6, σ)))
set_option maxHeartbeats 4000000 in
theorem m_X0_leastStone {l : Launch} {G : ZG} (a0 : Nat) (i1 : Int32) (σ : ZT) {out : (Int32 × ZT)} (hf : f_X0_leastStone a0 i1 σ = some out) : ZM l G yX0_leastStone cX0_leastStone 5 (some .int) [] 10 [.ref a0, .int i1] σ (.returned (some (.int out.1))) out.2 := by
  refine ZM.of [(0, .ref a0), (1, .int i1)] rfl (Nat.le_of_ble_eq_true rfl) fun X (C : ZC G RX0 "leastStone" cX0_leastStone 5 (some .int) [] X 10) => ?_
  unfold f_X0_leastStone at hf
  refine z_aload_n (q := 1) (i := 0) C 0 dX0_leastStone_0 rfl rfl rfl ?_
  refine z_iconst (q := 2) C (-1 : Int32) dX0_leastStone_1 ki_m1 rfl ?_
  refine z_iload_n (q := 3) (i := 1) C 1 dX0_leastStone_2 rfl rfl rfl ?_
  refine z_sipush (q := 6) C (999 : Int32) dX0_leastStone_3 ks_999 rfl ?_
  refine z_callVi (q := 9) (As := [.int (-1 : Int32), .int i1, .int (999 : Int32)]) C (fun o ho => m_X0_canBe _ _ _ _ _ ho) zk0 vvX0_463 cdX0_canBe pnX0 dX0_leastStone_6 rfl (by decide) (Nat.le_of_ble_eq_true rfl) hf rfl fun v1 σ hf => ?_
  refine z_ifne (q := 12) (tgt := 14) C dX0_leastStone_9 (by decide) rfl hf (fun c9 hf => ?_) (fun c9 hf => ?_)
  · refine z_iconst (q := 15) C (0 : Int32) dX0_leastStone_14 ki_0 rfl ?_
    refine z_istore_n (q := 16) (i := 2) (lv' := [(2, .int (0 : Int32)), (0, .ref a0), (1, .int i1)]) C dX0_leastStone_15 rfl (by decide) rfl rfl ?_
    refine z_sipush (q := 19) C (999 : Int32) dX0_leastStone_16 ks_999 rfl ?_
    refine z_istore_n (q := 20) (i := 3) (lv' := [(3, .int (999 : Int32)), (2, .int (0 : Int32)), (0, .ref a0), (1, .int i1)]) C dX0_leastStone_19 rfl (by decide) rfl rfl ?_
    refine z_lv [2, 3, 1, 0] rfl ?_
    obtain ⟨r1, hr1, hk1⟩ := Option.bind_eq_some_iff.mp hf
    refine loopC_ind (P := fun s => ZW l G 5 X (ZQ G X (.returned (some (.int out.1))) out.2) s.2.2 20 [(0, .ref a0), (1, .int i1), (2, .int s.1), (3, .int s.2.1)] []) (fun s x1 hf hx1 => ?_) hr1
    obtain ⟨i_2, i_3, σ⟩ := s
    unfold f_X0_leastStone_L20 at hf
    try dsimp only at hf
    try dsimp only
    have j54_1 : ∀ (i2_54 : Int32) (i3_54 : Int32) (σ : ZT), f_X0_leastStone_J54_20 a0 i1 i2_54 i3_54 σ = some x1 → ZW l G 5 X (ZQ G X (.returned (some (.int out.1))) out.2) σ 54 [(0, .ref a0), (1, .int i1), (2, .int i2_54), (3, .int i3_54)] [] := by
      intro i2_54 i3_54 σ hf
      unfold f_X0_leastStone_J54_20 at hf
      refine z_goto (q := 20) C dX0_leastStone_54 (by decide) ?_
      have hc1 := zl_c hf hx1
      exact hc1
    refine z_iload_n (q := 21) (i := 2) C 2 dX0_leastStone_20 rfl rfl rfl ?_
    refine z_iload_n (q := 22) (i := 3) C 3 dX0_leastStone_21 rfl rfl rfl ?_
    refine z_icmpge (q := 25) (tgt := 57) C dX0_leastStone_22 (by decide) rfl hf (fun c22 hf => ?_) (fun c22 hf => ?_)
    · have e1 := zl_x hf hx1
      have hf := hk1
      rw [← e1] at hf
      try dsimp only at hf
      refine z_iload_n (q := 58) (i := 2) C 2 dX0_leastStone_57 rfl rfl rfl ?_
      exact z_ireturn C rfl dX0_leastStone_58 (Option.some.inj hf)
    · refine z_iload_n (q := 26) (i := 2) C 2 dX0_leastStone_25 rfl rfl rfl ?_
      refine z_iload_n (q := 27) (i := 3) C 3 dX0_leastStone_26 rfl rfl rfl ?_
      refine z_iadd (q := 28) C dX0_leastStone_27 rfl ?_
      refine z_iconst (q := 29) C (2 : Int32) dX0_leastStone_28 ki_2 rfl ?_
      refine z_idiv (q := 30) C dX0_leastStone_29 hf rfl fun v4 hf => ?_
      refine z_istore (q := 32) (i := 4) (lv' := [(4, .int v4), (0, .ref a0), (1, .int i1), (2, .int i_2), (3, .int i_3)]) C dX0_leastStone_30 (by decide) rfl rfl ?_
      refine z_aload_n (q := 33) (i := 0) C 1 dX0_leastStone_32 rfl rfl rfl ?_
      refine z_iconst (q := 34) C (-1 : Int32) dX0_leastStone_33 ki_m1 rfl ?_
      refine z_iload_n (q := 35) (i := 1) C 2 dX0_leastStone_34 rfl rfl rfl ?_
      refine z_iload (q := 37) (i := 4) C 0 dX0_leastStone_35 rfl rfl ?_
      refine z_callVi (q := 40) (As := [.int (-1 : Int32), .int i1, .int v4]) C (fun o ho => m_X0_canBe _ _ _ _ _ ho) zk0 vvX0_463 cdX0_canBe pnX0 dX0_leastStone_37 rfl (by decide) (Nat.le_of_ble_eq_true rfl) hf rfl fun v5 σ hf => ?_
      refine z_ifeq (q := 43) (tgt := 49) C dX0_leastStone_40 (by decide) rfl hf (fun c40 hf => ?_) (fun c40 hf => ?_)
      · refine z_iload (q := 51) (i := 4) C 0 dX0_leastStone_49 rfl rfl ?_
        refine z_iconst (q := 52) C (1 : Int32) dX0_leastStone_51 ki_1 rfl ?_
        refine z_iadd (q := 53) C dX0_leastStone_52 rfl ?_
        refine z_istore_n (q := 54) (i := 2) (lv' := [(2, .int (v4 + (1 : Int32))), (4, .int v4), (0, .ref a0), (1, .int i1), (3, .int i_3)]) C dX0_leastStone_53 rfl (by decide) rfl rfl ?_
        refine z_lv [2, 3, 0, 4] rfl ?_
        exact j54_1 (v4 + (1 : Int32)) i_3 σ hf
      · refine z_iload (q := 45) (i := 4) C 0 dX0_leastStone_43 rfl rfl ?_
        refine z_istore_n (q := 46) (i := 3) (lv' := [(3, .int v4), (4, .int v4), (0, .ref a0), (1, .int i1), (2, .int i_2)]) C dX0_leastStone_45 rfl (by decide) rfl rfl ?_
        refine z_goto (q := 54) C dX0_leastStone_46 (by decide) ?_
        refine z_lv [2, 3, 4, 0] rfl ?_
        exact j54_1 i_2 v4 σ hf
  · refine z_iconst (q := 13) C (-1 : Int32) dX0_leastStone_12 ki_m1 rfl ?_
    exact z_ireturn C rfl dX0_leastStone_13 (Option.some.inj hf)

noncomputable def f_X0_stone_J37 (w0_37 : Int32) (σ : ZT) : Option (Int32 × ZT) :=
  some (w0_37, σ)
noncomputable def f_X0_stone_J14 (a0_14 : Nat) (i1_14 : Int32) (w0_14 : Int32) (w1_14 : Nat) (σ : ZT) : Option (Int32 × ZT) :=
  (pI 0 7 w1_14 w0_14 σ).bind fun σ =>
  (gI 0 7 a0_14 σ).bind fun v2 =>
  if 0 < v2 then
  (f_X0_stone_J37 (-1 : Int32) σ)
  else
  (bnd2 (vc 0 a0_14 σ (f_X0_leastStone a0_14 i1_14 σ)) fun v3 σ =>
  bnd2 (vc 0 a0_14 σ (f_X0_answer a0_14 v3 σ)) fun v4 σ =>
  f_X0_stone_J37 v4 σ)
noncomputable def f_X0_stone (a0 : Nat) (i1 : Int32) (σ : ZT) : Option (Int32 × ZT) :=
  bnd2 (vc 0 a0 σ (f_X0_isPlace a0 i1 σ)) fun v1 σ =>
  if v1 = 0 then
  (f_X0_stone_J14 a0 i1 (1 : Int32) a0 σ)
  else
  (f_X0_stone_J14 a0 i1 (0 : Int32) a0 σ)
set_option maxHeartbeats 4000000 in
theorem m_X0_stone {l : Launch} {G : ZG} (a0 : Nat) (i1 : Int32) (σ : ZT) {out : (Int32 × ZT)} (hf : f_X0_stone a0 i1 σ = some out) : ZM l G yX0_stone cX0_stone 2 (some .int) [] 11 [.ref a0, .int i1] σ (.returned (some (.int out.1))) out.2 := by
  refine ZM.of [(0, .ref a0), (1, .int i1)] rfl (Nat.le_of_ble_eq_true rfl) fun X (C : ZC G RX0 "stone" cX0_stone 2 (some .int) [] X 11) => ?_
  unfold f_X0_stone at hf
  have j37_0 : ∀ (w0_37 : Int32) (σ : ZT), f_X0_stone_J37 w0_37 σ = some out → ZW l G 2 X (ZQ G X (.returned (some (.int out.1))) out.2) σ 37 [] [.int w0_37] := by
    intro w0_37 σ hf
    unfold f_X0_stone_J37 at hf
    exact z_ireturn C rfl dX0_stone_37 (Option.some.inj hf)
  have j14_0 : ∀ (a0_14 : Nat) (i1_14 : Int32) (w0_14 : Int32) (w1_14 : Nat) (σ : ZT), f_X0_stone_J14 a0_14 i1_14 w0_14 w1_14 σ = some out → ZW l G 2 X (ZQ G X (.returned (some (.int out.1))) out.2) σ 14 [(0, .ref a0_14), (1, .int i1_14)] [.int w0_14, .ref w1_14] := by
    intro a0_14 i1_14 w0_14 w1_14 σ hf
    unfold f_X0_stone_J14 at hf
    refine z_putI (q := 17) C puX0_110 dX0_stone_14 hf rfl fun σ hf => ?_
    refine z_aload_n (q := 18) (i := 0) C 0 dX0_stone_17 rfl rfl rfl ?_
    refine z_getI (q := 21) C flX0_110 dX0_stone_18 hf rfl fun v2 hf => ?_
    refine z_ifle (q := 24) (tgt := 28) C dX0_stone_21 (by decide) rfl hf (fun c21 hf => ?_) (fun c21 hf => ?_)
    · refine z_aload_n (q := 29) (i := 0) C 0 dX0_stone_28 rfl rfl rfl ?_
      refine z_aload_n (q := 30) (i := 0) C 0 dX0_stone_29 rfl rfl rfl ?_
      refine z_iload_n (q := 31) (i := 1) C 1 dX0_stone_30 rfl rfl rfl ?_
      refine z_callVi (q := 34) (As := [.int i1_14]) C (fun o ho => m_X0_leastStone _ _ _ ho) zk0 vvX0_467 cdX0_leastStone pnX0 dX0_stone_31 rfl (by decide) (Nat.le_of_ble_eq_true rfl) hf rfl fun v3 σ hf => ?_
      refine z_callVi (q := 37) (As := [.int v3]) C (fun o ho => m_X0_answer _ _ _ ho) zk0 vvX0_321 cdX0_answer pnX0 dX0_stone_34 rfl (by decide) (Nat.le_of_ble_eq_true rfl) hf rfl fun v4 σ hf => ?_
      refine z_lv [] rfl ?_
      exact j37_0 v4 σ hf
    · refine z_iconst (q := 25) C (-1 : Int32) dX0_stone_24 ki_m1 rfl ?_
      refine z_goto (q := 37) C dX0_stone_25 (by decide) ?_
      refine z_lv [] rfl ?_
      exact j37_0 (-1 : Int32) σ hf
  refine z_aload_n (q := 1) (i := 0) C 0 dX0_stone_0 rfl rfl rfl ?_
  refine z_aload_n (q := 2) (i := 0) C 0 dX0_stone_1 rfl rfl rfl ?_
  refine z_iload_n (q := 3) (i := 1) C 1 dX0_stone_2 rfl rfl rfl ?_
  refine z_callVi (q := 6) (As := [.int i1]) C (fun o ho => m_X0_isPlace _ _ _ ho) zk0 vvX0_332 cdX0_isPlace pnX0 dX0_stone_3 rfl (by decide) (Nat.le_of_ble_eq_true rfl) hf rfl fun v1 σ hf => ?_
  refine z_ifeq (q := 9) (tgt := 13) C dX0_stone_6 (by decide) rfl hf (fun c6 hf => ?_) (fun c6 hf => ?_)
  · refine z_iconst (q := 14) C (1 : Int32) dX0_stone_13 ki_1 rfl ?_
    exact j14_0 a0 i1 (1 : Int32) a0 σ hf
  · refine z_iconst (q := 10) C (0 : Int32) dX0_stone_9 ki_0 rfl ?_
    refine z_goto (q := 14) C dX0_stone_10 (by decide) ?_
    exact j14_0 a0 i1 (0 : Int32) a0 σ hf

noncomputable def f_X0_bestStone_J79_35 (a0_79 : Nat) (i1_79 : Int32) (i2_79 : Int32) (i3_79 : Int32) (i4_79 : Int32) (σ : ZT) : Option ((Int32 × Int32 × Int32 × ZT) ⊕ (Int32 × Int32 × ZT)) :=
  some (.inl (i2_79, i3_79, (i4_79 + (1 : Int32)), σ))
noncomputable def f_X0_bestStone_J73_35 (a0_73 : Nat) (i1_73 : Int32) (i4_73 : Int32) (i5_73 : Int32) (σ : ZT) : Option ((Int32 × Int32 × Int32 × ZT) ⊕ (Int32 × Int32 × ZT)) :=
  f_X0_bestStone_J79_35 a0_73 i1_73 i4_73 i5_73 i4_73 σ
noncomputable def f_X0_bestStone_L35 (c0_35 : Nat) (c1_35 : Int32) (i_3 : Int32) (i_4 : Int32) (i_5 : Int32) (σ : ZT) : Option ((Int32 × Int32 × Int32 × ZT) ⊕ (Int32 × Int32 × ZT)) :=
  bnd2 (vc 0 c0_35 σ (f_X0_town_2 c0_35 σ)) fun v6 σ =>
  (gI 6 600 v6 σ).bind fun v7 =>
  if i_5 < v7 then
  (bnd2 (vc 0 c0_35 σ (f_X0_leastStone c0_35 i_5 σ)) fun v8 σ =>
  if v8 < 0 then
  (f_X0_bestStone_J79_35 c0_35 c1_35 i_3 i_4 i_5 σ)
  else
  (if i_3 < 0 then
  (f_X0_bestStone_J73_35 c0_35 c1_35 i_5 v8 σ)
  else
  (if v8 < i_4 then
  (f_X0_bestStone_J73_35 c0_35 c1_35 i_5 v8 σ)
  else
  (f_X0_bestStone_J79_35 c0_35 c1_35 i_3 i_4 i_5 σ))))
  else
  (some (.inr (i_3, i_4, σ)))
noncomputable def f_X0_bestStone_J103 (w0_103 : Int32) (w1_103 : Nat) (σ : ZT) : Option (Int32 × ZT) :=
  bnd2 (vc 0 w1_103 σ (f_X0_answer w1_103 w0_103 σ)) fun v11 σ =>
  some (v11, σ)
noncomputable def f_X0_bestStone_J16 (a0_16 : Nat) (i1_16 : Int32) (w0_16 : Int32) (w1_16 : Nat) (σ : ZT) : Option (Int32 × ZT) :=
  (pI 0 7 w1_16 w0_16 σ).bind fun σ =>
  (gI 0 7 a0_16 σ).bind fun v2 =>
  if 0 < v2 then
  (some ((-1 : Int32), σ))
  else
  ((loopC (fun s : (Int32 × Int32 × Int32 × ZT) => f_X0_bestStone_L35 a0_16 i1_16 s.1 s.2.1 s.2.2.1 s.2.2.2) ((-1 : Int32), (0 : Int32), (0 : Int32), σ)).bind fun x => (match x with
  | (x9, x10, σ) => if x9 < 0 then
  (f_X0_bestStone_J103 (-1 : Int32) a0_16 σ)
  else
  (if i1_16 = 0 then
  (f_X0_bestStone_J103 x9 a0_16 σ)
  else
  (f_X0_bestStone_J103 x10 a0_16 σ))))
noncomputable def f_X0_bestStone (a0 : Nat) (i1 : Int32) (σ : ZT) : Option (Int32 × ZT) :=
  bnd2 (f_X0_isIn (i1.toInt64) (0 : Int64) (1 : Int64) σ) fun v1 σ =>
  if v1 = 0 then
  (f_X0_bestStone_J16 a0 i1 (1 : Int32) a0 σ)
  else
  (f_X0_bestStone_J16 a0 i1 (0 : Int32) a0 σ)
set_option maxHeartbeats 4000000 in
theorem m_X0_bestStone {l : Launch} {G : ZG} (a0 : Nat) (i1 : Int32) (σ : ZT) {out : (Int32 × ZT)} (hf : f_X0_bestStone a0 i1 σ = some out) : ZM l G yX0_bestStone cX0_bestStone 6 (some .int) [] 11 [.ref a0, .int i1] σ (.returned (some (.int out.1))) out.2 := by
  refine ZM.of [(0, .ref a0), (1, .int i1)] rfl (Nat.le_of_ble_eq_true rfl) fun X (C : ZC G RX0 "bestStone" cX0_bestStone 6 (some .int) [] X 11) => ?_
  unfold f_X0_bestStone at hf
  have j103_0 : ∀ (w0_103 : Int32) (w1_103 : Nat) (σ : ZT), f_X0_bestStone_J103 w0_103 w1_103 σ = some out → ZW l G 6 X (ZQ G X (.returned (some (.int out.1))) out.2) σ 103 [] [.int w0_103, .ref w1_103] := by
    intro w0_103 w1_103 σ hf
    unfold f_X0_bestStone_J103 at hf
    refine z_callVi (q := 106) (As := [.int w0_103]) C (fun o ho => m_X0_answer _ _ _ ho) zk0 vvX0_321 cdX0_answer pnX0 dX0_bestStone_103 rfl (by decide) (Nat.le_of_ble_eq_true rfl) hf rfl fun v9 σ hf => ?_
    exact z_ireturn C rfl dX0_bestStone_106 (Option.some.inj hf)
  have j16_0 : ∀ (a0_16 : Nat) (i1_16 : Int32) (w0_16 : Int32) (w1_16 : Nat) (σ : ZT), f_X0_bestStone_J16 a0_16 i1_16 w0_16 w1_16 σ = some out → ZW l G 6 X (ZQ G X (.returned (some (.int out.1))) out.2) σ 16 [(0, .ref a0_16), (1, .int i1_16)] [.int w0_16, .ref w1_16] := by
    intro a0_16 i1_16 w0_16 w1_16 σ hf
    unfold f_X0_bestStone_J16 at hf
    refine z_putI (q := 19) C puX0_110 dX0_bestStone_16 hf rfl fun σ hf => ?_
    refine z_aload_n (q := 20) (i := 0) C 0 dX0_bestStone_19 rfl rfl rfl ?_
    refine z_getI (q := 23) C flX0_110 dX0_bestStone_20 hf rfl fun v2 hf => ?_
    refine z_ifle (q := 26) (tgt := 28) C dX0_bestStone_23 (by decide) rfl hf (fun c23 hf => ?_) (fun c23 hf => ?_)
    · refine z_iconst (q := 29) C (-1 : Int32) dX0_bestStone_28 ki_m1 rfl ?_
      refine z_istore_n (q := 30) (i := 2) (lv' := [(2, .int (-1 : Int32)), (0, .ref a0_16), (1, .int i1_16)]) C dX0_bestStone_29 rfl (by decide) rfl rfl ?_
      refine z_iconst (q := 31) C (0 : Int32) dX0_bestStone_30 ki_0 rfl ?_
      refine z_istore_n (q := 32) (i := 3) (lv' := [(3, .int (0 : Int32)), (2, .int (-1 : Int32)), (0, .ref a0_16), (1, .int i1_16)]) C dX0_bestStone_31 rfl (by decide) rfl rfl ?_
      refine z_iconst (q := 33) C (0 : Int32) dX0_bestStone_32 ki_0 rfl ?_
      refine z_istore (q := 35) (i := 4) (lv' := [(4, .int (0 : Int32)), (3, .int (0 : Int32)), (2, .int (-1 : Int32)), (0, .ref a0_16), (1, .int i1_16)]) C dX0_bestStone_33 (by decide) rfl rfl ?_
      refine z_lv [3, 4, 2, 1, 0] rfl ?_
      obtain ⟨r1, hr1, hk1⟩ := Option.bind_eq_some_iff.mp hf
      refine loopC_ind (P := fun s => ZW l G 6 X (ZQ G X (.returned (some (.int out.1))) out.2) s.2.2.2 35 [(0, .ref a0_16), (1, .int i1_16), (2, .int s.1), (3, .int s.2.1), (4, .int s.2.2.1)] []) (fun s x1 hf hx1 => ?_) hr1
      obtain ⟨i_3, i_4, i_5, σ⟩ := s
      unfold f_X0_bestStone_L35 at hf
      try dsimp only at hf
      try dsimp only
      have j79_1 : ∀ (i2_79 : Int32) (i3_79 : Int32) (i4_79 : Int32) (σ : ZT), f_X0_bestStone_J79_35 a0_16 i1_16 i2_79 i3_79 i4_79 σ = some x1 → ZW l G 6 X (ZQ G X (.returned (some (.int out.1))) out.2) σ 79 [(0, .ref a0_16), (1, .int i1_16), (2, .int i2_79), (3, .int i3_79), (4, .int i4_79)] [] := by
        intro i2_79 i3_79 i4_79 σ hf
        unfold f_X0_bestStone_J79_35 at hf
        refine z_iinc (q := 82) (i := 4) (lv' := [(4, .int (i4_79 + (1 : Int32))), (0, .ref a0_16), (1, .int i1_16), (2, .int i2_79), (3, .int i3_79)]) C 4 (i4_79 + (1 : Int32)) dX0_bestStone_79 rfl (kn_1 _) (by decide) rfl rfl ?_
        refine z_goto (q := 35) C dX0_bestStone_82 (by decide) ?_
        refine z_lv [1, 2, 3, 4, 0] rfl ?_
        have hc1 := zl_c hf hx1
        exact hc1
      have j73_1 : ∀ (i4_73 : Int32) (i5_73 : Int32) (σ : ZT), f_X0_bestStone_J73_35 a0_16 i1_16 i4_73 i5_73 σ = some x1 → ZW l G 6 X (ZQ G X (.returned (some (.int out.1))) out.2) σ 73 [(0, .ref a0_16), (1, .int i1_16), (4, .int i4_73), (5, .int i5_73)] [] := by
        intro i4_73 i5_73 σ hf
        unfold f_X0_bestStone_J73_35 at hf
        refine z_iload (q := 75) (i := 4) C 2 dX0_bestStone_73 rfl rfl ?_
        refine z_istore_n (q := 76) (i := 2) (lv' := [(2, .int i4_73), (0, .ref a0_16), (1, .int i1_16), (4, .int i4_73), (5, .int i5_73)]) C dX0_bestStone_75 rfl (by decide) rfl rfl ?_
        refine z_iload (q := 78) (i := 5) C 4 dX0_bestStone_76 rfl rfl ?_
        refine z_istore_n (q := 79) (i := 3) (lv' := [(3, .int i5_73), (2, .int i4_73), (0, .ref a0_16), (1, .int i1_16), (4, .int i4_73), (5, .int i5_73)]) C dX0_bestStone_78 rfl (by decide) rfl rfl ?_
        refine z_lv [2, 3, 1, 0, 4] rfl ?_
        exact j79_1 i4_73 i5_73 i4_73 σ hf
      refine z_iload (q := 37) (i := 4) C 4 dX0_bestStone_35 rfl rfl ?_
      refine z_aload_n (q := 38) (i := 0) C 0 dX0_bestStone_37 rfl rfl rfl ?_
      refine z_callVr (q := 41) (As := []) C (fun o ho => m_X0_town_2 _ _ ho) zk0 vvX0_188 cdX0_town_2 pnX0 dX0_bestStone_38 rfl (by decide) (Nat.le_of_ble_eq_true rfl) hf rfl fun v6 σ hf => ?_
      refine z_getI (q := 44) C flX0_191 dX0_bestStone_41 hf rfl fun v7 hf => ?_
      refine z_icmpge (q := 47) (tgt := 85) C dX0_bestStone_44 (by decide) rfl hf (fun c44 hf => ?_) (fun c44 hf => ?_)
      · have e1 := zl_x hf hx1
        have hf := hk1
        rw [← e1] at hf
        try dsimp only at hf
        refine z_aload_n (q := 86) (i := 0) C 0 dX0_bestStone_85 rfl rfl rfl ?_
        refine z_iload_n (q := 87) (i := 2) C 2 dX0_bestStone_86 rfl rfl rfl ?_
        refine z_ifge (q := 90) (tgt := 94) C dX0_bestStone_87 (by decide) rfl hf (fun c87 hf => ?_) (fun c87 hf => ?_)
        · refine z_iload_n (q := 95) (i := 1) C 1 dX0_bestStone_94 rfl rfl rfl ?_
          refine z_ifne (q := 98) (tgt := 102) C dX0_bestStone_95 (by decide) rfl hf (fun c95 hf => ?_) (fun c95 hf => ?_)
          · refine z_iload_n (q := 103) (i := 3) C 3 dX0_bestStone_102 rfl rfl rfl ?_
            refine z_lv [] rfl ?_
            exact j103_0 i_4 a0_16 σ hf
          · refine z_iload_n (q := 99) (i := 2) C 2 dX0_bestStone_98 rfl rfl rfl ?_
            refine z_goto (q := 103) C dX0_bestStone_99 (by decide) ?_
            refine z_lv [] rfl ?_
            exact j103_0 i_3 a0_16 σ hf
        · refine z_iconst (q := 91) C (-1 : Int32) dX0_bestStone_90 ki_m1 rfl ?_
          refine z_goto (q := 103) C dX0_bestStone_91 (by decide) ?_
          refine z_lv [] rfl ?_
          exact j103_0 (-1 : Int32) a0_16 σ hf
      · refine z_aload_n (q := 48) (i := 0) C 0 dX0_bestStone_47 rfl rfl rfl ?_
        refine z_iload (q := 50) (i := 4) C 4 dX0_bestStone_48 rfl rfl ?_
        refine z_callVi (q := 53) (As := [.int i_5]) C (fun o ho => m_X0_leastStone _ _ _ ho) zk0 vvX0_467 cdX0_leastStone pnX0 dX0_bestStone_50 rfl (by decide) (Nat.le_of_ble_eq_true rfl) hf rfl fun v8 σ hf => ?_
        refine z_istore (q := 55) (i := 5) (lv' := [(5, .int v8), (0, .ref a0_16), (1, .int i1_16), (2, .int i_3), (3, .int i_4), (4, .int i_5)]) C dX0_bestStone_53 (by decide) rfl rfl ?_
        refine z_iload (q := 57) (i := 5) C 0 dX0_bestStone_55 rfl rfl ?_
        refine z_iflt (q := 60) (tgt := 79) C dX0_bestStone_57 (by decide) rfl hf (fun c57 hf => ?_) (fun c57 hf => ?_)
        · refine z_lv [1, 2, 3, 4, 5] rfl ?_
          exact j79_1 i_3 i_4 i_5 σ hf
        · refine z_iload_n (q := 61) (i := 2) C 3 dX0_bestStone_60 rfl rfl rfl ?_
          refine z_iflt (q := 64) (tgt := 73) C dX0_bestStone_61 (by decide) rfl hf (fun c61 hf => ?_) (fun c61 hf => ?_)
          · refine z_lv [1, 2, 5, 0] rfl ?_
            exact j73_1 i_5 v8 σ hf
          · refine z_iload (q := 66) (i := 5) C 0 dX0_bestStone_64 rfl rfl ?_
            refine z_iload_n (q := 67) (i := 3) C 4 dX0_bestStone_66 rfl rfl rfl ?_
            refine z_icmplt (q := 70) (tgt := 73) C dX0_bestStone_67 (by decide) rfl hf (fun c67 hf => ?_) (fun c67 hf => ?_)
            · refine z_lv [1, 2, 5, 0] rfl ?_
              exact j73_1 i_5 v8 σ hf
            · refine z_goto (q := 79) C dX0_bestStone_70 (by decide) ?_
              refine z_lv [1, 2, 3, 4, 5] rfl ?_
              exact j79_1 i_3 i_4 i_5 σ hf
    · refine z_iconst (q := 27) C (-1 : Int32) dX0_bestStone_26 ki_m1 rfl ?_
      exact z_ireturn C rfl dX0_bestStone_27 (Option.some.inj hf)
  refine z_aload_n (q := 1) (i := 0) C 0 dX0_bestStone_0 rfl rfl rfl ?_
  refine z_iload_n (q := 2) (i := 1) C 1 dX0_bestStone_1 rfl rfl rfl ?_
  refine z_i2l (q := 3) C dX0_bestStone_2 rfl ?_
  refine z_lconst (q := 4) C (0 : Int64) dX0_bestStone_3 rfl rfl ?_
  refine z_lconst (q := 5) C (1 : Int64) dX0_bestStone_4 rfl rfl ?_
  refine z_callSi (q := 8) (As := [.long (i1.toInt64), .long (0 : Int64), .long (1 : Int64)]) C (fun o ho => m_X0_isIn _ _ _ _ ho) vsX0_196 cdX0_isIn pnX0 dX0_bestStone_5 rfl (by decide) (Nat.le_of_ble_eq_true rfl) hf rfl fun v1 σ hf => ?_
  refine z_ifeq (q := 11) (tgt := 15) C dX0_bestStone_8 (by decide) rfl hf (fun c8 hf => ?_) (fun c8 hf => ?_)
  · refine z_iconst (q := 16) C (1 : Int32) dX0_bestStone_15 ki_1 rfl ?_
    exact j16_0 a0 i1 (1 : Int32) a0 σ hf
  · refine z_iconst (q := 12) C (0 : Int32) dX0_bestStone_11 ki_0 rfl ?_
    refine z_goto (q := 16) C dX0_bestStone_12 (by decide) ?_
    exact j16_0 a0 i1 (0 : Int32) a0 σ hf

noncomputable def f_X0_runOnce (a0 : Nat) (i1 : Int32) (σ : ZT) : Option ZT :=
  (gR 0 23 a0 σ).bind fun v1 =>
  (gR 0 10 a0 σ).bind fun v2 =>
  (gR 4 400 v2 σ).bind fun v3 =>
  (vc 8 v1 σ (f_X8_begin v1 v3 i1 σ)).bind fun σ =>
  (gR 0 10 a0 σ).bind fun v5 =>
  (gR 4 401 v5 σ).bind fun v6 =>
  (gR 0 23 a0 σ).bind fun v7 =>
  (vc 16 v6 σ (f_X15_all (goN 4) v6 v7 σ)).bind fun σ =>
  some σ
set_option maxHeartbeats 4000000 in
theorem m_X0_runOnce {l : Launch} {G : ZG} (a0 : Nat) (i1 : Int32) (σ : ZT) {out : ZT} (hf : f_X0_runOnce a0 i1 σ = some out) : ZM l G yX0_runOnce cX0_runOnce 2 none [] 61 [.ref a0, .int i1] σ (.returned none) out := by
  refine ZM.of [(0, .ref a0), (1, .int i1)] rfl (Nat.le_of_ble_eq_true rfl) fun X (C : ZC G RX0 "runOnce" cX0_runOnce 2 none [] X 61) => ?_
  unfold f_X0_runOnce at hf
  refine z_aload_n (q := 1) (i := 0) C 0 dX0_runOnce_0 rfl rfl rfl ?_
  refine z_getR (q := 4) C flX0_100 dX0_runOnce_1 hf rfl fun v1 hf => ?_
  refine z_aload_n (q := 5) (i := 0) C 0 dX0_runOnce_4 rfl rfl rfl ?_
  refine z_getR (q := 8) C flX0_55 dX0_runOnce_5 hf rfl fun v2 hf => ?_
  refine z_getR (q := 11) C flX0_183 dX0_runOnce_8 hf rfl fun v3 hf => ?_
  refine z_iload_n (q := 12) (i := 1) C 1 dX0_runOnce_11 rfl rfl rfl ?_
  refine z_callVv (q := 15) (As := [.ref v3, .int i1]) C (fun o ho => m_X8_begin _ _ _ _ ho) zk8 vvX0_480 cdX8_begin pnX8 dX0_runOnce_12 rfl (by decide) (Nat.le_of_ble_eq_true rfl) hf rfl fun σ hf => ?_
  refine z_aload_n (q := 16) (i := 0) C 0 dX0_runOnce_15 rfl rfl rfl ?_
  refine z_getR (q := 19) C flX0_55 dX0_runOnce_16 hf rfl fun v5 hf => ?_
  refine z_getR (q := 22) C flX0_238 dX0_runOnce_19 hf rfl fun v6 hf => ?_
  refine z_aload_n (q := 23) (i := 0) C 0 dX0_runOnce_22 rfl rfl rfl ?_
  refine z_getR (q := 26) C flX0_100 dX0_runOnce_23 hf rfl fun v7 hf => ?_
  refine z_callUv (q := 29) (As := [.ref v7]) C (fun o ho => m_X15_all (goN 4) (goN_m 4) _ _ _ ho) zk16 vuX0_483 cdX15_all pnX15 dX0_runOnce_26 rfl (by decide) (Nat.le_of_ble_eq_true rfl) hf rfl fun σ hf => ?_
  exact z_return C rfl dX0_runOnce_29 (Option.some.inj hf)

noncomputable def f_X0_run_J140 (a0_140 : Nat) (w0_140 : Int32) (w1_140 : Int32) (w2_140 : Nat) (σ : ZT) : Option (Int32 × ZT) :=
  (stI w2_140 w1_140 w0_140 σ).bind fun σ =>
  bnd2 (vc 0 a0_140 σ (f_X0_town_2 a0_140 σ)) fun v25 σ =>
  (gI 6 602 v25 σ).bind fun v26 =>
  (pI 0 27 a0_140 v26 σ).bind fun σ =>
  (gR 0 23 a0_140 σ).bind fun v27 =>
  (gR 8 800 v27 σ).bind fun v28 =>
  (gR 5 501 v28 σ).bind fun v29 =>
  (gR 0 26 a0_140 σ).bind fun v30 =>
  (cpI v29 (0 : Int32) v30 (0 : Int32) (4 : Int32) σ).bind fun σ =>
  (pZ 0 24 a0_140 (1 : Int32) σ).bind fun σ =>
  (gR 0 23 a0_140 σ).bind fun v31 =>
  (gI 8 802 v31 σ).bind fun v32 =>
  some (v32, σ)
noncomputable def f_X0_run_J35 (a0_35 : Nat) (i1_35 : Int32) (w0_35 : Int32) (w1_35 : Nat) (σ : ZT) : Option (Int32 × ZT) :=
  (pI 0 7 w1_35 w0_35 σ).bind fun σ =>
  (gI 0 7 a0_35 σ).bind fun v4 =>
  if 0 < v4 then
  (some ((-1 : Int32), σ))
  else
  ((vc 0 a0_35 σ (f_X0_runOnce a0_35 i1_35 σ)).bind fun σ =>
  (gR 0 25 a0_35 σ).bind fun v6 =>
  (gR 0 23 a0_35 σ).bind fun v7 =>
  (gI 8 803 v7 σ).bind fun v8 =>
  (stI v6 (0 : Int32) v8 σ).bind fun σ =>
  (gR 0 25 a0_35 σ).bind fun v9 =>
  (gR 0 23 a0_35 σ).bind fun v10 =>
  (gI 8 804 v10 σ).bind fun v11 =>
  (stI v9 (1 : Int32) v11 σ).bind fun σ =>
  (gR 0 25 a0_35 σ).bind fun v12 =>
  (gR 0 23 a0_35 σ).bind fun v13 =>
  (gI 8 805 v13 σ).bind fun v14 =>
  (stI v12 (2 : Int32) v14 σ).bind fun σ =>
  (gR 0 25 a0_35 σ).bind fun v15 =>
  (gR 0 23 a0_35 σ).bind fun v16 =>
  (gI 8 806 v16 σ).bind fun v17 =>
  (stI v15 (3 : Int32) v17 σ).bind fun σ =>
  (gR 0 25 a0_35 σ).bind fun v18 =>
  (gR 0 23 a0_35 σ).bind fun v19 =>
  (gI 8 807 v19 σ).bind fun v20 =>
  (stI v18 (4 : Int32) v20 σ).bind fun σ =>
  (gR 0 25 a0_35 σ).bind fun v21 =>
  (gR 0 23 a0_35 σ).bind fun v22 =>
  (gR 8 800 v22 σ).bind fun v23 =>
  bnd2 (vc 5 v23 σ (f_X5_isDone v23 σ)) fun v24 σ =>
  if v24 = 0 then
  (f_X0_run_J140 a0_35 (0 : Int32) (5 : Int32) v21 σ)
  else
  (f_X0_run_J140 a0_35 (1 : Int32) (5 : Int32) v21 σ))
noncomputable def f_X0_run (a0 : Nat) (i1 : Int32) (σ : ZT) : Option (Int32 × ZT) :=
  bnd2 (f_X0_isIn (i1.toInt64) (-1 : Int64) (9999 : Int64) σ) fun v1 σ =>
  if v1 = 0 then
  (f_X0_run_J35 a0 i1 (1 : Int32) a0 σ)
  else
  ((gR 0 10 a0 σ).bind fun v2 =>
  (gQ 4 401 v2 σ).bind fun v3 =>
  znl v3
  (f_X0_run_J35 a0 i1 (6 : Int32) a0 σ)
  (f_X0_run_J35 a0 i1 (0 : Int32) a0 σ))
set_option maxHeartbeats 4000000 in
theorem m_X0_run {l : Launch} {G : ZG} (a0 : Nat) (i1 : Int32) (σ : ZT) {out : (Int32 × ZT)} (hf : f_X0_run a0 i1 σ = some out) : ZM l G yX0_run cX0_run 2 (some .int) [] 62 [.ref a0, .int i1] σ (.returned (some (.int out.1))) out.2 := by
  refine ZM.of [(0, .ref a0), (1, .int i1)] rfl (Nat.le_of_ble_eq_true rfl) fun X (C : ZC G RX0 "run" cX0_run 2 (some .int) [] X 62) => ?_
  unfold f_X0_run at hf
  have j140_0 : ∀ (a0_140 : Nat) (w0_140 : Int32) (w1_140 : Int32) (w2_140 : Nat) (σ : ZT), f_X0_run_J140 a0_140 w0_140 w1_140 w2_140 σ = some out → ZW l G 2 X (ZQ G X (.returned (some (.int out.1))) out.2) σ 140 [(0, .ref a0_140)] [.int w0_140, .int w1_140, .ref w2_140] := by
    intro a0_140 w0_140 w1_140 w2_140 σ hf
    unfold f_X0_run_J140 at hf
    refine z_iast (q := 141) C dX0_run_140 hf rfl fun σ hf => ?_
    refine z_aload_n (q := 142) (i := 0) C 0 dX0_run_141 rfl rfl rfl ?_
    refine z_aload_n (q := 143) (i := 0) C 0 dX0_run_142 rfl rfl rfl ?_
    refine z_callVr (q := 146) (As := []) C (fun o ho => m_X0_town_2 _ _ ho) zk0 vvX0_188 cdX0_town_2 pnX0 dX0_run_143 rfl (by decide) (Nat.le_of_ble_eq_true rfl) hf rfl fun v25 σ hf => ?_
    refine z_getI (q := 149) C flX0_203 dX0_run_146 hf rfl fun v26 hf => ?_
    refine z_putI (q := 152) C puX0_503 dX0_run_149 hf rfl fun σ hf => ?_
    refine z_aload_n (q := 153) (i := 0) C 0 dX0_run_152 rfl rfl rfl ?_
    refine z_getR (q := 156) C flX0_100 dX0_run_153 hf rfl fun v27 hf => ?_
    refine z_getR (q := 159) C flX0_502 dX0_run_156 hf rfl fun v28 hf => ?_
    refine z_getR (q := 162) C flX0_338 dX0_run_159 hf rfl fun v29 hf => ?_
    refine z_iconst (q := 163) C (0 : Int32) dX0_run_162 ki_0 rfl ?_
    refine z_aload_n (q := 164) (i := 0) C 0 dX0_run_163 rfl rfl rfl ?_
    refine z_getR (q := 167) C flX0_107 dX0_run_164 hf rfl fun v30 hf => ?_
    refine z_iconst (q := 168) C (0 : Int32) dX0_run_167 ki_0 rfl ?_
    refine z_iconst (q := 169) C (4 : Int32) dX0_run_168 ki_4 rfl ?_
    refine z_cpyI (q := 172) C q689 dX0_run_169 (by decide) (Nat.le_of_ble_eq_true rfl) hf rfl fun σ hf => ?_
    refine z_aload_n (q := 173) (i := 0) C 0 dX0_run_172 rfl rfl rfl ?_
    refine z_iconst (q := 174) C (1 : Int32) dX0_run_173 ki_1 rfl ?_
    refine z_putZ (q := 177) C puX0_506 dX0_run_174 hf rfl fun σ hf => ?_
    refine z_aload_n (q := 178) (i := 0) C 0 dX0_run_177 rfl rfl rfl ?_
    refine z_getR (q := 181) C flX0_100 dX0_run_178 hf rfl fun v31 hf => ?_
    refine z_getI (q := 184) C flX0_509 dX0_run_181 hf rfl fun v32 hf => ?_
    exact z_ireturn C rfl dX0_run_184 (Option.some.inj hf)
  have j35_0 : ∀ (a0_35 : Nat) (i1_35 : Int32) (w0_35 : Int32) (w1_35 : Nat) (σ : ZT), f_X0_run_J35 a0_35 i1_35 w0_35 w1_35 σ = some out → ZW l G 2 X (ZQ G X (.returned (some (.int out.1))) out.2) σ 35 [(0, .ref a0_35), (1, .int i1_35)] [.int w0_35, .ref w1_35] := by
    intro a0_35 i1_35 w0_35 w1_35 σ hf
    unfold f_X0_run_J35 at hf
    refine z_putI (q := 38) C puX0_110 dX0_run_35 hf rfl fun σ hf => ?_
    refine z_aload_n (q := 39) (i := 0) C 0 dX0_run_38 rfl rfl rfl ?_
    refine z_getI (q := 42) C flX0_110 dX0_run_39 hf rfl fun v4 hf => ?_
    refine z_ifle (q := 45) (tgt := 47) C dX0_run_42 (by decide) rfl hf (fun c42 hf => ?_) (fun c42 hf => ?_)
    · refine z_aload_n (q := 48) (i := 0) C 0 dX0_run_47 rfl rfl rfl ?_
      refine z_iload_n (q := 49) (i := 1) C 1 dX0_run_48 rfl rfl rfl ?_
      refine z_callVv (q := 52) (As := [.int i1_35]) C (fun o ho => m_X0_runOnce _ _ _ ho) zk0 vvX0_487 cdX0_runOnce pnX0 dX0_run_49 rfl (by decide) (Nat.le_of_ble_eq_true rfl) hf rfl fun σ hf => ?_
      refine z_aload_n (q := 53) (i := 0) C 0 dX0_run_52 rfl rfl rfl ?_
      refine z_getR (q := 56) C flX0_104 dX0_run_53 hf rfl fun v6 hf => ?_
      refine z_iconst (q := 57) C (0 : Int32) dX0_run_56 ki_0 rfl ?_
      refine z_aload_n (q := 58) (i := 0) C 0 dX0_run_57 rfl rfl rfl ?_
      refine z_getR (q := 61) C flX0_100 dX0_run_58 hf rfl fun v7 hf => ?_
      refine z_getI (q := 64) C flX0_490 dX0_run_61 hf rfl fun v8 hf => ?_
      refine z_iast (q := 65) C dX0_run_64 hf rfl fun σ hf => ?_
      refine z_aload_n (q := 66) (i := 0) C 0 dX0_run_65 rfl rfl rfl ?_
      refine z_getR (q := 69) C flX0_104 dX0_run_66 hf rfl fun v9 hf => ?_
      refine z_iconst (q := 70) C (1 : Int32) dX0_run_69 ki_1 rfl ?_
      refine z_aload_n (q := 71) (i := 0) C 0 dX0_run_70 rfl rfl rfl ?_
      refine z_getR (q := 74) C flX0_100 dX0_run_71 hf rfl fun v10 hf => ?_
      refine z_getI (q := 77) C flX0_493 dX0_run_74 hf rfl fun v11 hf => ?_
      refine z_iast (q := 78) C dX0_run_77 hf rfl fun σ hf => ?_
      refine z_aload_n (q := 79) (i := 0) C 0 dX0_run_78 rfl rfl rfl ?_
      refine z_getR (q := 82) C flX0_104 dX0_run_79 hf rfl fun v12 hf => ?_
      refine z_iconst (q := 83) C (2 : Int32) dX0_run_82 ki_2 rfl ?_
      refine z_aload_n (q := 84) (i := 0) C 0 dX0_run_83 rfl rfl rfl ?_
      refine z_getR (q := 87) C flX0_100 dX0_run_84 hf rfl fun v13 hf => ?_
      refine z_getI (q := 90) C flX0_496 dX0_run_87 hf rfl fun v14 hf => ?_
      refine z_iast (q := 91) C dX0_run_90 hf rfl fun σ hf => ?_
      refine z_aload_n (q := 92) (i := 0) C 0 dX0_run_91 rfl rfl rfl ?_
      refine z_getR (q := 95) C flX0_104 dX0_run_92 hf rfl fun v15 hf => ?_
      refine z_iconst (q := 96) C (3 : Int32) dX0_run_95 ki_3 rfl ?_
      refine z_aload_n (q := 97) (i := 0) C 0 dX0_run_96 rfl rfl rfl ?_
      refine z_getR (q := 100) C flX0_100 dX0_run_97 hf rfl fun v16 hf => ?_
      refine z_getI (q := 103) C flX0_499 dX0_run_100 hf rfl fun v17 hf => ?_
      refine z_iast (q := 104) C dX0_run_103 hf rfl fun σ hf => ?_
      refine z_aload_n (q := 105) (i := 0) C 0 dX0_run_104 rfl rfl rfl ?_
      refine z_getR (q := 108) C flX0_104 dX0_run_105 hf rfl fun v18 hf => ?_
      refine z_iconst (q := 109) C (4 : Int32) dX0_run_108 ki_4 rfl ?_
      refine z_aload_n (q := 110) (i := 0) C 0 dX0_run_109 rfl rfl rfl ?_
      refine z_getR (q := 113) C flX0_100 dX0_run_110 hf rfl fun v19 hf => ?_
      refine z_getI (q := 116) C flX0_500 dX0_run_113 hf rfl fun v20 hf => ?_
      refine z_iast (q := 117) C dX0_run_116 hf rfl fun σ hf => ?_
      refine z_aload_n (q := 118) (i := 0) C 0 dX0_run_117 rfl rfl rfl ?_
      refine z_getR (q := 121) C flX0_104 dX0_run_118 hf rfl fun v21 hf => ?_
      refine z_iconst (q := 122) C (5 : Int32) dX0_run_121 ki_5 rfl ?_
      refine z_aload_n (q := 123) (i := 0) C 0 dX0_run_122 rfl rfl rfl ?_
      refine z_getR (q := 126) C flX0_100 dX0_run_123 hf rfl fun v22 hf => ?_
      refine z_getR (q := 129) C flX0_502 dX0_run_126 hf rfl fun v23 hf => ?_
      refine z_callVi (q := 132) (As := []) C (fun o ho => m_X5_isDone _ _ ho) zk5 vvX0_258 cdX5_isDone pnX5 dX0_run_129 rfl (by decide) (Nat.le_of_ble_eq_true rfl) hf rfl fun v24 σ hf => ?_
      refine z_ifeq (q := 135) (tgt := 139) C dX0_run_132 (by decide) rfl hf (fun c132 hf => ?_) (fun c132 hf => ?_)
      · refine z_iconst (q := 140) C (0 : Int32) dX0_run_139 ki_0 rfl ?_
        refine z_lv [0] rfl ?_
        exact j140_0 a0_35 (0 : Int32) (5 : Int32) v21 σ hf
      · refine z_iconst (q := 136) C (1 : Int32) dX0_run_135 ki_1 rfl ?_
        refine z_goto (q := 140) C dX0_run_136 (by decide) ?_
        refine z_lv [0] rfl ?_
        exact j140_0 a0_35 (1 : Int32) (5 : Int32) v21 σ hf
    · refine z_iconst (q := 46) C (-1 : Int32) dX0_run_45 ki_m1 rfl ?_
      exact z_ireturn C rfl dX0_run_46 (Option.some.inj hf)
  refine z_aload_n (q := 1) (i := 0) C 0 dX0_run_0 rfl rfl rfl ?_
  refine z_iload_n (q := 2) (i := 1) C 1 dX0_run_1 rfl rfl rfl ?_
  refine z_i2l (q := 3) C dX0_run_2 rfl ?_
  refine z_ldc2 (q := 6) C q676 dX0_run_3 rfl ?_
  refine z_ldc2 (q := 9) C q1475 dX0_run_6 rfl ?_
  refine z_callSi (q := 12) (As := [.long (i1.toInt64), .long (-1 : Int64), .long (9999 : Int64)]) C (fun o ho => m_X0_isIn _ _ _ _ ho) vsX0_196 cdX0_isIn pnX0 dX0_run_9 rfl (by decide) (Nat.le_of_ble_eq_true rfl) hf rfl fun v1 σ hf => ?_
  refine z_ifne (q := 15) (tgt := 19) C dX0_run_12 (by decide) rfl hf (fun c12 hf => ?_) (fun c12 hf => ?_)
  · refine z_aload_n (q := 20) (i := 0) C 0 dX0_run_19 rfl rfl rfl ?_
    refine z_getR (q := 23) C flX0_55 dX0_run_20 hf rfl fun v2 hf => ?_
    refine z_getQ (q := 26) C flX0_238 dX0_run_23 hf rfl fun v3 hf => ?_
    refine z_ifnonnull (q := 29) (tgt := 34) C dX0_run_26 (by decide) rfl hf (fun y26 c26 hf => ?_) (fun c26 hf => ?_)
    · refine z_iconst (q := 35) C (0 : Int32) dX0_run_34 ki_0 rfl ?_
      exact j35_0 a0 i1 (0 : Int32) a0 σ hf
    · refine z_bipush (q := 31) C (6 : Int32) dX0_run_29 kb_6 rfl ?_
      refine z_goto (q := 35) C dX0_run_31 (by decide) ?_
      exact j35_0 a0 i1 (6 : Int32) a0 σ hf
  · refine z_iconst (q := 16) C (1 : Int32) dX0_run_15 ki_1 rfl ?_
    refine z_goto (q := 35) C dX0_run_16 (by decide) ?_
    exact j35_0 a0 i1 (1 : Int32) a0 σ hf

noncomputable def f_X0_ran_J50 (w0_50 : Int32) (σ : ZT) : Option (Int32 × ZT) :=
  some (w0_50, σ)
noncomputable def f_X0_ran_J30 (a0_30 : Nat) (i1_30 : Int32) (w0_30 : Int32) (w1_30 : Nat) (σ : ZT) : Option (Int32 × ZT) :=
  (pI 0 7 w1_30 w0_30 σ).bind fun σ =>
  (gI 0 7 a0_30 σ).bind fun v3 =>
  if 0 < v3 then
  (f_X0_ran_J50 (-1 : Int32) σ)
  else
  ((gR 0 25 a0_30 σ).bind fun v4 =>
  (ldI 0 v4 i1_30 σ).bind fun v5 =>
  f_X0_ran_J50 v5 σ)
noncomputable def f_X0_ran (a0 : Nat) (i1 : Int32) (σ : ZT) : Option (Int32 × ZT) :=
  bnd2 (f_X0_isIn (i1.toInt64) (0 : Int64) (5 : Int64) σ) fun v1 σ =>
  if v1 = 0 then
  (f_X0_ran_J30 a0 i1 (1 : Int32) a0 σ)
  else
  ((gI 0 24 a0 σ).bind fun v2 =>
  if v2 = 0 then
  (f_X0_ran_J30 a0 i1 (6 : Int32) a0 σ)
  else
  (f_X0_ran_J30 a0 i1 (0 : Int32) a0 σ))
set_option maxHeartbeats 4000000 in
theorem m_X0_ran {l : Launch} {G : ZG} (a0 : Nat) (i1 : Int32) (σ : ZT) {out : (Int32 × ZT)} (hf : f_X0_ran a0 i1 σ = some out) : ZM l G yX0_ran cX0_ran 2 (some .int) [] 2 [.ref a0, .int i1] σ (.returned (some (.int out.1))) out.2 := by
  refine ZM.of [(0, .ref a0), (1, .int i1)] rfl (Nat.le_of_ble_eq_true rfl) fun X (C : ZC G RX0 "ran" cX0_ran 2 (some .int) [] X 2) => ?_
  unfold f_X0_ran at hf
  have j50_0 : ∀ (w0_50 : Int32) (σ : ZT), f_X0_ran_J50 w0_50 σ = some out → ZW l G 2 X (ZQ G X (.returned (some (.int out.1))) out.2) σ 50 [] [.int w0_50] := by
    intro w0_50 σ hf
    unfold f_X0_ran_J50 at hf
    exact z_ireturn C rfl dX0_ran_50 (Option.some.inj hf)
  have j30_0 : ∀ (a0_30 : Nat) (i1_30 : Int32) (w0_30 : Int32) (w1_30 : Nat) (σ : ZT), f_X0_ran_J30 a0_30 i1_30 w0_30 w1_30 σ = some out → ZW l G 2 X (ZQ G X (.returned (some (.int out.1))) out.2) σ 30 [(0, .ref a0_30), (1, .int i1_30)] [.int w0_30, .ref w1_30] := by
    intro a0_30 i1_30 w0_30 w1_30 σ hf
    unfold f_X0_ran_J30 at hf
    refine z_putI (q := 33) C puX0_110 dX0_ran_30 hf rfl fun σ hf => ?_
    refine z_aload_n (q := 34) (i := 0) C 0 dX0_ran_33 rfl rfl rfl ?_
    refine z_getI (q := 37) C flX0_110 dX0_ran_34 hf rfl fun v3 hf => ?_
    refine z_ifle (q := 40) (tgt := 44) C dX0_ran_37 (by decide) rfl hf (fun c37 hf => ?_) (fun c37 hf => ?_)
    · refine z_aload_n (q := 45) (i := 0) C 0 dX0_ran_44 rfl rfl rfl ?_
      refine z_getR (q := 48) C flX0_104 dX0_ran_45 hf rfl fun v4 hf => ?_
      refine z_iload_n (q := 49) (i := 1) C 1 dX0_ran_48 rfl rfl rfl ?_
      refine z_iald (q := 50) C dX0_ran_49 hf rfl fun v5 hf => ?_
      refine z_lv [] rfl ?_
      exact j50_0 v5 σ hf
    · refine z_iconst (q := 41) C (-1 : Int32) dX0_ran_40 ki_m1 rfl ?_
      refine z_goto (q := 50) C dX0_ran_41 (by decide) ?_
      refine z_lv [] rfl ?_
      exact j50_0 (-1 : Int32) σ hf
  refine z_aload_n (q := 1) (i := 0) C 0 dX0_ran_0 rfl rfl rfl ?_
  refine z_iload_n (q := 2) (i := 1) C 1 dX0_ran_1 rfl rfl rfl ?_
  refine z_i2l (q := 3) C dX0_ran_2 rfl ?_
  refine z_lconst (q := 4) C (0 : Int64) dX0_ran_3 rfl rfl ?_
  refine z_ldc2 (q := 7) C q1549 dX0_ran_4 rfl ?_
  refine z_callSi (q := 10) (As := [.long (i1.toInt64), .long (0 : Int64), .long (5 : Int64)]) C (fun o ho => m_X0_isIn _ _ _ _ ho) vsX0_196 cdX0_isIn pnX0 dX0_ran_7 rfl (by decide) (Nat.le_of_ble_eq_true rfl) hf rfl fun v1 σ hf => ?_
  refine z_ifne (q := 13) (tgt := 17) C dX0_ran_10 (by decide) rfl hf (fun c10 hf => ?_) (fun c10 hf => ?_)
  · refine z_aload_n (q := 18) (i := 0) C 0 dX0_ran_17 rfl rfl rfl ?_
    refine z_getI (q := 21) C flX0_506 dX0_ran_18 hf rfl fun v2 hf => ?_
    refine z_ifne (q := 24) (tgt := 29) C dX0_ran_21 (by decide) rfl hf (fun c21 hf => ?_) (fun c21 hf => ?_)
    · refine z_iconst (q := 30) C (0 : Int32) dX0_ran_29 ki_0 rfl ?_
      exact j30_0 a0 i1 (0 : Int32) a0 σ hf
    · refine z_bipush (q := 26) C (6 : Int32) dX0_ran_24 kb_6 rfl ?_
      refine z_goto (q := 30) C dX0_ran_26 (by decide) ?_
      exact j30_0 a0 i1 (6 : Int32) a0 σ hf
  · refine z_iconst (q := 14) C (1 : Int32) dX0_ran_13 ki_1 rfl ?_
    refine z_goto (q := 30) C dX0_ran_14 (by decide) ?_
    exact j30_0 a0 i1 (1 : Int32) a0 σ hf

noncomputable def f_X0_ranAt_J58 (w0_58 : Int32) (σ : ZT) : Option (Int32 × ZT) :=
  some (w0_58, σ)
noncomputable def f_X0_ranAt_J38 (a0_38 : Nat) (i1_38 : Int32) (w0_38 : Int32) (w1_38 : Nat) (σ : ZT) : Option (Int32 × ZT) :=
  (pI 0 7 w1_38 w0_38 σ).bind fun σ =>
  (gI 0 7 a0_38 σ).bind fun v4 =>
  if 0 < v4 then
  (f_X0_ranAt_J58 (-1 : Int32) σ)
  else
  ((gR 0 26 a0_38 σ).bind fun v5 =>
  (ldI 0 v5 i1_38 σ).bind fun v6 =>
  f_X0_ranAt_J58 v6 σ)
noncomputable def f_X0_ranAt_J32 (a0_32 : Nat) (i1_32 : Int32) (w0_32 : Nat) (σ : ZT) : Option (Int32 × ZT) :=
  f_X0_ranAt_J38 a0_32 i1_32 (6 : Int32) w0_32 σ
noncomputable def f_X0_ranAt (a0 : Nat) (i1 : Int32) (σ : ZT) : Option (Int32 × ZT) :=
  bnd2 (f_X0_isIn (i1.toInt64) (0 : Int64) (3 : Int64) σ) fun v1 σ =>
  if v1 = 0 then
  (f_X0_ranAt_J38 a0 i1 (1 : Int32) a0 σ)
  else
  ((gI 0 24 a0 σ).bind fun v2 =>
  if v2 = 0 then
  (f_X0_ranAt_J32 a0 i1 a0 σ)
  else
  ((gI 0 27 a0 σ).bind fun v3 =>
  if i1 < v3 then
  (f_X0_ranAt_J38 a0 i1 (0 : Int32) a0 σ)
  else
  (f_X0_ranAt_J32 a0 i1 a0 σ)))
set_option maxHeartbeats 4000000 in
theorem m_X0_ranAt {l : Launch} {G : ZG} (a0 : Nat) (i1 : Int32) (σ : ZT) {out : (Int32 × ZT)} (hf : f_X0_ranAt a0 i1 σ = some out) : ZM l G yX0_ranAt cX0_ranAt 2 (some .int) [] 2 [.ref a0, .int i1] σ (.returned (some (.int out.1))) out.2 := by
  refine ZM.of [(0, .ref a0), (1, .int i1)] rfl (Nat.le_of_ble_eq_true rfl) fun X (C : ZC G RX0 "ranAt" cX0_ranAt 2 (some .int) [] X 2) => ?_
  unfold f_X0_ranAt at hf
  have j58_0 : ∀ (w0_58 : Int32) (σ : ZT), f_X0_ranAt_J58 w0_58 σ = some out → ZW l G 2 X (ZQ G X (.returned (some (.int out.1))) out.2) σ 58 [] [.int w0_58] := by
    intro w0_58 σ hf
    unfold f_X0_ranAt_J58 at hf
    exact z_ireturn C rfl dX0_ranAt_58 (Option.some.inj hf)
  have j38_0 : ∀ (a0_38 : Nat) (i1_38 : Int32) (w0_38 : Int32) (w1_38 : Nat) (σ : ZT), f_X0_ranAt_J38 a0_38 i1_38 w0_38 w1_38 σ = some out → ZW l G 2 X (ZQ G X (.returned (some (.int out.1))) out.2) σ 38 [(0, .ref a0_38), (1, .int i1_38)] [.int w0_38, .ref w1_38] := by
    intro a0_38 i1_38 w0_38 w1_38 σ hf
    unfold f_X0_ranAt_J38 at hf
    refine z_putI (q := 41) C puX0_110 dX0_ranAt_38 hf rfl fun σ hf => ?_
    refine z_aload_n (q := 42) (i := 0) C 0 dX0_ranAt_41 rfl rfl rfl ?_
    refine z_getI (q := 45) C flX0_110 dX0_ranAt_42 hf rfl fun v4 hf => ?_
    refine z_ifle (q := 48) (tgt := 52) C dX0_ranAt_45 (by decide) rfl hf (fun c45 hf => ?_) (fun c45 hf => ?_)
    · refine z_aload_n (q := 53) (i := 0) C 0 dX0_ranAt_52 rfl rfl rfl ?_
      refine z_getR (q := 56) C flX0_107 dX0_ranAt_53 hf rfl fun v5 hf => ?_
      refine z_iload_n (q := 57) (i := 1) C 1 dX0_ranAt_56 rfl rfl rfl ?_
      refine z_iald (q := 58) C dX0_ranAt_57 hf rfl fun v6 hf => ?_
      refine z_lv [] rfl ?_
      exact j58_0 v6 σ hf
    · refine z_iconst (q := 49) C (-1 : Int32) dX0_ranAt_48 ki_m1 rfl ?_
      refine z_goto (q := 58) C dX0_ranAt_49 (by decide) ?_
      refine z_lv [] rfl ?_
      exact j58_0 (-1 : Int32) σ hf
  have j32_0 : ∀ (a0_32 : Nat) (i1_32 : Int32) (w0_32 : Nat) (σ : ZT), f_X0_ranAt_J32 a0_32 i1_32 w0_32 σ = some out → ZW l G 2 X (ZQ G X (.returned (some (.int out.1))) out.2) σ 32 [(0, .ref a0_32), (1, .int i1_32)] [.ref w0_32] := by
    intro a0_32 i1_32 w0_32 σ hf
    unfold f_X0_ranAt_J32 at hf
    refine z_bipush (q := 34) C (6 : Int32) dX0_ranAt_32 kb_6 rfl ?_
    refine z_goto (q := 38) C dX0_ranAt_34 (by decide) ?_
    exact j38_0 a0_32 i1_32 (6 : Int32) w0_32 σ hf
  refine z_aload_n (q := 1) (i := 0) C 0 dX0_ranAt_0 rfl rfl rfl ?_
  refine z_iload_n (q := 2) (i := 1) C 1 dX0_ranAt_1 rfl rfl rfl ?_
  refine z_i2l (q := 3) C dX0_ranAt_2 rfl ?_
  refine z_lconst (q := 4) C (0 : Int64) dX0_ranAt_3 rfl rfl ?_
  refine z_ldc2 (q := 7) C q1216 dX0_ranAt_4 rfl ?_
  refine z_callSi (q := 10) (As := [.long (i1.toInt64), .long (0 : Int64), .long (3 : Int64)]) C (fun o ho => m_X0_isIn _ _ _ _ ho) vsX0_196 cdX0_isIn pnX0 dX0_ranAt_7 rfl (by decide) (Nat.le_of_ble_eq_true rfl) hf rfl fun v1 σ hf => ?_
  refine z_ifne (q := 13) (tgt := 17) C dX0_ranAt_10 (by decide) rfl hf (fun c10 hf => ?_) (fun c10 hf => ?_)
  · refine z_aload_n (q := 18) (i := 0) C 0 dX0_ranAt_17 rfl rfl rfl ?_
    refine z_getI (q := 21) C flX0_506 dX0_ranAt_18 hf rfl fun v2 hf => ?_
    refine z_ifeq (q := 24) (tgt := 32) C dX0_ranAt_21 (by decide) rfl hf (fun c21 hf => ?_) (fun c21 hf => ?_)
    · exact j32_0 a0 i1 a0 σ hf
    · refine z_iload_n (q := 25) (i := 1) C 1 dX0_ranAt_24 rfl rfl rfl ?_
      refine z_aload_n (q := 26) (i := 0) C 0 dX0_ranAt_25 rfl rfl rfl ?_
      refine z_getI (q := 29) C flX0_503 dX0_ranAt_26 hf rfl fun v3 hf => ?_
      refine z_icmplt (q := 32) (tgt := 37) C dX0_ranAt_29 (by decide) rfl hf (fun c29 hf => ?_) (fun c29 hf => ?_)
      · refine z_iconst (q := 38) C (0 : Int32) dX0_ranAt_37 ki_0 rfl ?_
        exact j38_0 a0 i1 (0 : Int32) a0 σ hf
      · exact j32_0 a0 i1 a0 σ hf
  · refine z_iconst (q := 14) C (1 : Int32) dX0_ranAt_13 ki_1 rfl ?_
    refine z_goto (q := 38) C dX0_ranAt_14 (by decide) ?_
    exact j38_0 a0 i1 (1 : Int32) a0 σ hf

noncomputable def f_X0_fraction_L9 (c0_9 : Nat) (c1_9 : Int64) (c3_9 : Int64) (l_1 : Int64) (l_2 : Int64) (σ : ZT) : Option ((Int64 × Int64 × ZT) ⊕ (Int64 × ZT)) :=
  if (lg_cmp l_2 (0 : Int64)) = 0 then
  (some (.inr (l_1, σ)))
  else
  ((zlrem l_1 l_2).bind fun v6 =>
  some (.inl (l_2, v6, σ)))
noncomputable def f_X0_fraction (a0 : Nat) (l1 : Int64) (l3 : Int64) (σ : ZT) : Option (Int32 × ZT) :=
  (loopC (fun s : (Int64 × Int64 × ZT) => f_X0_fraction_L9 a0 l1 l3 s.1 s.2.1 s.2.2) ((if 0 < l1 then l1 else -l1), l3, σ)).bind fun x => (match x with
  | (x7, σ) => (zldiv l1 x7).bind fun v8 =>
  (pL 0 8 a0 v8 σ).bind fun σ =>
  (zldiv l3 x7).bind fun v9 =>
  (pL 0 9 a0 v9 σ).bind fun σ =>
  bnd2 (f_J11_signum l1 σ) fun v10 σ =>
  some (v10, σ))
set_option maxHeartbeats 4000000 in
theorem m_X0_fraction {l : Launch} {G : ZG} (a0 : Nat) (l1 : Int64) (l3 : Int64) (σ : ZT) {out : (Int32 × ZT)} (hf : f_X0_fraction a0 l1 l3 σ = some out) : ZM l G yX0_fraction cX0_fraction 11 (some .int) [] 6 [.ref a0, .long l1, .long l3] σ (.returned (some (.int out.1))) out.2 := by
  refine ZM.of [(0, .ref a0), (1, .long l1), (3, .long l3)] rfl (Nat.le_of_ble_eq_true rfl) fun X (C : ZC G RX0 "fraction" cX0_fraction 11 (some .int) [] X 6) => ?_
  unfold f_X0_fraction at hf
  refine z_lload_n (q := 1) (i := 1) C 1 dX0_fraction_0 rfl rfl rfl ?_
  refine z_mabsl (q := 4) C q1562 dX0_fraction_1 (by decide) (Nat.le_of_ble_eq_true rfl) rfl ?_
  refine z_lstore (q := 6) (i := 5) (lv' := [(5, .long (if 0 < l1 then l1 else -l1)), (0, .ref a0), (1, .long l1), (3, .long l3)]) C dX0_fraction_4 (by decide) rfl rfl ?_
  refine z_lload_n (q := 7) (i := 3) C 3 dX0_fraction_6 rfl rfl rfl ?_
  refine z_lstore (q := 9) (i := 7) (lv' := [(7, .long l3), (5, .long (if 0 < l1 then l1 else -l1)), (0, .ref a0), (1, .long l1), (3, .long l3)]) C dX0_fraction_7 (by decide) rfl rfl ?_
  refine z_lv [2, 3, 4, 1, 0] rfl ?_
  obtain ⟨r1, hr1, hk1⟩ := Option.bind_eq_some_iff.mp hf
  refine loopC_ind (P := fun s => ZW l G 11 X (ZQ G X (.returned (some (.int out.1))) out.2) s.2.2 9 [(0, .ref a0), (1, .long l1), (3, .long l3), (5, .long s.1), (7, .long s.2.1)] []) (fun s x1 hf hx1 => ?_) hr1
  obtain ⟨l_1, l_2, σ⟩ := s
  unfold f_X0_fraction_L9 at hf
  try dsimp only at hf
  try dsimp only
  refine z_lload (q := 11) (i := 7) C 4 dX0_fraction_9 rfl rfl ?_
  refine z_lconst (q := 12) C (0 : Int64) dX0_fraction_11 rfl rfl ?_
  refine z_lcmp (q := 13) C dX0_fraction_12 rfl ?_
  refine z_ifeq (q := 16) (tgt := 34) C dX0_fraction_13 (by decide) rfl hf (fun c13 hf => ?_) (fun c13 hf => ?_)
  · have e1 := zl_x hf hx1
    have hf := hk1
    rw [← e1] at hf
    try dsimp only at hf
    refine z_aload_n (q := 35) (i := 0) C 0 dX0_fraction_34 rfl rfl rfl ?_
    refine z_lload_n (q := 36) (i := 1) C 1 dX0_fraction_35 rfl rfl rfl ?_
    refine z_lload (q := 38) (i := 5) C 3 dX0_fraction_36 rfl rfl ?_
    refine z_ldiv (q := 39) C dX0_fraction_38 hf rfl fun v3 hf => ?_
    refine z_putL (q := 42) C puX0_113 dX0_fraction_39 hf rfl fun σ hf => ?_
    refine z_aload_n (q := 43) (i := 0) C 0 dX0_fraction_42 rfl rfl rfl ?_
    refine z_lload_n (q := 44) (i := 3) C 2 dX0_fraction_43 rfl rfl rfl ?_
    refine z_lload (q := 46) (i := 5) C 3 dX0_fraction_44 rfl rfl ?_
    refine z_ldiv (q := 47) C dX0_fraction_46 hf rfl fun v4 hf => ?_
    refine z_putL (q := 50) C puX0_48 dX0_fraction_47 hf rfl fun σ hf => ?_
    refine z_lload_n (q := 51) (i := 1) C 1 dX0_fraction_50 rfl rfl rfl ?_
    refine z_callSi (q := 54) (As := [.long l1]) C (fun o ho => m_J11_signum _ _ ho) vsX0_129 cdJ11_signum pnJ11 dX0_fraction_51 rfl (by decide) (Nat.le_of_ble_eq_true rfl) hf rfl fun v5 σ hf => ?_
    exact z_ireturn C rfl dX0_fraction_54 (Option.some.inj hf)
  · refine z_lload (q := 18) (i := 5) C 3 dX0_fraction_16 rfl rfl ?_
    refine z_lload (q := 20) (i := 7) C 4 dX0_fraction_18 rfl rfl ?_
    refine z_lrem (q := 21) C dX0_fraction_20 hf rfl fun v6 hf => ?_
    refine z_lstore (q := 23) (i := 9) (lv' := [(9, .long v6), (0, .ref a0), (1, .long l1), (3, .long l3), (5, .long l_1), (7, .long l_2)]) C dX0_fraction_21 (by decide) rfl rfl ?_
    refine z_lload (q := 25) (i := 7) C 5 dX0_fraction_23 rfl rfl ?_
    refine z_lstore (q := 27) (i := 5) (lv' := [(5, .long l_2), (9, .long v6), (0, .ref a0), (1, .long l1), (3, .long l3), (7, .long l_2)]) C dX0_fraction_25 (by decide) rfl rfl ?_
    refine z_lload (q := 29) (i := 9) C 1 dX0_fraction_27 rfl rfl ?_
    refine z_lstore (q := 31) (i := 7) (lv' := [(7, .long v6), (5, .long l_2), (9, .long v6), (0, .ref a0), (1, .long l1), (3, .long l3)]) C dX0_fraction_29 (by decide) rfl rfl ?_
    refine z_goto (q := 9) C dX0_fraction_31 (by decide) ?_
    refine z_lv [3, 4, 5, 1, 0] rfl ?_
    have hc1 := zl_c hf hx1
    exact hc1

noncomputable def f_X0_odds_J100_67 (a0_100 : Nat) (i1_100 : Int32) (i2_100 : Int32) (i4_100 : Int32) (w0_100 : Int32) (w1_100 : Int32) (σ : ZT) : Option ((Int32 × Int32 × ZT) ⊕ (Int32 × ZT)) :=
  some (.inl ((w1_100 + w0_100), (i4_100 + (1 : Int32)), σ))
noncomputable def f_X0_odds_L67 (c0_67 : Nat) (c1_67 : Int32) (c2_67 : Int32) (i_6 : Int32) (i_7 : Int32) (σ : ZT) : Option ((Int32 × Int32 × ZT) ⊕ (Int32 × ZT)) :=
  if i_7 < c2_67 then
  ((vc 0 c0_67 σ (f_X0_runOnce c0_67 (c1_67 + i_7) σ)).bind fun σ =>
  (gR 0 23 c0_67 σ).bind fun v10 =>
  (gR 8 800 v10 σ).bind fun v11 =>
  bnd2 (vc 5 v11 σ (f_X5_isDone v11 σ)) fun v12 σ =>
  if v12 = 0 then
  (f_X0_odds_J100_67 c0_67 c1_67 c2_67 i_7 (0 : Int32) i_6 σ)
  else
  (f_X0_odds_J100_67 c0_67 c1_67 c2_67 i_7 (1 : Int32) i_6 σ))
  else
  (some (.inr (i_6, σ)))
noncomputable def f_X0_odds_J50 (a0_50 : Nat) (i1_50 : Int32) (i2_50 : Int32) (w0_50 : Int32) (w1_50 : Nat) (σ : ZT) : Option (Int32 × ZT) :=
  (pI 0 7 w1_50 w0_50 σ).bind fun σ =>
  (gI 0 7 a0_50 σ).bind fun v5 =>
  if 0 < v5 then
  (some ((0 : Int32), σ))
  else
  ((loopC (fun s : (Int32 × Int32 × ZT) => f_X0_odds_L67 a0_50 i1_50 i2_50 s.1 s.2.1 s.2.2) ((0 : Int32), (0 : Int32), σ)).bind fun x => (match x with
  | (x13, σ) => bnd2 (vc 0 a0_50 σ (f_X0_fraction a0_50 (x13.toInt64) (i2_50.toInt64) σ)) fun v14 σ =>
  some ((1 : Int32), σ)))
noncomputable def f_X0_odds_J30 (a0_30 : Nat) (i1_30 : Int32) (i2_30 : Int32) (w0_30 : Nat) (σ : ZT) : Option (Int32 × ZT) :=
  f_X0_odds_J50 a0_30 i1_30 i2_30 (1 : Int32) w0_30 σ
noncomputable def f_X0_odds (a0 : Nat) (i1 : Int32) (i2 : Int32) (σ : ZT) : Option (Int32 × ZT) :=
  bnd2 (f_X0_isIn (i2.toInt64) (1 : Int64) (30 : Int64) σ) fun v1 σ =>
  if v1 = 0 then
  (f_X0_odds_J30 a0 i1 i2 a0 σ)
  else
  (bnd2 (f_X0_isIn (i1.toInt64) (0 : Int64) ((((9999 : Int32) - i2) + (1 : Int32)).toInt64) σ) fun v2 σ =>
  if v2 = 0 then
  (f_X0_odds_J30 a0 i1 i2 a0 σ)
  else
  ((gR 0 10 a0 σ).bind fun v3 =>
  (gQ 4 401 v3 σ).bind fun v4 =>
  znl v4
  (f_X0_odds_J50 a0 i1 i2 (6 : Int32) a0 σ)
  (f_X0_odds_J50 a0 i1 i2 (0 : Int32) a0 σ)))
set_option maxHeartbeats 4000000 in
theorem m_X0_odds {l : Launch} {G : ZG} (a0 : Nat) (i1 : Int32) (i2 : Int32) (σ : ZT) {out : (Int32 × ZT)} (hf : f_X0_odds a0 i1 i2 σ = some out) : ZM l G yX0_odds cX0_odds 5 (some .boolean) [] 62 [.ref a0, .int i1, .int i2] σ (.returned (some (.int out.1))) out.2 := by
  refine ZM.of [(0, .ref a0), (1, .int i1), (2, .int i2)] rfl (Nat.le_of_ble_eq_true rfl) fun X (C : ZC G RX0 "odds" cX0_odds 5 (some .boolean) [] X 62) => ?_
  unfold f_X0_odds at hf
  have j50_0 : ∀ (a0_50 : Nat) (i1_50 : Int32) (i2_50 : Int32) (w0_50 : Int32) (w1_50 : Nat) (σ : ZT), f_X0_odds_J50 a0_50 i1_50 i2_50 w0_50 w1_50 σ = some out → ZW l G 5 X (ZQ G X (.returned (some (.int out.1))) out.2) σ 50 [(0, .ref a0_50), (1, .int i1_50), (2, .int i2_50)] [.int w0_50, .ref w1_50] := by
    intro a0_50 i1_50 i2_50 w0_50 w1_50 σ hf
    unfold f_X0_odds_J50 at hf
    refine z_putI (q := 53) C puX0_110 dX0_odds_50 hf rfl fun σ hf => ?_
    refine z_aload_n (q := 54) (i := 0) C 0 dX0_odds_53 rfl rfl rfl ?_
    refine z_getI (q := 57) C flX0_110 dX0_odds_54 hf rfl fun v5 hf => ?_
    refine z_ifle (q := 60) (tgt := 62) C dX0_odds_57 (by decide) rfl hf (fun c57 hf => ?_) (fun c57 hf => ?_)
    · refine z_iconst (q := 63) C (0 : Int32) dX0_odds_62 ki_0 rfl ?_
      refine z_istore_n (q := 64) (i := 3) (lv' := [(3, .int (0 : Int32)), (0, .ref a0_50), (1, .int i1_50), (2, .int i2_50)]) C dX0_odds_63 rfl (by decide) rfl rfl ?_
      refine z_iconst (q := 65) C (0 : Int32) dX0_odds_64 ki_0 rfl ?_
      refine z_istore (q := 67) (i := 4) (lv' := [(4, .int (0 : Int32)), (3, .int (0 : Int32)), (0, .ref a0_50), (1, .int i1_50), (2, .int i2_50)]) C dX0_odds_65 (by decide) rfl rfl ?_
      refine z_lv [2, 3, 4, 1, 0] rfl ?_
      obtain ⟨r1, hr1, hk1⟩ := Option.bind_eq_some_iff.mp hf
      refine loopC_ind (P := fun s => ZW l G 5 X (ZQ G X (.returned (some (.int out.1))) out.2) s.2.2 67 [(0, .ref a0_50), (1, .int i1_50), (2, .int i2_50), (3, .int s.1), (4, .int s.2.1)] []) (fun s x1 hf hx1 => ?_) hr1
      obtain ⟨i_6, i_7, σ⟩ := s
      unfold f_X0_odds_L67 at hf
      try dsimp only at hf
      try dsimp only
      have j100_1 : ∀ (i4_100 : Int32) (w0_100 : Int32) (w1_100 : Int32) (σ : ZT), f_X0_odds_J100_67 a0_50 i1_50 i2_50 i4_100 w0_100 w1_100 σ = some x1 → ZW l G 5 X (ZQ G X (.returned (some (.int out.1))) out.2) σ 100 [(0, .ref a0_50), (1, .int i1_50), (2, .int i2_50), (4, .int i4_100)] [.int w0_100, .int w1_100] := by
        intro i4_100 w0_100 w1_100 σ hf
        unfold f_X0_odds_J100_67 at hf
        refine z_iadd (q := 101) C dX0_odds_100 rfl ?_
        refine z_istore_n (q := 102) (i := 3) (lv' := [(3, .int (w1_100 + w0_100)), (0, .ref a0_50), (1, .int i1_50), (2, .int i2_50), (4, .int i4_100)]) C dX0_odds_101 rfl (by decide) rfl rfl ?_
        refine z_iinc (q := 105) (i := 4) (lv' := [(4, .int (i4_100 + (1 : Int32))), (3, .int (w1_100 + w0_100)), (0, .ref a0_50), (1, .int i1_50), (2, .int i2_50)]) C 4 (i4_100 + (1 : Int32)) dX0_odds_102 rfl (kn_1 _) (by decide) rfl rfl ?_
        refine z_goto (q := 67) C dX0_odds_105 (by decide) ?_
        refine z_lv [2, 3, 4, 1, 0] rfl ?_
        have hc1 := zl_c hf hx1
        exact hc1
      refine z_iload (q := 69) (i := 4) C 4 dX0_odds_67 rfl rfl ?_
      refine z_iload_n (q := 70) (i := 2) C 2 dX0_odds_69 rfl rfl rfl ?_
      refine z_icmpge (q := 73) (tgt := 108) C dX0_odds_70 (by decide) rfl hf (fun c70 hf => ?_) (fun c70 hf => ?_)
      · have e1 := zl_x hf hx1
        have hf := hk1
        rw [← e1] at hf
        try dsimp only at hf
        refine z_aload_n (q := 109) (i := 0) C 0 dX0_odds_108 rfl rfl rfl ?_
        refine z_iload_n (q := 110) (i := 3) C 3 dX0_odds_109 rfl rfl rfl ?_
        refine z_i2l (q := 111) C dX0_odds_110 rfl ?_
        refine z_iload_n (q := 112) (i := 2) C 2 dX0_odds_111 rfl rfl rfl ?_
        refine z_i2l (q := 113) C dX0_odds_112 rfl ?_
        refine z_callVi (q := 116) (As := [.long (i_6.toInt64), .long (i2_50.toInt64)]) C (fun o ho => m_X0_fraction _ _ _ _ ho) zk0 vvX0_512 cdX0_fraction pnX0 dX0_odds_113 rfl (by decide) (Nat.le_of_ble_eq_true rfl) hf rfl fun v8 σ hf => ?_
        refine z_pop (q := 117) C dX0_odds_116 rfl rfl ?_
        refine z_iconst (q := 118) C (1 : Int32) dX0_odds_117 ki_1 rfl ?_
        exact z_zreturn C rfl z_nb1 dX0_odds_118 (Option.some.inj hf)
      · refine z_aload_n (q := 74) (i := 0) C 0 dX0_odds_73 rfl rfl rfl ?_
        refine z_iload_n (q := 75) (i := 1) C 1 dX0_odds_74 rfl rfl rfl ?_
        refine z_iload (q := 77) (i := 4) C 4 dX0_odds_75 rfl rfl ?_
        refine z_iadd (q := 78) C dX0_odds_77 rfl ?_
        refine z_callVv (q := 81) (As := [.int (i1_50 + i_7)]) C (fun o ho => m_X0_runOnce _ _ _ ho) zk0 vvX0_487 cdX0_runOnce pnX0 dX0_odds_78 rfl (by decide) (Nat.le_of_ble_eq_true rfl) hf rfl fun σ hf => ?_
        refine z_iload_n (q := 82) (i := 3) C 3 dX0_odds_81 rfl rfl rfl ?_
        refine z_aload_n (q := 83) (i := 0) C 0 dX0_odds_82 rfl rfl rfl ?_
        refine z_getR (q := 86) C flX0_100 dX0_odds_83 hf rfl fun v10 hf => ?_
        refine z_getR (q := 89) C flX0_502 dX0_odds_86 hf rfl fun v11 hf => ?_
        refine z_callVi (q := 92) (As := []) C (fun o ho => m_X5_isDone _ _ ho) zk5 vvX0_258 cdX5_isDone pnX5 dX0_odds_89 rfl (by decide) (Nat.le_of_ble_eq_true rfl) hf rfl fun v12 σ hf => ?_
        refine z_ifeq (q := 95) (tgt := 99) C dX0_odds_92 (by decide) rfl hf (fun c92 hf => ?_) (fun c92 hf => ?_)
        · refine z_iconst (q := 100) C (0 : Int32) dX0_odds_99 ki_0 rfl ?_
          refine z_lv [0, 1, 2, 4] rfl ?_
          exact j100_1 i_7 (0 : Int32) i_6 σ hf
        · refine z_iconst (q := 96) C (1 : Int32) dX0_odds_95 ki_1 rfl ?_
          refine z_goto (q := 100) C dX0_odds_96 (by decide) ?_
          refine z_lv [0, 1, 2, 4] rfl ?_
          exact j100_1 i_7 (1 : Int32) i_6 σ hf
    · refine z_iconst (q := 61) C (0 : Int32) dX0_odds_60 ki_0 rfl ?_
      exact z_zreturn C rfl z_nb0 dX0_odds_61 (Option.some.inj hf)
  have j30_0 : ∀ (a0_30 : Nat) (i1_30 : Int32) (i2_30 : Int32) (w0_30 : Nat) (σ : ZT), f_X0_odds_J30 a0_30 i1_30 i2_30 w0_30 σ = some out → ZW l G 5 X (ZQ G X (.returned (some (.int out.1))) out.2) σ 30 [(0, .ref a0_30), (1, .int i1_30), (2, .int i2_30)] [.ref w0_30] := by
    intro a0_30 i1_30 i2_30 w0_30 σ hf
    unfold f_X0_odds_J30 at hf
    refine z_iconst (q := 31) C (1 : Int32) dX0_odds_30 ki_1 rfl ?_
    refine z_goto (q := 50) C dX0_odds_31 (by decide) ?_
    exact j50_0 a0_30 i1_30 i2_30 (1 : Int32) w0_30 σ hf
  refine z_aload_n (q := 1) (i := 0) C 0 dX0_odds_0 rfl rfl rfl ?_
  refine z_iload_n (q := 2) (i := 2) C 2 dX0_odds_1 rfl rfl rfl ?_
  refine z_i2l (q := 3) C dX0_odds_2 rfl ?_
  refine z_lconst (q := 4) C (1 : Int64) dX0_odds_3 rfl rfl ?_
  refine z_ldc2 (q := 7) C q1471 dX0_odds_4 rfl ?_
  refine z_callSi (q := 10) (As := [.long (i2.toInt64), .long (1 : Int64), .long (30 : Int64)]) C (fun o ho => m_X0_isIn _ _ _ _ ho) vsX0_196 cdX0_isIn pnX0 dX0_odds_7 rfl (by decide) (Nat.le_of_ble_eq_true rfl) hf rfl fun v1 σ hf => ?_
  refine z_ifeq (q := 13) (tgt := 30) C dX0_odds_10 (by decide) rfl hf (fun c10 hf => ?_) (fun c10 hf => ?_)
  · exact j30_0 a0 i1 i2 a0 σ hf
  · refine z_iload_n (q := 14) (i := 1) C 1 dX0_odds_13 rfl rfl rfl ?_
    refine z_i2l (q := 15) C dX0_odds_14 rfl ?_
    refine z_lconst (q := 16) C (0 : Int64) dX0_odds_15 rfl rfl ?_
    refine z_sipush (q := 19) C (9999 : Int32) dX0_odds_16 ks_9999 rfl ?_
    refine z_iload_n (q := 20) (i := 2) C 2 dX0_odds_19 rfl rfl rfl ?_
    refine z_isub (q := 21) C dX0_odds_20 rfl ?_
    refine z_iconst (q := 22) C (1 : Int32) dX0_odds_21 ki_1 rfl ?_
    refine z_iadd (q := 23) C dX0_odds_22 rfl ?_
    refine z_i2l (q := 24) C dX0_odds_23 rfl ?_
    refine z_callSi (q := 27) (As := [.long (i1.toInt64), .long (0 : Int64), .long ((((9999 : Int32) - i2) + (1 : Int32)).toInt64)]) C (fun o ho => m_X0_isIn _ _ _ _ ho) vsX0_196 cdX0_isIn pnX0 dX0_odds_24 rfl (by decide) (Nat.le_of_ble_eq_true rfl) hf rfl fun v2 σ hf => ?_
    refine z_ifne (q := 30) (tgt := 34) C dX0_odds_27 (by decide) rfl hf (fun c27 hf => ?_) (fun c27 hf => ?_)
    · refine z_aload_n (q := 35) (i := 0) C 0 dX0_odds_34 rfl rfl rfl ?_
      refine z_getR (q := 38) C flX0_55 dX0_odds_35 hf rfl fun v3 hf => ?_
      refine z_getQ (q := 41) C flX0_238 dX0_odds_38 hf rfl fun v4 hf => ?_
      refine z_ifnonnull (q := 44) (tgt := 49) C dX0_odds_41 (by decide) rfl hf (fun y41 c41 hf => ?_) (fun c41 hf => ?_)
      · refine z_iconst (q := 50) C (0 : Int32) dX0_odds_49 ki_0 rfl ?_
        exact j50_0 a0 i1 i2 (0 : Int32) a0 σ hf
      · refine z_bipush (q := 46) C (6 : Int32) dX0_odds_44 kb_6 rfl ?_
        refine z_goto (q := 50) C dX0_odds_46 (by decide) ?_
        exact j50_0 a0 i1 i2 (6 : Int32) a0 σ hf
    · exact j30_0 a0 i1 i2 a0 σ hf

noncomputable def f_X0_mark_J54 (a0_54 : Nat) (σ : ZT) : Option (Int32 × ZT) :=
  (gR 0 11 a0_54 σ).bind fun v10 =>
  (gI 0 12 a0_54 σ).bind fun v11 =>
  (ldR 9 v10 v11 σ).bind fun v12 =>
  (gR 0 10 a0_54 σ).bind fun v13 =>
  (vc 4 v12 σ (f_X4_be v12 v13 σ)).bind fun σ =>
  (gI 0 12 a0_54 σ).bind fun v15 =>
  (pI 0 12 a0_54 (v15 + (1 : Int32)) σ).bind fun σ =>
  (gI 0 12 a0_54 σ).bind fun v16 =>
  some (v16, σ)
noncomputable def f_X0_mark_J14 (a0_14 : Nat) (w0_14 : Int32) (w1_14 : Nat) (σ : ZT) : Option (Int32 × ZT) :=
  (pI 0 7 w1_14 w0_14 σ).bind fun σ =>
  (gI 0 7 a0_14 σ).bind fun v2 =>
  if 0 < v2 then
  (some ((-1 : Int32), σ))
  else
  ((gR 0 11 a0_14 σ).bind fun v3 =>
  (gI 0 12 a0_14 σ).bind fun v4 =>
  (ldQ 9 v3 v4 σ).bind fun v5 =>
  znl v5
  ((gR 0 11 a0_14 σ).bind fun v6 =>
  (gI 0 12 a0_14 σ).bind fun v7 =>
  bnd2 (nwO 4 2 σ) fun v8 σ =>
  (f_X4_init v8 σ).bind fun σ =>
  (stR 9 v6 v7 v8 σ).bind fun σ =>
  f_X0_mark_J54 a0_14 σ)
  (f_X0_mark_J54 a0_14 σ))
noncomputable def f_X0_mark (a0 : Nat) (σ : ZT) : Option (Int32 × ZT) :=
  (gI 0 12 a0 σ).bind fun v1 =>
  if v1 = (3 : Int32) then
  (f_X0_mark_J14 a0 (4 : Int32) a0 σ)
  else
  (f_X0_mark_J14 a0 (0 : Int32) a0 σ)
set_option maxHeartbeats 4000000 in
theorem m_X0_mark {l : Launch} {G : ZG} (a0 : Nat) (σ : ZT) {out : (Int32 × ZT)} (hf : f_X0_mark a0 σ = some out) : ZM l G yX0_mark cX0_mark 1 (some .int) [] 8 [.ref a0] σ (.returned (some (.int out.1))) out.2 := by
  refine ZM.of [(0, .ref a0)] rfl (Nat.le_of_ble_eq_true rfl) fun X (C : ZC G RX0 "mark" cX0_mark 1 (some .int) [] X 8) => ?_
  unfold f_X0_mark at hf
  have j54_0 : ∀ (a0_54 : Nat) (σ : ZT), f_X0_mark_J54 a0_54 σ = some out → ZW l G 1 X (ZQ G X (.returned (some (.int out.1))) out.2) σ 54 [(0, .ref a0_54)] [] := by
    intro a0_54 σ hf
    unfold f_X0_mark_J54 at hf
    refine z_aload_n (q := 55) (i := 0) C 0 dX0_mark_54 rfl rfl rfl ?_
    refine z_getR (q := 58) C flX0_59 dX0_mark_55 hf rfl fun v10 hf => ?_
    refine z_aload_n (q := 59) (i := 0) C 0 dX0_mark_58 rfl rfl rfl ?_
    refine z_getI (q := 62) C flX0_516 dX0_mark_59 hf rfl fun v11 hf => ?_
    refine z_aaldR (q := 63) C 9 (by decide) (by decide) dX0_mark_62 hf rfl fun v12 hf => ?_
    refine z_aload_n (q := 64) (i := 0) C 0 dX0_mark_63 rfl rfl rfl ?_
    refine z_getR (q := 67) C flX0_55 dX0_mark_64 hf rfl fun v13 hf => ?_
    refine z_callVv (q := 70) (As := [.ref v13]) C (fun o ho => m_X4_be _ _ _ ho) zk4 vvX0_519 cdX4_be pnX4 dX0_mark_67 rfl (by decide) (Nat.le_of_ble_eq_true rfl) hf rfl fun σ hf => ?_
    refine z_aload_n (q := 71) (i := 0) C 0 dX0_mark_70 rfl rfl rfl ?_
    refine z_dup (q := 72) C dX0_mark_71 rfl rfl ?_
    refine z_getI (q := 75) C flX0_516 dX0_mark_72 hf rfl fun v15 hf => ?_
    refine z_iconst (q := 76) C (1 : Int32) dX0_mark_75 ki_1 rfl ?_
    refine z_iadd (q := 77) C dX0_mark_76 rfl ?_
    refine z_putI (q := 80) C puX0_516 dX0_mark_77 hf rfl fun σ hf => ?_
    refine z_aload_n (q := 81) (i := 0) C 0 dX0_mark_80 rfl rfl rfl ?_
    refine z_getI (q := 84) C flX0_516 dX0_mark_81 hf rfl fun v16 hf => ?_
    exact z_ireturn C rfl dX0_mark_84 (Option.some.inj hf)
  have j14_0 : ∀ (a0_14 : Nat) (w0_14 : Int32) (w1_14 : Nat) (σ : ZT), f_X0_mark_J14 a0_14 w0_14 w1_14 σ = some out → ZW l G 1 X (ZQ G X (.returned (some (.int out.1))) out.2) σ 14 [(0, .ref a0_14)] [.int w0_14, .ref w1_14] := by
    intro a0_14 w0_14 w1_14 σ hf
    unfold f_X0_mark_J14 at hf
    refine z_putI (q := 17) C puX0_110 dX0_mark_14 hf rfl fun σ hf => ?_
    refine z_aload_n (q := 18) (i := 0) C 0 dX0_mark_17 rfl rfl rfl ?_
    refine z_getI (q := 21) C flX0_110 dX0_mark_18 hf rfl fun v2 hf => ?_
    refine z_ifle (q := 24) (tgt := 26) C dX0_mark_21 (by decide) rfl hf (fun c21 hf => ?_) (fun c21 hf => ?_)
    · refine z_aload_n (q := 27) (i := 0) C 0 dX0_mark_26 rfl rfl rfl ?_
      refine z_getR (q := 30) C flX0_59 dX0_mark_27 hf rfl fun v3 hf => ?_
      refine z_aload_n (q := 31) (i := 0) C 0 dX0_mark_30 rfl rfl rfl ?_
      refine z_getI (q := 34) C flX0_516 dX0_mark_31 hf rfl fun v4 hf => ?_
      refine z_aaldQ (q := 35) C 9 (by decide) (by decide) dX0_mark_34 hf rfl fun v5 hf => ?_
      refine z_ifnonnull (q := 38) (tgt := 54) C dX0_mark_35 (by decide) rfl hf (fun y35 c35 hf => ?_) (fun c35 hf => ?_)
      · exact j54_0 a0_14 σ hf
      · refine z_aload_n (q := 39) (i := 0) C 0 dX0_mark_38 rfl rfl rfl ?_
        refine z_getR (q := 42) C flX0_59 dX0_mark_39 hf rfl fun v6 hf => ?_
        refine z_aload_n (q := 43) (i := 0) C 0 dX0_mark_42 rfl rfl rfl ?_
        refine z_getI (q := 46) C flX0_516 dX0_mark_43 hf rfl fun v7 hf => ?_
        refine z_new (q := 49) C zk4 zty4 q286 q287 q150 dX0_mark_46 hf rfl fun v8 σ hf => ?_
        refine z_dup (q := 50) C dX0_mark_49 rfl rfl ?_
        refine z_callIv (q := 53) (As := []) C (fun o ho => m_X4_init _ _ ho) viX0_54 pnX4 dX0_mark_50 rfl (by decide) (Nat.le_of_ble_eq_true rfl) hf rfl fun σ hf => ?_
        refine z_aast (q := 54) C 9 (by decide) (by decide) dX0_mark_53 hf rfl fun σ hf => ?_
        exact j54_0 a0_14 σ hf
    · refine z_iconst (q := 25) C (-1 : Int32) dX0_mark_24 ki_m1 rfl ?_
      exact z_ireturn C rfl dX0_mark_25 (Option.some.inj hf)
  refine z_aload_n (q := 1) (i := 0) C 0 dX0_mark_0 rfl rfl rfl ?_
  refine z_aload_n (q := 2) (i := 0) C 0 dX0_mark_1 rfl rfl rfl ?_
  refine z_getI (q := 5) C flX0_516 dX0_mark_2 hf rfl fun v1 hf => ?_
  refine z_iconst (q := 6) C (3 : Int32) dX0_mark_5 ki_3 rfl ?_
  refine z_icmpne (q := 9) (tgt := 13) C dX0_mark_6 (by decide) rfl hf (fun c6 hf => ?_) (fun c6 hf => ?_)
  · refine z_iconst (q := 14) C (0 : Int32) dX0_mark_13 ki_0 rfl ?_
    exact j14_0 a0 (0 : Int32) a0 σ hf
  · refine z_iconst (q := 10) C (4 : Int32) dX0_mark_9 ki_4 rfl ?_
    refine z_goto (q := 14) C dX0_mark_10 (by decide) ?_
    exact j14_0 a0 (4 : Int32) a0 σ hf

noncomputable def f_X0_back_J14 (a0_14 : Nat) (w0_14 : Int32) (w1_14 : Nat) (σ : ZT) : Option (Int32 × ZT) :=
  (pI 0 7 w1_14 w0_14 σ).bind fun σ =>
  (gI 0 7 a0_14 σ).bind fun v2 =>
  if 0 < v2 then
  (some ((-1 : Int32), σ))
  else
  ((gI 0 12 a0_14 σ).bind fun v3 =>
  (pI 0 12 a0_14 (v3 - (1 : Int32)) σ).bind fun σ =>
  (gR 0 10 a0_14 σ).bind fun v4 =>
  (gR 0 11 a0_14 σ).bind fun v5 =>
  (gI 0 12 a0_14 σ).bind fun v6 =>
  (ldR 9 v5 v6 σ).bind fun v7 =>
  (vc 4 v4 σ (f_X4_be v4 v7 σ)).bind fun σ =>
  (gI 0 12 a0_14 σ).bind fun v9 =>
  some (v9, σ))
noncomputable def f_X0_back (a0 : Nat) (σ : ZT) : Option (Int32 × ZT) :=
  (gI 0 12 a0 σ).bind fun v1 =>
  if v1 = 0 then
  (f_X0_back_J14 a0 (6 : Int32) a0 σ)
  else
  (f_X0_back_J14 a0 (0 : Int32) a0 σ)
set_option maxHeartbeats 4000000 in
theorem m_X0_back {l : Launch} {G : ZG} (a0 : Nat) (σ : ZT) {out : (Int32 × ZT)} (hf : f_X0_back a0 σ = some out) : ZM l G yX0_back cX0_back 1 (some .int) [] 8 [.ref a0] σ (.returned (some (.int out.1))) out.2 := by
  refine ZM.of [(0, .ref a0)] rfl (Nat.le_of_ble_eq_true rfl) fun X (C : ZC G RX0 "back" cX0_back 1 (some .int) [] X 8) => ?_
  unfold f_X0_back at hf
  have j14_0 : ∀ (a0_14 : Nat) (w0_14 : Int32) (w1_14 : Nat) (σ : ZT), f_X0_back_J14 a0_14 w0_14 w1_14 σ = some out → ZW l G 1 X (ZQ G X (.returned (some (.int out.1))) out.2) σ 14 [(0, .ref a0_14)] [.int w0_14, .ref w1_14] := by
    intro a0_14 w0_14 w1_14 σ hf
    unfold f_X0_back_J14 at hf
    refine z_putI (q := 17) C puX0_110 dX0_back_14 hf rfl fun σ hf => ?_
    refine z_aload_n (q := 18) (i := 0) C 0 dX0_back_17 rfl rfl rfl ?_
    refine z_getI (q := 21) C flX0_110 dX0_back_18 hf rfl fun v2 hf => ?_
    refine z_ifle (q := 24) (tgt := 26) C dX0_back_21 (by decide) rfl hf (fun c21 hf => ?_) (fun c21 hf => ?_)
    · refine z_aload_n (q := 27) (i := 0) C 0 dX0_back_26 rfl rfl rfl ?_
      refine z_dup (q := 28) C dX0_back_27 rfl rfl ?_
      refine z_getI (q := 31) C flX0_516 dX0_back_28 hf rfl fun v3 hf => ?_
      refine z_iconst (q := 32) C (1 : Int32) dX0_back_31 ki_1 rfl ?_
      refine z_isub (q := 33) C dX0_back_32 rfl ?_
      refine z_putI (q := 36) C puX0_516 dX0_back_33 hf rfl fun σ hf => ?_
      refine z_aload_n (q := 37) (i := 0) C 0 dX0_back_36 rfl rfl rfl ?_
      refine z_getR (q := 40) C flX0_55 dX0_back_37 hf rfl fun v4 hf => ?_
      refine z_aload_n (q := 41) (i := 0) C 0 dX0_back_40 rfl rfl rfl ?_
      refine z_getR (q := 44) C flX0_59 dX0_back_41 hf rfl fun v5 hf => ?_
      refine z_aload_n (q := 45) (i := 0) C 0 dX0_back_44 rfl rfl rfl ?_
      refine z_getI (q := 48) C flX0_516 dX0_back_45 hf rfl fun v6 hf => ?_
      refine z_aaldR (q := 49) C 9 (by decide) (by decide) dX0_back_48 hf rfl fun v7 hf => ?_
      refine z_callVv (q := 52) (As := [.ref v7]) C (fun o ho => m_X4_be _ _ _ ho) zk4 vvX0_519 cdX4_be pnX4 dX0_back_49 rfl (by decide) (Nat.le_of_ble_eq_true rfl) hf rfl fun σ hf => ?_
      refine z_aload_n (q := 53) (i := 0) C 0 dX0_back_52 rfl rfl rfl ?_
      refine z_getI (q := 56) C flX0_516 dX0_back_53 hf rfl fun v9 hf => ?_
      exact z_ireturn C rfl dX0_back_56 (Option.some.inj hf)
    · refine z_iconst (q := 25) C (-1 : Int32) dX0_back_24 ki_m1 rfl ?_
      exact z_ireturn C rfl dX0_back_25 (Option.some.inj hf)
  refine z_aload_n (q := 1) (i := 0) C 0 dX0_back_0 rfl rfl rfl ?_
  refine z_aload_n (q := 2) (i := 0) C 0 dX0_back_1 rfl rfl rfl ?_
  refine z_getI (q := 5) C flX0_516 dX0_back_2 hf rfl fun v1 hf => ?_
  refine z_ifne (q := 8) (tgt := 13) C dX0_back_5 (by decide) rfl hf (fun c5 hf => ?_) (fun c5 hf => ?_)
  · refine z_iconst (q := 14) C (0 : Int32) dX0_back_13 ki_0 rfl ?_
    exact j14_0 a0 (0 : Int32) a0 σ hf
  · refine z_bipush (q := 10) C (6 : Int32) dX0_back_8 kb_6 rfl ?_
    refine z_goto (q := 14) C dX0_back_10 (by decide) ?_
    exact j14_0 a0 (6 : Int32) a0 σ hf

