set_option maxRecDepth 100000
noncomputable def f_X3_by (a0 : Nat) (i1 : Int32) (σ : ZT) : Option (Nat × ZT) :=
  (pI 3 306 a0 i1 σ).bind fun σ =>
  some (a0, σ)
set_option maxHeartbeats 4000000 in
theorem m_X3_by {l : Launch} {G : ZG} (a0 : Nat) (i1 : Int32) (σ : ZT) {out : (Nat × ZT)} (hf : f_X3_by a0 i1 σ = some out) : ZM l G yX3_by cX3_by 2 (some (.object "SillBridges$Refused")) [] 1 [.ref a0, .int i1] σ (.returned (some (.ref out.1))) out.2 := by
  refine ZM.of [(0, .ref a0), (1, .int i1)] rfl (Nat.le_of_ble_eq_true rfl) fun X (C : ZC G RX3 "by" cX3_by 2 (some (.object "SillBridges$Refused")) [] X 1) => ?_
  unfold f_X3_by at hf
  refine z_aload_n (q := 1) (i := 0) C 0 dX3_by_0 rfl rfl rfl ?_
  refine z_iload_n (q := 2) (i := 1) C 1 dX3_by_1 rfl rfl rfl ?_
  refine z_putI (q := 5) C puX3_7 dX3_by_2 hf rfl fun σ hf => ?_
  refine z_aload_n (q := 6) (i := 0) C 0 dX3_by_5 rfl rfl rfl ?_
  exact z_areturn C rfl dX3_by_6 (Option.some.inj hf)

noncomputable def f_X5_isDone_J51_2 (a0_51 : Nat) (i1_51 : Int32) (σ : ZT) : Option ((Int32 × ZT) ⊕ ((Int32 × ZT) ⊕ ZT)) :=
  some (.inl ((i1_51 + (1 : Int32)), σ))
noncomputable def f_X5_isDone_L2 (c0_2 : Nat) (i_1 : Int32) (σ : ZT) : Option ((Int32 × ZT) ⊕ ((Int32 × ZT) ⊕ ZT)) :=
  (gR 5 500 c0_2 σ).bind fun v2 =>
  (gI 6 602 v2 σ).bind fun v3 =>
  if i_1 < v3 then
  ((gR 5 500 c0_2 σ).bind fun v4 =>
  (gR 6 607 v4 σ).bind fun v5 =>
  (ldR 7 v5 i_1 σ).bind fun v6 =>
  (gI 12 1203 v6 σ).bind fun v7 =>
  if v7 < 0 then
  (f_X5_isDone_J51_2 c0_2 i_1 σ)
  else
  ((gR 5 500 c0_2 σ).bind fun v8 =>
  (gR 6 607 v8 σ).bind fun v9 =>
  (ldR 7 v9 i_1 σ).bind fun v10 =>
  (gI 12 1203 v10 σ).bind fun v11 =>
  (gR 5 501 c0_2 σ).bind fun v12 =>
  (ldI 0 v12 i_1 σ).bind fun v13 =>
  if v11 = v13 then
  (f_X5_isDone_J51_2 c0_2 i_1 σ)
  else
  (some (.inr (.inl ((0 : Int32), σ))))))
  else
  (some (.inr (.inr σ)))
noncomputable def f_X5_isDone (a0 : Nat) (σ : ZT) : Option (Int32 × ZT) :=
  (loopC (fun s : (Int32 × ZT) => f_X5_isDone_L2 a0 s.1 s.2) ((0 : Int32), σ)).bind fun x => (match x with
  | .inl o => some o
  | .inr σ => some ((1 : Int32), σ))
set_option maxHeartbeats 4000000 in
theorem m_X5_isDone {l : Launch} {G : ZG} (a0 : Nat) (σ : ZT) {out : (Int32 × ZT)} (hf : f_X5_isDone a0 σ = some out) : ZM l G yX5_isDone cX5_isDone 2 (some .boolean) [] 1 [.ref a0] σ (.returned (some (.int out.1))) out.2 := by
  refine ZM.of [(0, .ref a0)] rfl (Nat.le_of_ble_eq_true rfl) fun X (C : ZC G RX5 "isDone" cX5_isDone 2 (some .boolean) [] X 1) => ?_
  unfold f_X5_isDone at hf
  refine z_iconst (q := 1) C (0 : Int32) dX5_isDone_0 ki_0 rfl ?_
  refine z_istore_n (q := 2) (i := 1) (lv' := [(1, .int (0 : Int32)), (0, .ref a0)]) C dX5_isDone_1 rfl (by decide) rfl rfl ?_
  refine z_lv [1, 0] rfl ?_
  obtain ⟨r1, hr1, hk1⟩ := Option.bind_eq_some_iff.mp hf
  refine loopC_ind (P := fun s => ZW l G 2 X (ZQ G X (.returned (some (.int out.1))) out.2) s.2 2 [(0, .ref a0), (1, .int s.1)] []) (fun s x1 hf hx1 => ?_) hr1
  obtain ⟨i_1, σ⟩ := s
  unfold f_X5_isDone_L2 at hf
  try dsimp only at hf
  try dsimp only
  have j51_1 : ∀ (i1_51 : Int32) (σ : ZT), f_X5_isDone_J51_2 a0 i1_51 σ = some x1 → ZW l G 2 X (ZQ G X (.returned (some (.int out.1))) out.2) σ 51 [(0, .ref a0), (1, .int i1_51)] [] := by
    intro i1_51 σ hf
    unfold f_X5_isDone_J51_2 at hf
    refine z_iinc (q := 54) (i := 1) (lv' := [(1, .int (i1_51 + (1 : Int32))), (0, .ref a0)]) C 1 (i1_51 + (1 : Int32)) dX5_isDone_51 rfl (kn_1 _) (by decide) rfl rfl ?_
    refine z_goto (q := 2) C dX5_isDone_54 (by decide) ?_
    refine z_lv [1, 0] rfl ?_
    have hc1 := zl_c hf hx1
    exact hc1
  refine z_iload_n (q := 3) (i := 1) C 1 dX5_isDone_2 rfl rfl rfl ?_
  refine z_aload_n (q := 4) (i := 0) C 0 dX5_isDone_3 rfl rfl rfl ?_
  refine z_getR (q := 7) C flX5_12 dX5_isDone_4 hf rfl fun v2 hf => ?_
  refine z_getI (q := 10) C flX5_32 dX5_isDone_7 hf rfl fun v3 hf => ?_
  refine z_icmpge (q := 13) (tgt := 57) C dX5_isDone_10 (by decide) rfl hf (fun c10 hf => ?_) (fun c10 hf => ?_)
  · have e1 := zl_x hf hx1
    have hf := hk1
    rw [← e1] at hf
    try dsimp only at hf
    refine z_iconst (q := 58) C (1 : Int32) dX5_isDone_57 ki_1 rfl ?_
    exact z_zreturn C rfl z_nb1 dX5_isDone_58 (Option.some.inj hf)
  · refine z_aload_n (q := 14) (i := 0) C 0 dX5_isDone_13 rfl rfl rfl ?_
    refine z_getR (q := 17) C flX5_12 dX5_isDone_14 hf rfl fun v4 hf => ?_
    refine z_getR (q := 20) C flX5_35 dX5_isDone_17 hf rfl fun v5 hf => ?_
    refine z_iload_n (q := 21) (i := 1) C 1 dX5_isDone_20 rfl rfl rfl ?_
    refine z_aaldR (q := 22) C 7 (by decide) (by decide) dX5_isDone_21 hf rfl fun v6 hf => ?_
    refine z_getI (q := 25) C flX5_117 dX5_isDone_22 hf rfl fun v7 hf => ?_
    refine z_iflt (q := 28) (tgt := 51) C dX5_isDone_25 (by decide) rfl hf (fun c25 hf => ?_) (fun c25 hf => ?_)
    · exact j51_1 i_1 σ hf
    · refine z_aload_n (q := 29) (i := 0) C 0 dX5_isDone_28 rfl rfl rfl ?_
      refine z_getR (q := 32) C flX5_12 dX5_isDone_29 hf rfl fun v8 hf => ?_
      refine z_getR (q := 35) C flX5_35 dX5_isDone_32 hf rfl fun v9 hf => ?_
      refine z_iload_n (q := 36) (i := 1) C 1 dX5_isDone_35 rfl rfl rfl ?_
      refine z_aaldR (q := 37) C 7 (by decide) (by decide) dX5_isDone_36 hf rfl fun v10 hf => ?_
      refine z_getI (q := 40) C flX5_117 dX5_isDone_37 hf rfl fun v11 hf => ?_
      refine z_aload_n (q := 41) (i := 0) C 0 dX5_isDone_40 rfl rfl rfl ?_
      refine z_getR (q := 44) C flX5_18 dX5_isDone_41 hf rfl fun v12 hf => ?_
      refine z_iload_n (q := 45) (i := 1) C 1 dX5_isDone_44 rfl rfl rfl ?_
      refine z_iald (q := 46) C dX5_isDone_45 hf rfl fun v13 hf => ?_
      refine z_icmpeq (q := 49) (tgt := 51) C dX5_isDone_46 (by decide) rfl hf (fun c46 hf => ?_) (fun c46 hf => ?_)
      · exact j51_1 i_1 σ hf
      · refine z_iconst (q := 50) C (0 : Int32) dX5_isDone_49 ki_0 rfl ?_
        have e1 := zl_x hf hx1
        have hf := hk1
        rw [← e1] at hf
        try dsimp only at hf
        exact z_zreturn C rfl z_nb0 dX5_isDone_50 (Option.some.inj hf)

noncomputable def f_X11_pull (a0 : Nat) (σ : ZT) : Option (Int32 × ZT) :=
  (gI 11 1104 a0 σ).bind fun v1 =>
  (gI 11 1105 a0 σ).bind fun v2 =>
  (gI 11 1105 a0 σ).bind fun v3 =>
  (zidiv ((v1 + v2) - (1 : Int32)) v3).bind fun v4 =>
  some (v4, σ)
set_option maxHeartbeats 4000000 in
theorem m_X11_pull {l : Launch} {G : ZG} (a0 : Nat) (σ : ZT) {out : (Int32 × ZT)} (hf : f_X11_pull a0 σ = some out) : ZM l G yX11_pull cX11_pull 1 (some .int) [] 1 [.ref a0] σ (.returned (some (.int out.1))) out.2 := by
  refine ZM.of [(0, .ref a0)] rfl (Nat.le_of_ble_eq_true rfl) fun X (C : ZC G RX11 "pull" cX11_pull 1 (some .int) [] X 1) => ?_
  unfold f_X11_pull at hf
  refine z_aload_n (q := 1) (i := 0) C 0 dX11_pull_0 rfl rfl rfl ?_
  refine z_getI (q := 4) C flX11_34 dX11_pull_1 hf rfl fun v1 hf => ?_
  refine z_aload_n (q := 5) (i := 0) C 0 dX11_pull_4 rfl rfl rfl ?_
  refine z_getI (q := 8) C flX11_9 dX11_pull_5 hf rfl fun v2 hf => ?_
  refine z_iadd (q := 9) C dX11_pull_8 rfl ?_
  refine z_iconst (q := 10) C (1 : Int32) dX11_pull_9 ki_1 rfl ?_
  refine z_isub (q := 11) C dX11_pull_10 rfl ?_
  refine z_aload_n (q := 12) (i := 0) C 0 dX11_pull_11 rfl rfl rfl ?_
  refine z_getI (q := 15) C flX11_9 dX11_pull_12 hf rfl fun v3 hf => ?_
  refine z_idiv (q := 16) C dX11_pull_15 hf rfl fun v4 hf => ?_
  exact z_ireturn C rfl dX11_pull_16 (Option.some.inj hf)

noncomputable def f_X5_carried_L2 (c0_2 : Nat) (c1_2 : Int32) (i_1 : Int32) (σ : ZT) : Option ((Int32 × ZT) ⊕ ((Int32 × ZT) ⊕ ZT)) :=
  (gR 5 500 c0_2 σ).bind fun v2 =>
  (gI 6 603 v2 σ).bind fun v3 =>
  if i_1 < v3 then
  ((gR 5 502 c0_2 σ).bind fun v4 =>
  (ldI 0 v4 i_1 σ).bind fun v5 =>
  if v5 = ((6 : Int32) + c1_2) then
  (some (.inr (.inl (i_1, σ))))
  else
  (some (.inl ((i_1 + (1 : Int32)), σ))))
  else
  (some (.inr (.inr σ)))
noncomputable def f_X5_carried (a0 : Nat) (i1 : Int32) (σ : ZT) : Option (Int32 × ZT) :=
  (loopC (fun s : (Int32 × ZT) => f_X5_carried_L2 a0 i1 s.1 s.2) ((0 : Int32), σ)).bind fun x => (match x with
  | .inl o => some o
  | .inr σ => some ((-1 : Int32), σ))
set_option maxHeartbeats 4000000 in
theorem m_X5_carried {l : Launch} {G : ZG} (a0 : Nat) (i1 : Int32) (σ : ZT) {out : (Int32 × ZT)} (hf : f_X5_carried a0 i1 σ = some out) : ZM l G yX5_carried cX5_carried 3 (some .int) [] 1 [.ref a0, .int i1] σ (.returned (some (.int out.1))) out.2 := by
  refine ZM.of [(0, .ref a0), (1, .int i1)] rfl (Nat.le_of_ble_eq_true rfl) fun X (C : ZC G RX5 "carried" cX5_carried 3 (some .int) [] X 1) => ?_
  unfold f_X5_carried at hf
  refine z_iconst (q := 1) C (0 : Int32) dX5_carried_0 ki_0 rfl ?_
  refine z_istore_n (q := 2) (i := 2) (lv' := [(2, .int (0 : Int32)), (0, .ref a0), (1, .int i1)]) C dX5_carried_1 rfl (by decide) rfl rfl ?_
  refine z_lv [1, 2, 0] rfl ?_
  obtain ⟨r1, hr1, hk1⟩ := Option.bind_eq_some_iff.mp hf
  refine loopC_ind (P := fun s => ZW l G 3 X (ZQ G X (.returned (some (.int out.1))) out.2) s.2 2 [(0, .ref a0), (1, .int i1), (2, .int s.1)] []) (fun s x1 hf hx1 => ?_) hr1
  obtain ⟨i_1, σ⟩ := s
  unfold f_X5_carried_L2 at hf
  try dsimp only at hf
  try dsimp only
  refine z_iload_n (q := 3) (i := 2) C 2 dX5_carried_2 rfl rfl rfl ?_
  refine z_aload_n (q := 4) (i := 0) C 0 dX5_carried_3 rfl rfl rfl ?_
  refine z_getR (q := 7) C flX5_12 dX5_carried_4 hf rfl fun v2 hf => ?_
  refine z_getI (q := 10) C flX5_43 dX5_carried_7 hf rfl fun v3 hf => ?_
  refine z_icmpge (q := 13) (tgt := 34) C dX5_carried_10 (by decide) rfl hf (fun c10 hf => ?_) (fun c10 hf => ?_)
  · have e1 := zl_x hf hx1
    have hf := hk1
    rw [← e1] at hf
    try dsimp only at hf
    refine z_iconst (q := 35) C (-1 : Int32) dX5_carried_34 ki_m1 rfl ?_
    exact z_ireturn C rfl dX5_carried_35 (Option.some.inj hf)
  · refine z_aload_n (q := 14) (i := 0) C 0 dX5_carried_13 rfl rfl rfl ?_
    refine z_getR (q := 17) C flX5_22 dX5_carried_14 hf rfl fun v4 hf => ?_
    refine z_iload_n (q := 18) (i := 2) C 2 dX5_carried_17 rfl rfl rfl ?_
    refine z_iald (q := 19) C dX5_carried_18 hf rfl fun v5 hf => ?_
    refine z_bipush (q := 21) C (6 : Int32) dX5_carried_19 kb_6 rfl ?_
    refine z_iload_n (q := 22) (i := 1) C 1 dX5_carried_21 rfl rfl rfl ?_
    refine z_iadd (q := 23) C dX5_carried_22 rfl ?_
    refine z_icmpne (q := 26) (tgt := 28) C dX5_carried_23 (by decide) rfl hf (fun c23 hf => ?_) (fun c23 hf => ?_)
    · refine z_iinc (q := 31) (i := 2) (lv' := [(2, .int (i_1 + (1 : Int32))), (0, .ref a0), (1, .int i1)]) C 2 (i_1 + (1 : Int32)) dX5_carried_28 rfl (kn_1 _) (by decide) rfl rfl ?_
      refine z_goto (q := 2) C dX5_carried_31 (by decide) ?_
      refine z_lv [1, 2, 0] rfl ?_
      have hc1 := zl_c hf hx1
      exact hc1
    · refine z_iload_n (q := 27) (i := 2) C 2 dX5_carried_26 rfl rfl rfl ?_
      have e1 := zl_x hf hx1
      have hf := hk1
      rw [← e1] at hf
      try dsimp only at hf
      exact z_ireturn C rfl dX5_carried_27 (Option.some.inj hf)

noncomputable def f_X5_placeOf_J34 (w0_34 : Int32) (σ : ZT) : Option (Int32 × ZT) :=
  some (w0_34, σ)
noncomputable def f_X5_placeOf (a0 : Nat) (i1 : Int32) (σ : ZT) : Option (Int32 × ZT) :=
  (gR 5 502 a0 σ).bind fun v1 =>
  (ldI 0 v1 i1 σ).bind fun v2 =>
  if v2 < (6 : Int32) then
  ((gR 5 502 a0 σ).bind fun v7 =>
  (ldI 0 v7 i1 σ).bind fun v8 =>
  f_X5_placeOf_J34 v8 σ)
  else
  ((gR 5 501 a0 σ).bind fun v3 =>
  (gR 5 502 a0 σ).bind fun v4 =>
  (ldI 0 v4 i1 σ).bind fun v5 =>
  (ldI 0 v3 (v5 - (6 : Int32)) σ).bind fun v6 =>
  f_X5_placeOf_J34 v6 σ)
set_option maxHeartbeats 4000000 in
theorem m_X5_placeOf {l : Launch} {G : ZG} (a0 : Nat) (i1 : Int32) (σ : ZT) {out : (Int32 × ZT)} (hf : f_X5_placeOf a0 i1 σ = some out) : ZM l G yX5_placeOf cX5_placeOf 2 (some .int) [] 1 [.ref a0, .int i1] σ (.returned (some (.int out.1))) out.2 := by
  refine ZM.of [(0, .ref a0), (1, .int i1)] rfl (Nat.le_of_ble_eq_true rfl) fun X (C : ZC G RX5 "placeOf" cX5_placeOf 2 (some .int) [] X 1) => ?_
  unfold f_X5_placeOf at hf
  have j34_0 : ∀ (w0_34 : Int32) (σ : ZT), f_X5_placeOf_J34 w0_34 σ = some out → ZW l G 2 X (ZQ G X (.returned (some (.int out.1))) out.2) σ 34 [] [.int w0_34] := by
    intro w0_34 σ hf
    unfold f_X5_placeOf_J34 at hf
    exact z_ireturn C rfl dX5_placeOf_34 (Option.some.inj hf)
  refine z_aload_n (q := 1) (i := 0) C 0 dX5_placeOf_0 rfl rfl rfl ?_
  refine z_getR (q := 4) C flX5_22 dX5_placeOf_1 hf rfl fun v1 hf => ?_
  refine z_iload_n (q := 5) (i := 1) C 1 dX5_placeOf_4 rfl rfl rfl ?_
  refine z_iald (q := 6) C dX5_placeOf_5 hf rfl fun v2 hf => ?_
  refine z_bipush (q := 8) C (6 : Int32) dX5_placeOf_6 kb_6 rfl ?_
  refine z_icmpge (q := 11) (tgt := 20) C dX5_placeOf_8 (by decide) rfl hf (fun c8 hf => ?_) (fun c8 hf => ?_)
  · refine z_aload_n (q := 21) (i := 0) C 0 dX5_placeOf_20 rfl rfl rfl ?_
    refine z_getR (q := 24) C flX5_18 dX5_placeOf_21 hf rfl fun v3 hf => ?_
    refine z_aload_n (q := 25) (i := 0) C 0 dX5_placeOf_24 rfl rfl rfl ?_
    refine z_getR (q := 28) C flX5_22 dX5_placeOf_25 hf rfl fun v4 hf => ?_
    refine z_iload_n (q := 29) (i := 1) C 1 dX5_placeOf_28 rfl rfl rfl ?_
    refine z_iald (q := 30) C dX5_placeOf_29 hf rfl fun v5 hf => ?_
    refine z_bipush (q := 32) C (6 : Int32) dX5_placeOf_30 kb_6 rfl ?_
    refine z_isub (q := 33) C dX5_placeOf_32 rfl ?_
    refine z_iald (q := 34) C dX5_placeOf_33 hf rfl fun v6 hf => ?_
    refine z_lv [] rfl ?_
    exact j34_0 v6 σ hf
  · refine z_aload_n (q := 12) (i := 0) C 0 dX5_placeOf_11 rfl rfl rfl ?_
    refine z_getR (q := 15) C flX5_22 dX5_placeOf_12 hf rfl fun v7 hf => ?_
    refine z_iload_n (q := 16) (i := 1) C 1 dX5_placeOf_15 rfl rfl rfl ?_
    refine z_iald (q := 17) C dX5_placeOf_16 hf rfl fun v8 hf => ?_
    refine z_goto (q := 34) C dX5_placeOf_17 (by decide) ?_
    refine z_lv [] rfl ?_
    exact j34_0 v8 σ hf

noncomputable def f_X5_weight_J114_77 (a0_114 : Nat) (i1_114 : Int32) (i3_114 : Int32) (w0_114 : Int32) (w1_114 : Int32) (σ : ZT) : Option ((Int32 × Int32 × ZT) ⊕ (Int32 × ZT)) :=
  some (.inl ((w1_114 + w0_114), (i3_114 + (1 : Int32)), σ))
noncomputable def f_X5_weight_L77 (c0_77 : Nat) (c1_77 : Int32) (i_10 : Int32) (i_11 : Int32) (σ : ZT) : Option ((Int32 × Int32 × ZT) ⊕ (Int32 × ZT)) :=
  (gR 5 500 c0_77 σ).bind fun v12 =>
  (gI 6 603 v12 σ).bind fun v13 =>
  if i_11 < v13 then
  (bnd2 (vc 5 c0_77 σ (f_X5_placeOf c0_77 i_11 σ)) fun v14 σ =>
  if v14 = c1_77 then
  ((gR 5 500 c0_77 σ).bind fun v15 =>
  (gR 6 608 v15 σ).bind fun v16 =>
  (ldR 8 v16 i_11 σ).bind fun v17 =>
  (gI 13 1301 v17 σ).bind fun v18 =>
  f_X5_weight_J114_77 c0_77 c1_77 i_11 v18 i_10 σ)
  else
  (f_X5_weight_J114_77 c0_77 c1_77 i_11 (0 : Int32) i_10 σ))
  else
  (some (.inr (i_10, σ)))
noncomputable def f_X5_weight_J67_29 (a0_67 : Nat) (i1_67 : Int32) (i3_67 : Int32) (w0_67 : Int32) (w1_67 : Int32) (σ : ZT) : Option ((Int32 × Int32 × ZT) ⊕ (Int32 × ZT)) :=
  some (.inl ((w1_67 + w0_67), (i3_67 + (1 : Int32)), σ))
noncomputable def f_X5_weight_L29 (c0_29 : Nat) (c1_29 : Int32) (i_6 : Int32) (i_7 : Int32) (σ : ZT) : Option ((Int32 × Int32 × ZT) ⊕ (Int32 × ZT)) :=
  (gR 5 500 c0_29 σ).bind fun v8 =>
  (gI 6 602 v8 σ).bind fun v9 =>
  if i_7 < v9 then
  ((gR 5 501 c0_29 σ).bind fun v20 =>
  (ldI 0 v20 i_7 σ).bind fun v21 =>
  if v21 = c1_29 then
  ((gR 5 500 c0_29 σ).bind fun v22 =>
  (gR 6 607 v22 σ).bind fun v23 =>
  (ldR 7 v23 i_7 σ).bind fun v24 =>
  (gI 12 1201 v24 σ).bind fun v25 =>
  f_X5_weight_J67_29 c0_29 c1_29 i_7 v25 i_6 σ)
  else
  (f_X5_weight_J67_29 c0_29 c1_29 i_7 (0 : Int32) i_6 σ))
  else
  (some (.inr (i_6, σ)))
noncomputable def f_X5_weight_J25 (a0_25 : Nat) (i1_25 : Int32) (w0_25 : Int32) (w1_25 : Int32) (σ : ZT) : Option (Int32 × ZT) :=
  (loopC (fun s : (Int32 × Int32 × ZT) => f_X5_weight_L29 a0_25 i1_25 s.1 s.2.1 s.2.2) ((w1_25 + w0_25), (0 : Int32), σ)).bind fun x => (match x with
  | (x26, σ) => (loopC (fun s : (Int32 × Int32 × ZT) => f_X5_weight_L77 a0_25 i1_25 s.1 s.2.1 s.2.2) (x26, (0 : Int32), σ)).bind fun x => (match x with
  | (x36, σ) => some (x36, σ)))
noncomputable def f_X5_weight (a0 : Nat) (i1 : Int32) (σ : ZT) : Option (Int32 × ZT) :=
  (gR 5 500 a0 σ).bind fun v1 =>
  (gR 6 605 v1 σ).bind fun v2 =>
  (ldI 0 v2 i1 σ).bind fun v3 =>
  (gI 5 504 a0 σ).bind fun v4 =>
  if i1 = v4 then
  ((gI 5 505 a0 σ).bind fun v5 =>
  f_X5_weight_J25 a0 i1 v5 v3 σ)
  else
  (f_X5_weight_J25 a0 i1 (0 : Int32) v3 σ)
set_option maxHeartbeats 4000000 in
theorem m_X5_weight {l : Launch} {G : ZG} (a0 : Nat) (i1 : Int32) (σ : ZT) {out : (Int32 × ZT)} (hf : f_X5_weight a0 i1 σ = some out) : ZM l G yX5_weight cX5_weight 4 (some .int) [] 2 [.ref a0, .int i1] σ (.returned (some (.int out.1))) out.2 := by
  refine ZM.of [(0, .ref a0), (1, .int i1)] rfl (Nat.le_of_ble_eq_true rfl) fun X (C : ZC G RX5 "weight" cX5_weight 4 (some .int) [] X 2) => ?_
  unfold f_X5_weight at hf
  have j25_0 : ∀ (a0_25 : Nat) (i1_25 : Int32) (w0_25 : Int32) (w1_25 : Int32) (σ : ZT), f_X5_weight_J25 a0_25 i1_25 w0_25 w1_25 σ = some out → ZW l G 4 X (ZQ G X (.returned (some (.int out.1))) out.2) σ 25 [(0, .ref a0_25), (1, .int i1_25)] [.int w0_25, .int w1_25] := by
    intro a0_25 i1_25 w0_25 w1_25 σ hf
    unfold f_X5_weight_J25 at hf
    refine z_iadd (q := 26) C dX5_weight_25 rfl ?_
    refine z_istore_n (q := 27) (i := 2) (lv' := [(2, .int (w1_25 + w0_25)), (0, .ref a0_25), (1, .int i1_25)]) C dX5_weight_26 rfl (by decide) rfl rfl ?_
    refine z_iconst (q := 28) C (0 : Int32) dX5_weight_27 ki_0 rfl ?_
    refine z_istore_n (q := 29) (i := 3) (lv' := [(3, .int (0 : Int32)), (2, .int (w1_25 + w0_25)), (0, .ref a0_25), (1, .int i1_25)]) C dX5_weight_28 rfl (by decide) rfl rfl ?_
    refine z_lv [2, 3, 1, 0] rfl ?_
    obtain ⟨r1, hr1, hk1⟩ := Option.bind_eq_some_iff.mp hf
    refine loopC_ind (P := fun s => ZW l G 4 X (ZQ G X (.returned (some (.int out.1))) out.2) s.2.2 29 [(0, .ref a0_25), (1, .int i1_25), (2, .int s.1), (3, .int s.2.1)] []) (fun s x1 hf hx1 => ?_) hr1
    obtain ⟨i_6, i_7, σ⟩ := s
    unfold f_X5_weight_L29 at hf
    try dsimp only at hf
    try dsimp only
    have j67_1 : ∀ (i3_67 : Int32) (w0_67 : Int32) (w1_67 : Int32) (σ : ZT), f_X5_weight_J67_29 a0_25 i1_25 i3_67 w0_67 w1_67 σ = some x1 → ZW l G 4 X (ZQ G X (.returned (some (.int out.1))) out.2) σ 67 [(0, .ref a0_25), (1, .int i1_25), (3, .int i3_67)] [.int w0_67, .int w1_67] := by
      intro i3_67 w0_67 w1_67 σ hf
      unfold f_X5_weight_J67_29 at hf
      refine z_iadd (q := 68) C dX5_weight_67 rfl ?_
      refine z_istore_n (q := 69) (i := 2) (lv' := [(2, .int (w1_67 + w0_67)), (0, .ref a0_25), (1, .int i1_25), (3, .int i3_67)]) C dX5_weight_68 rfl (by decide) rfl rfl ?_
      refine z_iinc (q := 72) (i := 3) (lv' := [(3, .int (i3_67 + (1 : Int32))), (2, .int (w1_67 + w0_67)), (0, .ref a0_25), (1, .int i1_25)]) C 3 (i3_67 + (1 : Int32)) dX5_weight_69 rfl (kn_1 _) (by decide) rfl rfl ?_
      refine z_goto (q := 29) C dX5_weight_72 (by decide) ?_
      refine z_lv [2, 3, 1, 0] rfl ?_
      have hc1 := zl_c hf hx1
      exact hc1
    refine z_iload_n (q := 30) (i := 3) C 3 dX5_weight_29 rfl rfl rfl ?_
    refine z_aload_n (q := 31) (i := 0) C 0 dX5_weight_30 rfl rfl rfl ?_
    refine z_getR (q := 34) C flX5_12 dX5_weight_31 hf rfl fun v8 hf => ?_
    refine z_getI (q := 37) C flX5_32 dX5_weight_34 hf rfl fun v9 hf => ?_
    refine z_icmpge (q := 40) (tgt := 75) C dX5_weight_37 (by decide) rfl hf (fun c37 hf => ?_) (fun c37 hf => ?_)
    · have e1 := zl_x hf hx1
      have hf := hk1
      rw [← e1] at hf
      try dsimp only at hf
      refine z_iconst (q := 76) C (0 : Int32) dX5_weight_75 ki_0 rfl ?_
      refine z_istore_n (q := 77) (i := 3) (lv' := [(3, .int (0 : Int32)), (0, .ref a0_25), (1, .int i1_25), (2, .int i_6)]) C dX5_weight_76 rfl (by decide) rfl rfl ?_
      refine z_lv [1, 2, 3, 0] rfl ?_
      obtain ⟨r1, hr1, hk1⟩ := Option.bind_eq_some_iff.mp hf
      refine loopC_ind (P := fun s => ZW l G 4 X (ZQ G X (.returned (some (.int out.1))) out.2) s.2.2 77 [(0, .ref a0_25), (1, .int i1_25), (2, .int s.1), (3, .int s.2.1)] []) (fun s x1 hf hx1 => ?_) hr1
      obtain ⟨i_10, i_11, σ⟩ := s
      unfold f_X5_weight_L77 at hf
      try dsimp only at hf
      try dsimp only
      have j114_1 : ∀ (i3_114 : Int32) (w0_114 : Int32) (w1_114 : Int32) (σ : ZT), f_X5_weight_J114_77 a0_25 i1_25 i3_114 w0_114 w1_114 σ = some x1 → ZW l G 4 X (ZQ G X (.returned (some (.int out.1))) out.2) σ 114 [(0, .ref a0_25), (1, .int i1_25), (3, .int i3_114)] [.int w0_114, .int w1_114] := by
        intro i3_114 w0_114 w1_114 σ hf
        unfold f_X5_weight_J114_77 at hf
        refine z_iadd (q := 115) C dX5_weight_114 rfl ?_
        refine z_istore_n (q := 116) (i := 2) (lv' := [(2, .int (w1_114 + w0_114)), (0, .ref a0_25), (1, .int i1_25), (3, .int i3_114)]) C dX5_weight_115 rfl (by decide) rfl rfl ?_
        refine z_iinc (q := 119) (i := 3) (lv' := [(3, .int (i3_114 + (1 : Int32))), (2, .int (w1_114 + w0_114)), (0, .ref a0_25), (1, .int i1_25)]) C 3 (i3_114 + (1 : Int32)) dX5_weight_116 rfl (kn_1 _) (by decide) rfl rfl ?_
        refine z_goto (q := 77) C dX5_weight_119 (by decide) ?_
        refine z_lv [2, 3, 1, 0] rfl ?_
        have hc1 := zl_c hf hx1
        exact hc1
      refine z_iload_n (q := 78) (i := 3) C 3 dX5_weight_77 rfl rfl rfl ?_
      refine z_aload_n (q := 79) (i := 0) C 0 dX5_weight_78 rfl rfl rfl ?_
      refine z_getR (q := 82) C flX5_12 dX5_weight_79 hf rfl fun v12 hf => ?_
      refine z_getI (q := 85) C flX5_43 dX5_weight_82 hf rfl fun v13 hf => ?_
      refine z_icmpge (q := 88) (tgt := 122) C dX5_weight_85 (by decide) rfl hf (fun c85 hf => ?_) (fun c85 hf => ?_)
      · have e1 := zl_x hf hx1
        have hf := hk1
        rw [← e1] at hf
        try dsimp only at hf
        refine z_iload_n (q := 123) (i := 2) C 2 dX5_weight_122 rfl rfl rfl ?_
        exact z_ireturn C rfl dX5_weight_123 (Option.some.inj hf)
      · refine z_iload_n (q := 89) (i := 2) C 2 dX5_weight_88 rfl rfl rfl ?_
        refine z_aload_n (q := 90) (i := 0) C 0 dX5_weight_89 rfl rfl rfl ?_
        refine z_iload_n (q := 91) (i := 3) C 3 dX5_weight_90 rfl rfl rfl ?_
        refine z_callVi (q := 94) (As := [.int i_11]) C (fun o ho => m_X5_placeOf _ _ _ ho) zk5 vvX5_72 cdX5_placeOf pnX5 dX5_weight_91 rfl (by decide) (Nat.le_of_ble_eq_true rfl) hf rfl fun v14 σ hf => ?_
        refine z_iload_n (q := 95) (i := 1) C 1 dX5_weight_94 rfl rfl rfl ?_
        refine z_icmpne (q := 98) (tgt := 113) C dX5_weight_95 (by decide) rfl hf (fun c95 hf => ?_) (fun c95 hf => ?_)
        · refine z_iconst (q := 114) C (0 : Int32) dX5_weight_113 ki_0 rfl ?_
          refine z_lv [0, 1, 3] rfl ?_
          exact j114_1 i_11 (0 : Int32) i_10 σ hf
        · refine z_aload_n (q := 99) (i := 0) C 0 dX5_weight_98 rfl rfl rfl ?_
          refine z_getR (q := 102) C flX5_12 dX5_weight_99 hf rfl fun v15 hf => ?_
          refine z_getR (q := 105) C flX5_46 dX5_weight_102 hf rfl fun v16 hf => ?_
          refine z_iload_n (q := 106) (i := 3) C 3 dX5_weight_105 rfl rfl rfl ?_
          refine z_aaldR (q := 107) C 8 (by decide) (by decide) dX5_weight_106 hf rfl fun v17 hf => ?_
          refine z_getI (q := 110) C flX5_65 dX5_weight_107 hf rfl fun v18 hf => ?_
          refine z_goto (q := 114) C dX5_weight_110 (by decide) ?_
          refine z_lv [0, 1, 3] rfl ?_
          exact j114_1 i_11 v18 i_10 σ hf
    · refine z_iload_n (q := 41) (i := 2) C 2 dX5_weight_40 rfl rfl rfl ?_
      refine z_aload_n (q := 42) (i := 0) C 0 dX5_weight_41 rfl rfl rfl ?_
      refine z_getR (q := 45) C flX5_18 dX5_weight_42 hf rfl fun v19 hf => ?_
      refine z_iload_n (q := 46) (i := 3) C 3 dX5_weight_45 rfl rfl rfl ?_
      refine z_iald (q := 47) C dX5_weight_46 hf rfl fun v20 hf => ?_
      refine z_iload_n (q := 48) (i := 1) C 1 dX5_weight_47 rfl rfl rfl ?_
      refine z_icmpne (q := 51) (tgt := 66) C dX5_weight_48 (by decide) rfl hf (fun c48 hf => ?_) (fun c48 hf => ?_)
      · refine z_iconst (q := 67) C (0 : Int32) dX5_weight_66 ki_0 rfl ?_
        refine z_lv [0, 1, 3] rfl ?_
        exact j67_1 i_7 (0 : Int32) i_6 σ hf
      · refine z_aload_n (q := 52) (i := 0) C 0 dX5_weight_51 rfl rfl rfl ?_
        refine z_getR (q := 55) C flX5_12 dX5_weight_52 hf rfl fun v21 hf => ?_
        refine z_getR (q := 58) C flX5_35 dX5_weight_55 hf rfl fun v22 hf => ?_
        refine z_iload_n (q := 59) (i := 3) C 3 dX5_weight_58 rfl rfl rfl ?_
        refine z_aaldR (q := 60) C 7 (by decide) (by decide) dX5_weight_59 hf rfl fun v23 hf => ?_
        refine z_getI (q := 63) C flX5_62 dX5_weight_60 hf rfl fun v24 hf => ?_
        refine z_goto (q := 67) C dX5_weight_63 (by decide) ?_
        refine z_lv [0, 1, 3] rfl ?_
        exact j67_1 i_7 v24 i_6 σ hf
  refine z_aload_n (q := 1) (i := 0) C 0 dX5_weight_0 rfl rfl rfl ?_
  refine z_getR (q := 4) C flX5_12 dX5_weight_1 hf rfl fun v1 hf => ?_
  refine z_getR (q := 7) C flX5_66 dX5_weight_4 hf rfl fun v2 hf => ?_
  refine z_iload_n (q := 8) (i := 1) C 1 dX5_weight_7 rfl rfl rfl ?_
  refine z_iald (q := 9) C dX5_weight_8 hf rfl fun v3 hf => ?_
  refine z_iload_n (q := 10) (i := 1) C 1 dX5_weight_9 rfl rfl rfl ?_
  refine z_aload_n (q := 11) (i := 0) C 0 dX5_weight_10 rfl rfl rfl ?_
  refine z_getI (q := 14) C flX5_29 dX5_weight_11 hf rfl fun v4 hf => ?_
  refine z_icmpne (q := 17) (tgt := 24) C dX5_weight_14 (by decide) rfl hf (fun c14 hf => ?_) (fun c14 hf => ?_)
  · refine z_iconst (q := 25) C (0 : Int32) dX5_weight_24 ki_0 rfl ?_
    exact j25_0 a0 i1 (0 : Int32) v3 σ hf
  · refine z_aload_n (q := 18) (i := 0) C 0 dX5_weight_17 rfl rfl rfl ?_
    refine z_getI (q := 21) C flX5_69 dX5_weight_18 hf rfl fun v5 hf => ?_
    refine z_goto (q := 25) C dX5_weight_21 (by decide) ?_
    exact j25_0 a0 i1 v5 v3 σ hf

noncomputable def f_X5_hangs_2_J80_26 (a0_80 : Nat) (i1_80 : Int32) (i2_80 : Int32) (a3_80 : Nat) (i5_80 : Int32) (w0_80 : Int32) (w1_80 : Int32) (σ : ZT) : Option ((Int32 × Int32 × ZT) ⊕ (Int32 × ZT)) :=
  some (.inl ((w1_80 + w0_80), (i5_80 + (1 : Int32)), σ))
noncomputable def f_X5_hangs_2_J79_26 (a0_79 : Nat) (i1_79 : Int32) (i2_79 : Int32) (a3_79 : Nat) (i5_79 : Int32) (w0_79 : Int32) (σ : ZT) : Option ((Int32 × Int32 × ZT) ⊕ (Int32 × ZT)) :=
  f_X5_hangs_2_J80_26 a0_79 i1_79 i2_79 a3_79 i5_79 (0 : Int32) w0_79 σ
noncomputable def f_X5_hangs_2_L26 (c0_26 : Nat) (c1_26 : Int32) (c2_26 : Int32) (c3_26 : Nat) (i_5 : Int32) (i_6 : Int32) (σ : ZT) : Option ((Int32 × Int32 × ZT) ⊕ (Int32 × ZT)) :=
  if c1_26 < i_6 then
  (some (.inr (i_5, σ)))
  else
  ((gI 5 503 c0_26 σ).bind fun v9 =>
  if i_6 = v9 then
  (f_X5_hangs_2_J79_26 c0_26 c1_26 c2_26 c3_26 i_6 i_5 σ)
  else
  ((gR 5 500 c0_26 σ).bind fun v10 =>
  (gR 6 606 v10 σ).bind fun v11 =>
  (ldR 6 v11 i_6 σ).bind fun v12 =>
  (gI 11 1103 v12 σ).bind fun v13 =>
  (gI 11 1103 c3_26 σ).bind fun v14 =>
  if v13 = v14 then
  ((gR 5 500 c0_26 σ).bind fun v15 =>
  (gR 6 606 v15 σ).bind fun v16 =>
  (ldR 6 v16 i_6 σ).bind fun v17 =>
  bnd2 (vc 11 v17 σ (f_X11_pull v17 σ)) fun v18 σ =>
  f_X5_hangs_2_J80_26 c0_26 c1_26 c2_26 c3_26 i_6 v18 i_5 σ)
  else
  (f_X5_hangs_2_J79_26 c0_26 c1_26 c2_26 c3_26 i_6 i_5 σ)))
noncomputable def f_X5_hangs_2_J109 (w0_109 : Int32) (σ : ZT) : Option (Int32 × ZT) :=
  (rz w0_109).bind fun z22 =>
  some (z22, σ)
noncomputable def f_X5_hangs_2 (a0 : Nat) (i1 : Int32) (i2 : Int32) (σ : ZT) : Option (Int32 × ZT) :=
  (gI 5 503 a0 σ).bind fun v1 =>
  if i1 = v1 then
  (some ((0 : Int32), σ))
  else
  ((gR 5 500 a0 σ).bind fun v2 =>
  (gR 6 606 v2 σ).bind fun v3 =>
  (ldR 6 v3 i1 σ).bind fun v4 =>
  (loopC (fun s : (Int32 × Int32 × ZT) => f_X5_hangs_2_L26 a0 i1 i2 v4 s.1 s.2.1 s.2.2) ((0 : Int32), (0 : Int32), σ)).bind fun x => (match x with
  | (x19, σ) => (gI 11 1103 v4 σ).bind fun v20 =>
  bnd2 (vc 5 a0 σ (f_X5_weight a0 v20 σ)) fun v21 σ =>
  if (v21 - i2) < x19 then
  (f_X5_hangs_2_J109 (0 : Int32) σ)
  else
  (f_X5_hangs_2_J109 (1 : Int32) σ)))
set_option maxHeartbeats 4000000 in
theorem m_X5_hangs_2 {l : Launch} {G : ZG} (a0 : Nat) (i1 : Int32) (i2 : Int32) (σ : ZT) {out : (Int32 × ZT)} (hf : f_X5_hangs_2 a0 i1 i2 σ = some out) : ZM l G yX5_hangs_2 cX5_hangs_2 6 (some .boolean) [] 3 [.ref a0, .int i1, .int i2] σ (.returned (some (.int out.1))) out.2 := by
  refine ZM.of [(0, .ref a0), (1, .int i1), (2, .int i2)] rfl (Nat.le_of_ble_eq_true rfl) fun X (C : ZC G RX5 "hangs" cX5_hangs_2 6 (some .boolean) [] X 3) => ?_
  unfold f_X5_hangs_2 at hf
  have j109_0 : ∀ (w0_109 : Int32) (σ : ZT), f_X5_hangs_2_J109 w0_109 σ = some out → ZW l G 6 X (ZQ G X (.returned (some (.int out.1))) out.2) σ 109 [] [.int w0_109] := by
    intro w0_109 σ hf
    unfold f_X5_hangs_2_J109 at hf
    refine z_rz C hf fun hn hf => ?_
    exact z_zreturn C rfl hn dX5_hangs_2_109 (Option.some.inj hf)
  refine z_iload_n (q := 1) (i := 1) C 1 dX5_hangs_2_0 rfl rfl rfl ?_
  refine z_aload_n (q := 2) (i := 0) C 0 dX5_hangs_2_1 rfl rfl rfl ?_
  refine z_getI (q := 5) C flX5_25 dX5_hangs_2_2 hf rfl fun v1 hf => ?_
  refine z_icmpne (q := 8) (tgt := 10) C dX5_hangs_2_5 (by decide) rfl hf (fun c5 hf => ?_) (fun c5 hf => ?_)
  · refine z_aload_n (q := 11) (i := 0) C 0 dX5_hangs_2_10 rfl rfl rfl ?_
    refine z_getR (q := 14) C flX5_12 dX5_hangs_2_11 hf rfl fun v2 hf => ?_
    refine z_getR (q := 17) C flX5_75 dX5_hangs_2_14 hf rfl fun v3 hf => ?_
    refine z_iload_n (q := 18) (i := 1) C 1 dX5_hangs_2_17 rfl rfl rfl ?_
    refine z_aaldR (q := 19) C 6 (by decide) (by decide) dX5_hangs_2_18 hf rfl fun v4 hf => ?_
    refine z_astore_n (q := 20) (i := 3) (lv' := [(3, .ref v4), (0, .ref a0), (1, .int i1), (2, .int i2)]) C dX5_hangs_2_19 rfl (by decide) rfl rfl ?_
    refine z_iconst (q := 21) C (0 : Int32) dX5_hangs_2_20 ki_0 rfl ?_
    refine z_istore (q := 23) (i := 4) (lv' := [(4, .int (0 : Int32)), (3, .ref v4), (0, .ref a0), (1, .int i1), (2, .int i2)]) C dX5_hangs_2_21 (by decide) rfl rfl ?_
    refine z_iconst (q := 24) C (0 : Int32) dX5_hangs_2_23 ki_0 rfl ?_
    refine z_istore (q := 26) (i := 5) (lv' := [(5, .int (0 : Int32)), (4, .int (0 : Int32)), (3, .ref v4), (0, .ref a0), (1, .int i1), (2, .int i2)]) C dX5_hangs_2_24 (by decide) rfl rfl ?_
    refine z_lv [3, 4, 5, 2, 1, 0] rfl ?_
    obtain ⟨r1, hr1, hk1⟩ := Option.bind_eq_some_iff.mp hf
    refine loopC_ind (P := fun s => ZW l G 6 X (ZQ G X (.returned (some (.int out.1))) out.2) s.2.2 26 [(0, .ref a0), (1, .int i1), (2, .int i2), (3, .ref v4), (4, .int s.1), (5, .int s.2.1)] []) (fun s x1 hf hx1 => ?_) hr1
    obtain ⟨i_5, i_6, σ⟩ := s
    unfold f_X5_hangs_2_L26 at hf
    try dsimp only at hf
    try dsimp only
    have j80_1 : ∀ (i5_80 : Int32) (w0_80 : Int32) (w1_80 : Int32) (σ : ZT), f_X5_hangs_2_J80_26 a0 i1 i2 v4 i5_80 w0_80 w1_80 σ = some x1 → ZW l G 6 X (ZQ G X (.returned (some (.int out.1))) out.2) σ 80 [(0, .ref a0), (1, .int i1), (2, .int i2), (3, .ref v4), (5, .int i5_80)] [.int w0_80, .int w1_80] := by
      intro i5_80 w0_80 w1_80 σ hf
      unfold f_X5_hangs_2_J80_26 at hf
      refine z_iadd (q := 81) C dX5_hangs_2_80 rfl ?_
      refine z_istore (q := 83) (i := 4) (lv' := [(4, .int (w1_80 + w0_80)), (0, .ref a0), (1, .int i1), (2, .int i2), (3, .ref v4), (5, .int i5_80)]) C dX5_hangs_2_81 (by decide) rfl rfl ?_
      refine z_iinc (q := 86) (i := 5) (lv' := [(5, .int (i5_80 + (1 : Int32))), (4, .int (w1_80 + w0_80)), (0, .ref a0), (1, .int i1), (2, .int i2), (3, .ref v4)]) C 5 (i5_80 + (1 : Int32)) dX5_hangs_2_83 rfl (kn_1 _) (by decide) rfl rfl ?_
      refine z_goto (q := 26) C dX5_hangs_2_86 (by decide) ?_
      refine z_lv [2, 3, 4, 5, 1, 0] rfl ?_
      have hc1 := zl_c hf hx1
      exact hc1
    have j79_1 : ∀ (i5_79 : Int32) (w0_79 : Int32) (σ : ZT), f_X5_hangs_2_J79_26 a0 i1 i2 v4 i5_79 w0_79 σ = some x1 → ZW l G 6 X (ZQ G X (.returned (some (.int out.1))) out.2) σ 79 [(0, .ref a0), (1, .int i1), (2, .int i2), (3, .ref v4), (5, .int i5_79)] [.int w0_79] := by
      intro i5_79 w0_79 σ hf
      unfold f_X5_hangs_2_J79_26 at hf
      refine z_iconst (q := 80) C (0 : Int32) dX5_hangs_2_79 ki_0 rfl ?_
      exact j80_1 i5_79 (0 : Int32) w0_79 σ hf
    refine z_iload (q := 28) (i := 5) C 5 dX5_hangs_2_26 rfl rfl ?_
    refine z_iload_n (q := 29) (i := 1) C 1 dX5_hangs_2_28 rfl rfl rfl ?_
    refine z_icmpgt (q := 32) (tgt := 89) C dX5_hangs_2_29 (by decide) rfl hf (fun c29 hf => ?_) (fun c29 hf => ?_)
    · have e1 := zl_x hf hx1
      have hf := hk1
      rw [← e1] at hf
      try dsimp only at hf
      refine z_iload (q := 91) (i := 4) C 4 dX5_hangs_2_89 rfl rfl ?_
      refine z_aload_n (q := 92) (i := 0) C 0 dX5_hangs_2_91 rfl rfl rfl ?_
      refine z_aload_n (q := 93) (i := 3) C 3 dX5_hangs_2_92 rfl rfl rfl ?_
      refine z_getI (q := 96) C flX5_79 dX5_hangs_2_93 hf rfl fun v7 hf => ?_
      refine z_callVi (q := 99) (As := [.int v7]) C (fun o ho => m_X5_weight _ _ _ ho) zk5 vvX5_88 cdX5_weight pnX5 dX5_hangs_2_96 rfl (by decide) (Nat.le_of_ble_eq_true rfl) hf rfl fun v8 σ hf => ?_
      refine z_iload_n (q := 100) (i := 2) C 2 dX5_hangs_2_99 rfl rfl rfl ?_
      refine z_isub (q := 101) C dX5_hangs_2_100 rfl ?_
      refine z_icmpgt (q := 104) (tgt := 108) C dX5_hangs_2_101 (by decide) rfl hf (fun c101 hf => ?_) (fun c101 hf => ?_)
      · refine z_iconst (q := 109) C (0 : Int32) dX5_hangs_2_108 ki_0 rfl ?_
        refine z_lv [] rfl ?_
        exact j109_0 (0 : Int32) σ hf
      · refine z_iconst (q := 105) C (1 : Int32) dX5_hangs_2_104 ki_1 rfl ?_
        refine z_goto (q := 109) C dX5_hangs_2_105 (by decide) ?_
        refine z_lv [] rfl ?_
        exact j109_0 (1 : Int32) σ hf
    · refine z_iload (q := 34) (i := 4) C 4 dX5_hangs_2_32 rfl rfl ?_
      refine z_iload (q := 36) (i := 5) C 5 dX5_hangs_2_34 rfl rfl ?_
      refine z_aload_n (q := 37) (i := 0) C 0 dX5_hangs_2_36 rfl rfl rfl ?_
      refine z_getI (q := 40) C flX5_25 dX5_hangs_2_37 hf rfl fun v9 hf => ?_
      refine z_icmpeq (q := 43) (tgt := 79) C dX5_hangs_2_40 (by decide) rfl hf (fun c40 hf => ?_) (fun c40 hf => ?_)
      · refine z_lv [0, 1, 2, 3, 5] rfl ?_
        exact j79_1 i_6 i_5 σ hf
      · refine z_aload_n (q := 44) (i := 0) C 0 dX5_hangs_2_43 rfl rfl rfl ?_
        refine z_getR (q := 47) C flX5_12 dX5_hangs_2_44 hf rfl fun v10 hf => ?_
        refine z_getR (q := 50) C flX5_75 dX5_hangs_2_47 hf rfl fun v11 hf => ?_
        refine z_iload (q := 52) (i := 5) C 5 dX5_hangs_2_50 rfl rfl ?_
        refine z_aaldR (q := 53) C 6 (by decide) (by decide) dX5_hangs_2_52 hf rfl fun v12 hf => ?_
        refine z_getI (q := 56) C flX5_79 dX5_hangs_2_53 hf rfl fun v13 hf => ?_
        refine z_aload_n (q := 57) (i := 3) C 3 dX5_hangs_2_56 rfl rfl rfl ?_
        refine z_getI (q := 60) C flX5_79 dX5_hangs_2_57 hf rfl fun v14 hf => ?_
        refine z_icmpne (q := 63) (tgt := 79) C dX5_hangs_2_60 (by decide) rfl hf (fun c60 hf => ?_) (fun c60 hf => ?_)
        · refine z_lv [0, 1, 2, 3, 5] rfl ?_
          exact j79_1 i_6 i_5 σ hf
        · refine z_aload_n (q := 64) (i := 0) C 0 dX5_hangs_2_63 rfl rfl rfl ?_
          refine z_getR (q := 67) C flX5_12 dX5_hangs_2_64 hf rfl fun v15 hf => ?_
          refine z_getR (q := 70) C flX5_75 dX5_hangs_2_67 hf rfl fun v16 hf => ?_
          refine z_iload (q := 72) (i := 5) C 5 dX5_hangs_2_70 rfl rfl ?_
          refine z_aaldR (q := 73) C 6 (by decide) (by decide) dX5_hangs_2_72 hf rfl fun v17 hf => ?_
          refine z_callVi (q := 76) (As := []) C (fun o ho => m_X11_pull _ _ ho) zk11 vvX5_84 cdX11_pull pnX11 dX5_hangs_2_73 rfl (by decide) (Nat.le_of_ble_eq_true rfl) hf rfl fun v18 σ hf => ?_
          refine z_goto (q := 80) C dX5_hangs_2_76 (by decide) ?_
          refine z_lv [0, 1, 2, 3, 5] rfl ?_
          exact j80_1 i_6 v18 i_5 σ hf
  · refine z_iconst (q := 9) C (0 : Int32) dX5_hangs_2_8 ki_0 rfl ?_
    exact z_zreturn C rfl z_nb0 dX5_hangs_2_9 (Option.some.inj hf)

noncomputable def f_X5_hangs (a0 : Nat) (i1 : Int32) (σ : ZT) : Option (Int32 × ZT) :=
  bnd2 (vc 5 a0 σ (f_X5_hangs_2 a0 i1 (0 : Int32) σ)) fun v1 σ =>
  (rz v1).bind fun z2 =>
  some (z2, σ)
set_option maxHeartbeats 4000000 in
theorem m_X5_hangs {l : Launch} {G : ZG} (a0 : Nat) (i1 : Int32) (σ : ZT) {out : (Int32 × ZT)} (hf : f_X5_hangs a0 i1 σ = some out) : ZM l G yX5_hangs cX5_hangs 2 (some .boolean) [] 4 [.ref a0, .int i1] σ (.returned (some (.int out.1))) out.2 := by
  refine ZM.of [(0, .ref a0), (1, .int i1)] rfl (Nat.le_of_ble_eq_true rfl) fun X (C : ZC G RX5 "hangs" cX5_hangs 2 (some .boolean) [] X 4) => ?_
  unfold f_X5_hangs at hf
  refine z_aload_n (q := 1) (i := 0) C 0 dX5_hangs_0 rfl rfl rfl ?_
  refine z_iload_n (q := 2) (i := 1) C 1 dX5_hangs_1 rfl rfl rfl ?_
  refine z_iconst (q := 3) C (0 : Int32) dX5_hangs_2 ki_0 rfl ?_
  refine z_callVi (q := 6) (As := [.int i1, .int (0 : Int32)]) C (fun o ho => m_X5_hangs_2 _ _ _ _ ho) zk5 vvX5_90 cdX5_hangs_2 pnX5 dX5_hangs_3 rfl (by decide) (Nat.le_of_ble_eq_true rfl) hf rfl fun v1 σ hf => ?_
  refine z_rz C hf fun hn hf => ?_
  exact z_zreturn C rfl hn dX5_hangs_6 (Option.some.inj hf)

noncomputable def f_X5_canLift_J55 (w0_55 : Int32) (σ : ZT) : Option (Int32 × ZT) :=
  (rz w0_55).bind fun z14 =>
  some (z14, σ)
noncomputable def f_X5_canLift_J54  (σ : ZT) : Option (Int32 × ZT) :=
  f_X5_canLift_J55 (0 : Int32) σ
noncomputable def f_X5_canLift (a0 : Nat) (i1 : Int32) (i2 : Int32) (σ : ZT) : Option (Int32 × ZT) :=
  (gR 5 502 a0 σ).bind fun v1 =>
  (ldI 0 v1 i2 σ).bind fun v2 =>
  (gR 5 501 a0 σ).bind fun v3 =>
  (ldI 0 v3 i1 σ).bind fun v4 =>
  if v2 = v4 then
  (bnd2 (vc 5 a0 σ (f_X5_carried a0 i1 σ)) fun v5 σ =>
  if v5 < 0 then
  ((gR 5 500 a0 σ).bind fun v6 =>
  (gR 6 608 v6 σ).bind fun v7 =>
  (ldR 8 v7 i2 σ).bind fun v8 =>
  (gI 13 1301 v8 σ).bind fun v9 =>
  (gR 5 500 a0 σ).bind fun v10 =>
  (gR 6 607 v10 σ).bind fun v11 =>
  (ldR 7 v11 i1 σ).bind fun v12 =>
  (gI 12 1204 v12 σ).bind fun v13 =>
  if v13 < v9 then
  (f_X5_canLift_J54  σ)
  else
  (f_X5_canLift_J55 (1 : Int32) σ))
  else
  (f_X5_canLift_J54  σ))
  else
  (f_X5_canLift_J54  σ)
set_option maxHeartbeats 4000000 in
theorem m_X5_canLift {l : Launch} {G : ZG} (a0 : Nat) (i1 : Int32) (i2 : Int32) (σ : ZT) {out : (Int32 × ZT)} (hf : f_X5_canLift a0 i1 i2 σ = some out) : ZM l G yX5_canLift cX5_canLift 3 (some .boolean) [] 2 [.ref a0, .int i1, .int i2] σ (.returned (some (.int out.1))) out.2 := by
  refine ZM.of [(0, .ref a0), (1, .int i1), (2, .int i2)] rfl (Nat.le_of_ble_eq_true rfl) fun X (C : ZC G RX5 "canLift" cX5_canLift 3 (some .boolean) [] X 2) => ?_
  unfold f_X5_canLift at hf
  have j55_0 : ∀ (w0_55 : Int32) (σ : ZT), f_X5_canLift_J55 w0_55 σ = some out → ZW l G 3 X (ZQ G X (.returned (some (.int out.1))) out.2) σ 55 [] [.int w0_55] := by
    intro w0_55 σ hf
    unfold f_X5_canLift_J55 at hf
    refine z_rz C hf fun hn hf => ?_
    exact z_zreturn C rfl hn dX5_canLift_55 (Option.some.inj hf)
  have j54_0 : ∀  (σ : ZT), f_X5_canLift_J54  σ = some out → ZW l G 3 X (ZQ G X (.returned (some (.int out.1))) out.2) σ 54 [] [] := by
    intro  σ hf
    unfold f_X5_canLift_J54 at hf
    refine z_iconst (q := 55) C (0 : Int32) dX5_canLift_54 ki_0 rfl ?_
    exact j55_0 (0 : Int32) σ hf
  refine z_aload_n (q := 1) (i := 0) C 0 dX5_canLift_0 rfl rfl rfl ?_
  refine z_getR (q := 4) C flX5_22 dX5_canLift_1 hf rfl fun v1 hf => ?_
  refine z_iload_n (q := 5) (i := 2) C 2 dX5_canLift_4 rfl rfl rfl ?_
  refine z_iald (q := 6) C dX5_canLift_5 hf rfl fun v2 hf => ?_
  refine z_aload_n (q := 7) (i := 0) C 0 dX5_canLift_6 rfl rfl rfl ?_
  refine z_getR (q := 10) C flX5_18 dX5_canLift_7 hf rfl fun v3 hf => ?_
  refine z_iload_n (q := 11) (i := 1) C 1 dX5_canLift_10 rfl rfl rfl ?_
  refine z_iald (q := 12) C dX5_canLift_11 hf rfl fun v4 hf => ?_
  refine z_icmpne (q := 15) (tgt := 54) C dX5_canLift_12 (by decide) rfl hf (fun c12 hf => ?_) (fun c12 hf => ?_)
  · refine z_lv [] rfl ?_
    exact j54_0  σ hf
  · refine z_aload_n (q := 16) (i := 0) C 0 dX5_canLift_15 rfl rfl rfl ?_
    refine z_iload_n (q := 17) (i := 1) C 1 dX5_canLift_16 rfl rfl rfl ?_
    refine z_callVi (q := 20) (As := [.int i1]) C (fun o ho => m_X5_carried _ _ _ ho) zk5 vvX5_58 cdX5_carried pnX5 dX5_canLift_17 rfl (by decide) (Nat.le_of_ble_eq_true rfl) hf rfl fun v5 σ hf => ?_
    refine z_ifge (q := 23) (tgt := 54) C dX5_canLift_20 (by decide) rfl hf (fun c20 hf => ?_) (fun c20 hf => ?_)
    · refine z_lv [] rfl ?_
      exact j54_0  σ hf
    · refine z_aload_n (q := 24) (i := 0) C 0 dX5_canLift_23 rfl rfl rfl ?_
      refine z_getR (q := 27) C flX5_12 dX5_canLift_24 hf rfl fun v6 hf => ?_
      refine z_getR (q := 30) C flX5_46 dX5_canLift_27 hf rfl fun v7 hf => ?_
      refine z_iload_n (q := 31) (i := 2) C 2 dX5_canLift_30 rfl rfl rfl ?_
      refine z_aaldR (q := 32) C 8 (by decide) (by decide) dX5_canLift_31 hf rfl fun v8 hf => ?_
      refine z_getI (q := 35) C flX5_65 dX5_canLift_32 hf rfl fun v9 hf => ?_
      refine z_aload_n (q := 36) (i := 0) C 0 dX5_canLift_35 rfl rfl rfl ?_
      refine z_getR (q := 39) C flX5_12 dX5_canLift_36 hf rfl fun v10 hf => ?_
      refine z_getR (q := 42) C flX5_35 dX5_canLift_39 hf rfl fun v11 hf => ?_
      refine z_iload_n (q := 43) (i := 1) C 1 dX5_canLift_42 rfl rfl rfl ?_
      refine z_aaldR (q := 44) C 7 (by decide) (by decide) dX5_canLift_43 hf rfl fun v12 hf => ?_
      refine z_getI (q := 47) C flX5_107 dX5_canLift_44 hf rfl fun v13 hf => ?_
      refine z_icmpgt (q := 50) (tgt := 54) C dX5_canLift_47 (by decide) rfl hf (fun c47 hf => ?_) (fun c47 hf => ?_)
      · refine z_lv [] rfl ?_
        exact j54_0  σ hf
      · refine z_iconst (q := 51) C (1 : Int32) dX5_canLift_50 ki_1 rfl ?_
        refine z_goto (q := 55) C dX5_canLift_51 (by decide) ?_
        refine z_lv [] rfl ?_
        exact j55_0 (1 : Int32) σ hf

noncomputable def f_X11_beyond_J31 (w0_31 : Int32) (σ : ZT) : Option (Int32 × ZT) :=
  some (w0_31, σ)
noncomputable def f_X11_beyond (a0 : Nat) (i1 : Int32) (σ : ZT) : Option (Int32 × ZT) :=
  (gI 11 1101 a0 σ).bind fun v1 =>
  if i1 = v1 then
  ((gI 11 1102 a0 σ).bind fun v4 =>
  f_X11_beyond_J31 v4 σ)
  else
  ((gI 11 1102 a0 σ).bind fun v2 =>
  if i1 = v2 then
  ((gI 11 1101 a0 σ).bind fun v3 =>
  f_X11_beyond_J31 v3 σ)
  else
  (f_X11_beyond_J31 (-1 : Int32) σ))
set_option maxHeartbeats 4000000 in
theorem m_X11_beyond {l : Launch} {G : ZG} (a0 : Nat) (i1 : Int32) (σ : ZT) {out : (Int32 × ZT)} (hf : f_X11_beyond a0 i1 σ = some out) : ZM l G yX11_beyond cX11_beyond 2 (some .int) [] 1 [.ref a0, .int i1] σ (.returned (some (.int out.1))) out.2 := by
  refine ZM.of [(0, .ref a0), (1, .int i1)] rfl (Nat.le_of_ble_eq_true rfl) fun X (C : ZC G RX11 "beyond" cX11_beyond 2 (some .int) [] X 1) => ?_
  unfold f_X11_beyond at hf
  have j31_0 : ∀ (w0_31 : Int32) (σ : ZT), f_X11_beyond_J31 w0_31 σ = some out → ZW l G 2 X (ZQ G X (.returned (some (.int out.1))) out.2) σ 31 [] [.int w0_31] := by
    intro w0_31 σ hf
    unfold f_X11_beyond_J31 at hf
    exact z_ireturn C rfl dX11_beyond_31 (Option.some.inj hf)
  refine z_iload_n (q := 1) (i := 1) C 1 dX11_beyond_0 rfl rfl rfl ?_
  refine z_aload_n (q := 2) (i := 0) C 0 dX11_beyond_1 rfl rfl rfl ?_
  refine z_getI (q := 5) C flX11_25 dX11_beyond_2 hf rfl fun v1 hf => ?_
  refine z_icmpne (q := 8) (tgt := 15) C dX11_beyond_5 (by decide) rfl hf (fun c5 hf => ?_) (fun c5 hf => ?_)
  · refine z_iload_n (q := 16) (i := 1) C 1 dX11_beyond_15 rfl rfl rfl ?_
    refine z_aload_n (q := 17) (i := 0) C 0 dX11_beyond_16 rfl rfl rfl ?_
    refine z_getI (q := 20) C flX11_28 dX11_beyond_17 hf rfl fun v2 hf => ?_
    refine z_icmpne (q := 23) (tgt := 30) C dX11_beyond_20 (by decide) rfl hf (fun c20 hf => ?_) (fun c20 hf => ?_)
    · refine z_iconst (q := 31) C (-1 : Int32) dX11_beyond_30 ki_m1 rfl ?_
      refine z_lv [] rfl ?_
      exact j31_0 (-1 : Int32) σ hf
    · refine z_aload_n (q := 24) (i := 0) C 0 dX11_beyond_23 rfl rfl rfl ?_
      refine z_getI (q := 27) C flX11_25 dX11_beyond_24 hf rfl fun v3 hf => ?_
      refine z_goto (q := 31) C dX11_beyond_27 (by decide) ?_
      refine z_lv [] rfl ?_
      exact j31_0 v3 σ hf
  · refine z_aload_n (q := 9) (i := 0) C 0 dX11_beyond_8 rfl rfl rfl ?_
    refine z_getI (q := 12) C flX11_28 dX11_beyond_9 hf rfl fun v4 hf => ?_
    refine z_goto (q := 31) C dX11_beyond_12 (by decide) ?_
    refine z_lv [] rfl ?_
    exact j31_0 v4 σ hf

noncomputable def f_X5_heavy_J38 (w0_38 : Int32) (w1_38 : Int32) (σ : ZT) : Option (Int32 × ZT) :=
  some ((w1_38 + w0_38), σ)
noncomputable def f_X5_heavy (a0 : Nat) (i1 : Int32) (σ : ZT) : Option (Int32 × ZT) :=
  bnd2 (vc 5 a0 σ (f_X5_carried a0 i1 σ)) fun v1 σ =>
  (gR 5 500 a0 σ).bind fun v2 =>
  (gR 6 607 v2 σ).bind fun v3 =>
  (ldR 7 v3 i1 σ).bind fun v4 =>
  (gI 12 1201 v4 σ).bind fun v5 =>
  if v1 < 0 then
  (f_X5_heavy_J38 (0 : Int32) v5 σ)
  else
  ((gR 5 500 a0 σ).bind fun v6 =>
  (gR 6 608 v6 σ).bind fun v7 =>
  (ldR 8 v7 v1 σ).bind fun v8 =>
  (gI 13 1301 v8 σ).bind fun v9 =>
  f_X5_heavy_J38 v9 v5 σ)
set_option maxHeartbeats 4000000 in
theorem m_X5_heavy {l : Launch} {G : ZG} (a0 : Nat) (i1 : Int32) (σ : ZT) {out : (Int32 × ZT)} (hf : f_X5_heavy a0 i1 σ = some out) : ZM l G yX5_heavy cX5_heavy 3 (some .int) [] 2 [.ref a0, .int i1] σ (.returned (some (.int out.1))) out.2 := by
  refine ZM.of [(0, .ref a0), (1, .int i1)] rfl (Nat.le_of_ble_eq_true rfl) fun X (C : ZC G RX5 "heavy" cX5_heavy 3 (some .int) [] X 2) => ?_
  unfold f_X5_heavy at hf
  have j38_0 : ∀ (w0_38 : Int32) (w1_38 : Int32) (σ : ZT), f_X5_heavy_J38 w0_38 w1_38 σ = some out → ZW l G 3 X (ZQ G X (.returned (some (.int out.1))) out.2) σ 38 [] [.int w0_38, .int w1_38] := by
    intro w0_38 w1_38 σ hf
    unfold f_X5_heavy_J38 at hf
    refine z_iadd (q := 39) C dX5_heavy_38 rfl ?_
    exact z_ireturn C rfl dX5_heavy_39 (Option.some.inj hf)
  refine z_aload_n (q := 1) (i := 0) C 0 dX5_heavy_0 rfl rfl rfl ?_
  refine z_iload_n (q := 2) (i := 1) C 1 dX5_heavy_1 rfl rfl rfl ?_
  refine z_callVi (q := 5) (As := [.int i1]) C (fun o ho => m_X5_carried _ _ _ ho) zk5 vvX5_58 cdX5_carried pnX5 dX5_heavy_2 rfl (by decide) (Nat.le_of_ble_eq_true rfl) hf rfl fun v1 σ hf => ?_
  refine z_istore_n (q := 6) (i := 2) (lv' := [(2, .int v1), (0, .ref a0), (1, .int i1)]) C dX5_heavy_5 rfl (by decide) rfl rfl ?_
  refine z_aload_n (q := 7) (i := 0) C 1 dX5_heavy_6 rfl rfl rfl ?_
  refine z_getR (q := 10) C flX5_12 dX5_heavy_7 hf rfl fun v2 hf => ?_
  refine z_getR (q := 13) C flX5_35 dX5_heavy_10 hf rfl fun v3 hf => ?_
  refine z_iload_n (q := 14) (i := 1) C 2 dX5_heavy_13 rfl rfl rfl ?_
  refine z_aaldR (q := 15) C 7 (by decide) (by decide) dX5_heavy_14 hf rfl fun v4 hf => ?_
  refine z_getI (q := 18) C flX5_62 dX5_heavy_15 hf rfl fun v5 hf => ?_
  refine z_iload_n (q := 19) (i := 2) C 0 dX5_heavy_18 rfl rfl rfl ?_
  refine z_ifge (q := 22) (tgt := 26) C dX5_heavy_19 (by decide) rfl hf (fun c19 hf => ?_) (fun c19 hf => ?_)
  · refine z_aload_n (q := 27) (i := 0) C 1 dX5_heavy_26 rfl rfl rfl ?_
    refine z_getR (q := 30) C flX5_12 dX5_heavy_27 hf rfl fun v6 hf => ?_
    refine z_getR (q := 33) C flX5_46 dX5_heavy_30 hf rfl fun v7 hf => ?_
    refine z_iload_n (q := 34) (i := 2) C 0 dX5_heavy_33 rfl rfl rfl ?_
    refine z_aaldR (q := 35) C 8 (by decide) (by decide) dX5_heavy_34 hf rfl fun v8 hf => ?_
    refine z_getI (q := 38) C flX5_65 dX5_heavy_35 hf rfl fun v9 hf => ?_
    refine z_lv [] rfl ?_
    exact j38_0 v9 v5 σ hf
  · refine z_iconst (q := 23) C (0 : Int32) dX5_heavy_22 ki_0 rfl ?_
    refine z_goto (q := 38) C dX5_heavy_23 (by decide) ?_
    refine z_lv [] rfl ?_
    exact j38_0 (0 : Int32) v5 σ hf

noncomputable def f_X5_why_J44  (σ : ZT) : Option (Int32 × ZT) :=
  some ((1 : Int32), σ)
noncomputable def f_X5_why_J148 (w0_148 : Int32) (σ : ZT) : Option (Int32 × ZT) :=
  some (w0_148, σ)
noncomputable def f_X5_why_J143  (σ : ZT) : Option (Int32 × ZT) :=
  f_X5_why_J148 (4 : Int32) σ
noncomputable def f_X5_why_J147  (σ : ZT) : Option (Int32 × ZT) :=
  f_X5_why_J148 (0 : Int32) σ
noncomputable def f_X5_why_J89 (a0_89 : Nat) (i1_89 : Int32) (i2_89 : Int32) (a4_89 : Nat) (i5_89 : Int32) (w0_89 : Int32) (w1_89 : Int32) (w2_89 : Nat) (σ : ZT) : Option (Int32 × ZT) :=
  bnd2 (vc 5 w2_89 σ (f_X5_hangs_2 w2_89 w1_89 w0_89 σ)) fun v16 σ =>
  if v16 = 0 then
  (some ((2 : Int32), σ))
  else
  ((gI 11 1106 a4_89 σ).bind fun v17 =>
  if v17 < i5_89 then
  (some ((3 : Int32), σ))
  else
  ((gR 5 500 a0_89 σ).bind fun v18 =>
  (gR 6 607 v18 σ).bind fun v19 =>
  (ldR 7 v19 i1_89 σ).bind fun v20 =>
  (gI 12 1205 v20 σ).bind fun v21 =>
  if v21 = 0 then
  (f_X5_why_J147  σ)
  else
  (if i2_89 < 0 then
  (f_X5_why_J143  σ)
  else
  ((gR 5 500 a0_89 σ).bind fun v22 =>
  (gR 6 607 v22 σ).bind fun v23 =>
  (ldR 7 v23 i2_89 σ).bind fun v24 =>
  (gI 12 1205 v24 σ).bind fun v25 =>
  if v25 = 0 then
  (f_X5_why_J147  σ)
  else
  (f_X5_why_J143  σ)))))
noncomputable def f_X5_why_J64 (a0_64 : Nat) (i1_64 : Int32) (i2_64 : Int32) (i3_64 : Int32) (a4_64 : Nat) (w0_64 : Int32) (w1_64 : Int32) (σ : ZT) : Option (Int32 × ZT) :=
  (gR 5 501 a0_64 σ).bind fun v13 =>
  (ldI 0 v13 i1_64 σ).bind fun v14 =>
  (gI 11 1103 a4_64 σ).bind fun v15 =>
  if v14 = v15 then
  (f_X5_why_J89 a0_64 i1_64 i2_64 a4_64 (w1_64 + w0_64) (w1_64 + w0_64) i3_64 a0_64 σ)
  else
  (f_X5_why_J89 a0_64 i1_64 i2_64 a4_64 (w1_64 + w0_64) (0 : Int32) i3_64 a0_64 σ)
noncomputable def f_X5_why_J46 (a0_46 : Nat) (i1_46 : Int32) (i2_46 : Int32) (i3_46 : Int32) (a4_46 : Nat) (σ : ZT) : Option (Int32 × ZT) :=
  bnd2 (vc 5 a0_46 σ (f_X5_heavy a0_46 i1_46 σ)) fun v11 σ =>
  if i2_46 < 0 then
  (f_X5_why_J64 a0_46 i1_46 i2_46 i3_46 a4_46 (0 : Int32) v11 σ)
  else
  (bnd2 (vc 5 a0_46 σ (f_X5_heavy a0_46 i2_46 σ)) fun v12 σ =>
  f_X5_why_J64 a0_46 i1_46 i2_46 i3_46 a4_46 v12 v11 σ)
noncomputable def f_X5_why (a0 : Nat) (i1 : Int32) (i2 : Int32) (i3 : Int32) (σ : ZT) : Option (Int32 × ZT) :=
  (gR 5 500 a0 σ).bind fun v1 =>
  (gR 6 606 v1 σ).bind fun v2 =>
  (ldR 6 v2 i3 σ).bind fun v3 =>
  (gR 5 501 a0 σ).bind fun v4 =>
  (ldI 0 v4 i1 σ).bind fun v5 =>
  bnd2 (vc 11 v3 σ (f_X11_beyond v3 v5 σ)) fun v6 σ =>
  if v6 < 0 then
  (f_X5_why_J44  σ)
  else
  (if i2 < 0 then
  (f_X5_why_J46 a0 i1 i2 i3 v3 σ)
  else
  ((gR 5 501 a0 σ).bind fun v7 =>
  (ldI 0 v7 i2 σ).bind fun v8 =>
  (gR 5 501 a0 σ).bind fun v9 =>
  (ldI 0 v9 i1 σ).bind fun v10 =>
  if v8 = v10 then
  (f_X5_why_J46 a0 i1 i2 i3 v3 σ)
  else
  (f_X5_why_J44  σ)))
set_option maxHeartbeats 4000000 in
theorem m_X5_why {l : Launch} {G : ZG} (a0 : Nat) (i1 : Int32) (i2 : Int32) (i3 : Int32) (σ : ZT) {out : (Int32 × ZT)} (hf : f_X5_why a0 i1 i2 i3 σ = some out) : ZM l G yX5_why cX5_why 6 (some .int) [] 4 [.ref a0, .int i1, .int i2, .int i3] σ (.returned (some (.int out.1))) out.2 := by
  refine ZM.of [(0, .ref a0), (1, .int i1), (2, .int i2), (3, .int i3)] rfl (Nat.le_of_ble_eq_true rfl) fun X (C : ZC G RX5 "why" cX5_why 6 (some .int) [] X 4) => ?_
  unfold f_X5_why at hf
  have j148_0 : ∀ (w0_148 : Int32) (σ : ZT), f_X5_why_J148 w0_148 σ = some out → ZW l G 6 X (ZQ G X (.returned (some (.int out.1))) out.2) σ 148 [] [.int w0_148] := by
    intro w0_148 σ hf
    unfold f_X5_why_J148 at hf
    exact z_ireturn C rfl dX5_why_148 (Option.some.inj hf)
  have j147_0 : ∀  (σ : ZT), f_X5_why_J147  σ = some out → ZW l G 6 X (ZQ G X (.returned (some (.int out.1))) out.2) σ 147 [] [] := by
    intro  σ hf
    unfold f_X5_why_J147 at hf
    refine z_iconst (q := 148) C (0 : Int32) dX5_why_147 ki_0 rfl ?_
    exact j148_0 (0 : Int32) σ hf
  have j143_0 : ∀  (σ : ZT), f_X5_why_J143  σ = some out → ZW l G 6 X (ZQ G X (.returned (some (.int out.1))) out.2) σ 143 [] [] := by
    intro  σ hf
    unfold f_X5_why_J143 at hf
    refine z_iconst (q := 144) C (4 : Int32) dX5_why_143 ki_4 rfl ?_
    refine z_goto (q := 148) C dX5_why_144 (by decide) ?_
    exact j148_0 (4 : Int32) σ hf
  have j89_0 : ∀ (a0_89 : Nat) (i1_89 : Int32) (i2_89 : Int32) (a4_89 : Nat) (i5_89 : Int32) (w0_89 : Int32) (w1_89 : Int32) (w2_89 : Nat) (σ : ZT), f_X5_why_J89 a0_89 i1_89 i2_89 a4_89 i5_89 w0_89 w1_89 w2_89 σ = some out → ZW l G 6 X (ZQ G X (.returned (some (.int out.1))) out.2) σ 89 [(0, .ref a0_89), (1, .int i1_89), (2, .int i2_89), (4, .ref a4_89), (5, .int i5_89)] [.int w0_89, .int w1_89, .ref w2_89] := by
    intro a0_89 i1_89 i2_89 a4_89 i5_89 w0_89 w1_89 w2_89 σ hf
    unfold f_X5_why_J89 at hf
    refine z_callVi (q := 92) (As := [.int w1_89, .int w0_89]) C (fun o ho => m_X5_hangs_2 _ _ _ _ ho) zk5 vvX5_90 cdX5_hangs_2 pnX5 dX5_why_89 rfl (by decide) (Nat.le_of_ble_eq_true rfl) hf rfl fun v16 σ hf => ?_
    refine z_ifne (q := 95) (tgt := 97) C dX5_why_92 (by decide) rfl hf (fun c92 hf => ?_) (fun c92 hf => ?_)
    · refine z_iload (q := 99) (i := 5) C 4 dX5_why_97 rfl rfl ?_
      refine z_aload (q := 101) (i := 4) C 3 dX5_why_99 rfl rfl ?_
      refine z_getI (q := 104) C flX5_100 dX5_why_101 hf rfl fun v17 hf => ?_
      refine z_icmple (q := 107) (tgt := 109) C dX5_why_104 (by decide) rfl hf (fun c104 hf => ?_) (fun c104 hf => ?_)
      · refine z_aload_n (q := 110) (i := 0) C 0 dX5_why_109 rfl rfl rfl ?_
        refine z_getR (q := 113) C flX5_12 dX5_why_110 hf rfl fun v18 hf => ?_
        refine z_getR (q := 116) C flX5_35 dX5_why_113 hf rfl fun v19 hf => ?_
        refine z_iload_n (q := 117) (i := 1) C 1 dX5_why_116 rfl rfl rfl ?_
        refine z_aaldR (q := 118) C 7 (by decide) (by decide) dX5_why_117 hf rfl fun v20 hf => ?_
        refine z_getI (q := 121) C flX5_103 dX5_why_118 hf rfl fun v21 hf => ?_
        refine z_ifeq (q := 124) (tgt := 147) C dX5_why_121 (by decide) rfl hf (fun c121 hf => ?_) (fun c121 hf => ?_)
        · refine z_lv [] rfl ?_
          exact j147_0  σ hf
        · refine z_iload_n (q := 125) (i := 2) C 2 dX5_why_124 rfl rfl rfl ?_
          refine z_iflt (q := 128) (tgt := 143) C dX5_why_125 (by decide) rfl hf (fun c125 hf => ?_) (fun c125 hf => ?_)
          · refine z_lv [] rfl ?_
            exact j143_0  σ hf
          · refine z_aload_n (q := 129) (i := 0) C 0 dX5_why_128 rfl rfl rfl ?_
            refine z_getR (q := 132) C flX5_12 dX5_why_129 hf rfl fun v22 hf => ?_
            refine z_getR (q := 135) C flX5_35 dX5_why_132 hf rfl fun v23 hf => ?_
            refine z_iload_n (q := 136) (i := 2) C 2 dX5_why_135 rfl rfl rfl ?_
            refine z_aaldR (q := 137) C 7 (by decide) (by decide) dX5_why_136 hf rfl fun v24 hf => ?_
            refine z_getI (q := 140) C flX5_103 dX5_why_137 hf rfl fun v25 hf => ?_
            refine z_ifeq (q := 143) (tgt := 147) C dX5_why_140 (by decide) rfl hf (fun c140 hf => ?_) (fun c140 hf => ?_)
            · refine z_lv [] rfl ?_
              exact j147_0  σ hf
            · refine z_lv [] rfl ?_
              exact j143_0  σ hf
      · refine z_iconst (q := 108) C (3 : Int32) dX5_why_107 ki_3 rfl ?_
        exact z_ireturn C rfl dX5_why_108 (Option.some.inj hf)
    · refine z_iconst (q := 96) C (2 : Int32) dX5_why_95 ki_2 rfl ?_
      exact z_ireturn C rfl dX5_why_96 (Option.some.inj hf)
  have j64_0 : ∀ (a0_64 : Nat) (i1_64 : Int32) (i2_64 : Int32) (i3_64 : Int32) (a4_64 : Nat) (w0_64 : Int32) (w1_64 : Int32) (σ : ZT), f_X5_why_J64 a0_64 i1_64 i2_64 i3_64 a4_64 w0_64 w1_64 σ = some out → ZW l G 6 X (ZQ G X (.returned (some (.int out.1))) out.2) σ 64 [(0, .ref a0_64), (1, .int i1_64), (2, .int i2_64), (3, .int i3_64), (4, .ref a4_64)] [.int w0_64, .int w1_64] := by
    intro a0_64 i1_64 i2_64 i3_64 a4_64 w0_64 w1_64 σ hf
    unfold f_X5_why_J64 at hf
    refine z_iadd (q := 65) C dX5_why_64 rfl ?_
    refine z_istore (q := 67) (i := 5) (lv' := [(5, .int (w1_64 + w0_64)), (0, .ref a0_64), (1, .int i1_64), (2, .int i2_64), (3, .int i3_64), (4, .ref a4_64)]) C dX5_why_65 (by decide) rfl rfl ?_
    refine z_aload_n (q := 68) (i := 0) C 1 dX5_why_67 rfl rfl rfl ?_
    refine z_iload_n (q := 69) (i := 3) C 4 dX5_why_68 rfl rfl rfl ?_
    refine z_aload_n (q := 70) (i := 0) C 1 dX5_why_69 rfl rfl rfl ?_
    refine z_getR (q := 73) C flX5_18 dX5_why_70 hf rfl fun v13 hf => ?_
    refine z_iload_n (q := 74) (i := 1) C 2 dX5_why_73 rfl rfl rfl ?_
    refine z_iald (q := 75) C dX5_why_74 hf rfl fun v14 hf => ?_
    refine z_aload (q := 77) (i := 4) C 5 dX5_why_75 rfl rfl ?_
    refine z_getI (q := 80) C flX5_79 dX5_why_77 hf rfl fun v15 hf => ?_
    refine z_icmpne (q := 83) (tgt := 88) C dX5_why_80 (by decide) rfl hf (fun c80 hf => ?_) (fun c80 hf => ?_)
    · refine z_iconst (q := 89) C (0 : Int32) dX5_why_88 ki_0 rfl ?_
      refine z_lv [1, 2, 3, 5, 0] rfl ?_
      exact j89_0 a0_64 i1_64 i2_64 a4_64 (w1_64 + w0_64) (0 : Int32) i3_64 a0_64 σ hf
    · refine z_iload (q := 85) (i := 5) C 0 dX5_why_83 rfl rfl ?_
      refine z_goto (q := 89) C dX5_why_85 (by decide) ?_
      refine z_lv [1, 2, 3, 5, 0] rfl ?_
      exact j89_0 a0_64 i1_64 i2_64 a4_64 (w1_64 + w0_64) (w1_64 + w0_64) i3_64 a0_64 σ hf
  have j46_0 : ∀ (a0_46 : Nat) (i1_46 : Int32) (i2_46 : Int32) (i3_46 : Int32) (a4_46 : Nat) (σ : ZT), f_X5_why_J46 a0_46 i1_46 i2_46 i3_46 a4_46 σ = some out → ZW l G 6 X (ZQ G X (.returned (some (.int out.1))) out.2) σ 46 [(0, .ref a0_46), (1, .int i1_46), (2, .int i2_46), (3, .int i3_46), (4, .ref a4_46)] [] := by
    intro a0_46 i1_46 i2_46 i3_46 a4_46 σ hf
    unfold f_X5_why_J46 at hf
    refine z_aload_n (q := 47) (i := 0) C 0 dX5_why_46 rfl rfl rfl ?_
    refine z_iload_n (q := 48) (i := 1) C 1 dX5_why_47 rfl rfl rfl ?_
    refine z_callVi (q := 51) (As := [.int i1_46]) C (fun o ho => m_X5_heavy _ _ _ ho) zk5 vvX5_97 cdX5_heavy pnX5 dX5_why_48 rfl (by decide) (Nat.le_of_ble_eq_true rfl) hf rfl fun v11 σ hf => ?_
    refine z_iload_n (q := 52) (i := 2) C 2 dX5_why_51 rfl rfl rfl ?_
    refine z_ifge (q := 55) (tgt := 59) C dX5_why_52 (by decide) rfl hf (fun c52 hf => ?_) (fun c52 hf => ?_)
    · refine z_aload_n (q := 60) (i := 0) C 0 dX5_why_59 rfl rfl rfl ?_
      refine z_iload_n (q := 61) (i := 2) C 2 dX5_why_60 rfl rfl rfl ?_
      refine z_callVi (q := 64) (As := [.int i2_46]) C (fun o ho => m_X5_heavy _ _ _ ho) zk5 vvX5_97 cdX5_heavy pnX5 dX5_why_61 rfl (by decide) (Nat.le_of_ble_eq_true rfl) hf rfl fun v12 σ hf => ?_
      exact j64_0 a0_46 i1_46 i2_46 i3_46 a4_46 v12 v11 σ hf
    · refine z_iconst (q := 56) C (0 : Int32) dX5_why_55 ki_0 rfl ?_
      refine z_goto (q := 64) C dX5_why_56 (by decide) ?_
      exact j64_0 a0_46 i1_46 i2_46 i3_46 a4_46 (0 : Int32) v11 σ hf
  have j44_0 : ∀  (σ : ZT), f_X5_why_J44  σ = some out → ZW l G 6 X (ZQ G X (.returned (some (.int out.1))) out.2) σ 44 [] [] := by
    intro  σ hf
    unfold f_X5_why_J44 at hf
    refine z_iconst (q := 45) C (1 : Int32) dX5_why_44 ki_1 rfl ?_
    exact z_ireturn C rfl dX5_why_45 (Option.some.inj hf)
  refine z_aload_n (q := 1) (i := 0) C 0 dX5_why_0 rfl rfl rfl ?_
  refine z_getR (q := 4) C flX5_12 dX5_why_1 hf rfl fun v1 hf => ?_
  refine z_getR (q := 7) C flX5_75 dX5_why_4 hf rfl fun v2 hf => ?_
  refine z_iload_n (q := 8) (i := 3) C 3 dX5_why_7 rfl rfl rfl ?_
  refine z_aaldR (q := 9) C 6 (by decide) (by decide) dX5_why_8 hf rfl fun v3 hf => ?_
  refine z_astore (q := 11) (i := 4) (lv' := [(4, .ref v3), (0, .ref a0), (1, .int i1), (2, .int i2), (3, .int i3)]) C dX5_why_9 (by decide) rfl rfl ?_
  refine z_aload (q := 13) (i := 4) C 0 dX5_why_11 rfl rfl ?_
  refine z_aload_n (q := 14) (i := 0) C 1 dX5_why_13 rfl rfl rfl ?_
  refine z_getR (q := 17) C flX5_18 dX5_why_14 hf rfl fun v4 hf => ?_
  refine z_iload_n (q := 18) (i := 1) C 2 dX5_why_17 rfl rfl rfl ?_
  refine z_iald (q := 19) C dX5_why_18 hf rfl fun v5 hf => ?_
  refine z_callVi (q := 22) (As := [.int v5]) C (fun o ho => m_X11_beyond _ _ _ ho) zk11 vvX5_94 cdX11_beyond pnX11 dX5_why_19 rfl (by decide) (Nat.le_of_ble_eq_true rfl) hf rfl fun v6 σ hf => ?_
  refine z_iflt (q := 25) (tgt := 44) C dX5_why_22 (by decide) rfl hf (fun c22 hf => ?_) (fun c22 hf => ?_)
  · refine z_lv [] rfl ?_
    exact j44_0  σ hf
  · refine z_iload_n (q := 26) (i := 2) C 3 dX5_why_25 rfl rfl rfl ?_
    refine z_iflt (q := 29) (tgt := 46) C dX5_why_26 (by decide) rfl hf (fun c26 hf => ?_) (fun c26 hf => ?_)
    · refine z_lv [1, 2, 3, 4, 0] rfl ?_
      exact j46_0 a0 i1 i2 i3 v3 σ hf
    · refine z_aload_n (q := 30) (i := 0) C 1 dX5_why_29 rfl rfl rfl ?_
      refine z_getR (q := 33) C flX5_18 dX5_why_30 hf rfl fun v7 hf => ?_
      refine z_iload_n (q := 34) (i := 2) C 3 dX5_why_33 rfl rfl rfl ?_
      refine z_iald (q := 35) C dX5_why_34 hf rfl fun v8 hf => ?_
      refine z_aload_n (q := 36) (i := 0) C 1 dX5_why_35 rfl rfl rfl ?_
      refine z_getR (q := 39) C flX5_18 dX5_why_36 hf rfl fun v9 hf => ?_
      refine z_iload_n (q := 40) (i := 1) C 2 dX5_why_39 rfl rfl rfl ?_
      refine z_iald (q := 41) C dX5_why_40 hf rfl fun v10 hf => ?_
      refine z_icmpeq (q := 44) (tgt := 46) C dX5_why_41 (by decide) rfl hf (fun c41 hf => ?_) (fun c41 hf => ?_)
      · refine z_lv [1, 2, 3, 4, 0] rfl ?_
        exact j46_0 a0 i1 i2 i3 v3 σ hf
      · refine z_lv [] rfl ?_
        exact j44_0  σ hf

noncomputable def f_X5_moves_J130  (σ : ZT) : Option (Int32 × ZT) :=
  some ((1 : Int32), σ)
noncomputable def f_X5_moves_J78 (a0_78 : Nat) (i1_78 : Int32) (i2_78 : Int32) (i3_78 : Int32) (i4_78 : Int32) (w0_78 : Int32) (w1_78 : Int32) (w2_78 : Nat) (σ : ZT) : Option (Int32 × ZT) :=
  bnd2 (vc 5 w2_78 σ (f_X5_why w2_78 w1_78 w0_78 i4_78 σ)) fun v7 σ =>
  if 0 < v7 then
  (some ((0 : Int32), σ))
  else
  ((gR 5 501 a0_78 σ).bind fun v8 =>
  (gR 5 500 a0_78 σ).bind fun v9 =>
  (gR 6 606 v9 σ).bind fun v10 =>
  (ldR 6 v10 i4_78 σ).bind fun v11 =>
  (gR 5 501 a0_78 σ).bind fun v12 =>
  (ldI 0 v12 i2_78 σ).bind fun v13 =>
  bnd2 (vc 11 v11 σ (f_X11_beyond v11 v13 σ)) fun v14 σ =>
  (stI v8 i2_78 v14 σ).bind fun σ =>
  if i1_78 = (1 : Int32) then
  ((gR 5 501 a0_78 σ).bind fun v15 =>
  (gR 5 501 a0_78 σ).bind fun v16 =>
  (ldI 0 v16 i2_78 σ).bind fun v17 =>
  (stI v15 i3_78 v17 σ).bind fun σ =>
  f_X5_moves_J130  σ)
  else
  (f_X5_moves_J130  σ))
noncomputable def f_X5_moves (a0 : Nat) (i1 : Int32) (i2 : Int32) (i3 : Int32) (i4 : Int32) (σ : ZT) : Option (Int32 × ZT) :=
  if i1 = (2 : Int32) then
  (bnd2 (vc 5 a0 σ (f_X5_canLift a0 i2 i4 σ)) fun v5 σ =>
  if v5 = 0 then
  (some ((0 : Int32), σ))
  else
  ((gR 5 502 a0 σ).bind fun v6 =>
  (stI v6 i4 ((6 : Int32) + i2) σ).bind fun σ =>
  f_X5_moves_J130  σ))
  else
  (if i1 = (3 : Int32) then
  (bnd2 (vc 5 a0 σ (f_X5_carried a0 i2 σ)) fun v1 σ =>
  if v1 < 0 then
  (some ((0 : Int32), σ))
  else
  ((gR 5 502 a0 σ).bind fun v2 =>
  (gR 5 501 a0 σ).bind fun v3 =>
  (ldI 0 v3 i2 σ).bind fun v4 =>
  (stI v2 v1 v4 σ).bind fun σ =>
  f_X5_moves_J130  σ))
  else
  (if i1 = (1 : Int32) then
  (f_X5_moves_J78 a0 i1 i2 i3 i4 i3 i2 a0 σ)
  else
  (f_X5_moves_J78 a0 i1 i2 i3 i4 (-1 : Int32) i2 a0 σ)))
set_option maxHeartbeats 4000000 in
theorem m_X5_moves {l : Launch} {G : ZG} (a0 : Nat) (i1 : Int32) (i2 : Int32) (i3 : Int32) (i4 : Int32) (σ : ZT) {out : (Int32 × ZT)} (hf : f_X5_moves a0 i1 i2 i3 i4 σ = some out) : ZM l G yX5_moves cX5_moves 6 (some .boolean) [] 5 [.ref a0, .int i1, .int i2, .int i3, .int i4] σ (.returned (some (.int out.1))) out.2 := by
  refine ZM.of [(0, .ref a0), (1, .int i1), (2, .int i2), (3, .int i3), (4, .int i4)] rfl (Nat.le_of_ble_eq_true rfl) fun X (C : ZC G RX5 "moves" cX5_moves 6 (some .boolean) [] X 5) => ?_
  unfold f_X5_moves at hf
  have j130_0 : ∀  (σ : ZT), f_X5_moves_J130  σ = some out → ZW l G 6 X (ZQ G X (.returned (some (.int out.1))) out.2) σ 130 [] [] := by
    intro  σ hf
    unfold f_X5_moves_J130 at hf
    refine z_iconst (q := 131) C (1 : Int32) dX5_moves_130 ki_1 rfl ?_
    exact z_zreturn C rfl z_nb1 dX5_moves_131 (Option.some.inj hf)
  have j78_0 : ∀ (a0_78 : Nat) (i1_78 : Int32) (i2_78 : Int32) (i3_78 : Int32) (i4_78 : Int32) (w0_78 : Int32) (w1_78 : Int32) (w2_78 : Nat) (σ : ZT), f_X5_moves_J78 a0_78 i1_78 i2_78 i3_78 i4_78 w0_78 w1_78 w2_78 σ = some out → ZW l G 6 X (ZQ G X (.returned (some (.int out.1))) out.2) σ 78 [(0, .ref a0_78), (1, .int i1_78), (2, .int i2_78), (3, .int i3_78), (4, .int i4_78)] [.int w0_78, .int w1_78, .ref w2_78] := by
    intro a0_78 i1_78 i2_78 i3_78 i4_78 w0_78 w1_78 w2_78 σ hf
    unfold f_X5_moves_J78 at hf
    refine z_iload (q := 80) (i := 4) C 4 dX5_moves_78 rfl rfl ?_
    refine z_callVi (q := 83) (As := [.int w1_78, .int w0_78, .int i4_78]) C (fun o ho => m_X5_why _ _ _ _ _ ho) zk5 vvX5_113 cdX5_why pnX5 dX5_moves_80 rfl (by decide) (Nat.le_of_ble_eq_true rfl) hf rfl fun v7 σ hf => ?_
    refine z_ifle (q := 86) (tgt := 88) C dX5_moves_83 (by decide) rfl hf (fun c83 hf => ?_) (fun c83 hf => ?_)
    · refine z_aload_n (q := 89) (i := 0) C 0 dX5_moves_88 rfl rfl rfl ?_
      refine z_getR (q := 92) C flX5_18 dX5_moves_89 hf rfl fun v8 hf => ?_
      refine z_iload_n (q := 93) (i := 2) C 2 dX5_moves_92 rfl rfl rfl ?_
      refine z_aload_n (q := 94) (i := 0) C 0 dX5_moves_93 rfl rfl rfl ?_
      refine z_getR (q := 97) C flX5_12 dX5_moves_94 hf rfl fun v9 hf => ?_
      refine z_getR (q := 100) C flX5_75 dX5_moves_97 hf rfl fun v10 hf => ?_
      refine z_iload (q := 102) (i := 4) C 4 dX5_moves_100 rfl rfl ?_
      refine z_aaldR (q := 103) C 6 (by decide) (by decide) dX5_moves_102 hf rfl fun v11 hf => ?_
      refine z_aload_n (q := 104) (i := 0) C 0 dX5_moves_103 rfl rfl rfl ?_
      refine z_getR (q := 107) C flX5_18 dX5_moves_104 hf rfl fun v12 hf => ?_
      refine z_iload_n (q := 108) (i := 2) C 2 dX5_moves_107 rfl rfl rfl ?_
      refine z_iald (q := 109) C dX5_moves_108 hf rfl fun v13 hf => ?_
      refine z_callVi (q := 112) (As := [.int v13]) C (fun o ho => m_X11_beyond _ _ _ ho) zk11 vvX5_94 cdX11_beyond pnX11 dX5_moves_109 rfl (by decide) (Nat.le_of_ble_eq_true rfl) hf rfl fun v14 σ hf => ?_
      refine z_iast (q := 113) C dX5_moves_112 hf rfl fun σ hf => ?_
      refine z_iload_n (q := 114) (i := 1) C 1 dX5_moves_113 rfl rfl rfl ?_
      refine z_iconst (q := 115) C (1 : Int32) dX5_moves_114 ki_1 rfl ?_
      refine z_icmpne (q := 118) (tgt := 130) C dX5_moves_115 (by decide) rfl hf (fun c115 hf => ?_) (fun c115 hf => ?_)
      · refine z_lv [] rfl ?_
        exact j130_0  σ hf
      · refine z_aload_n (q := 119) (i := 0) C 0 dX5_moves_118 rfl rfl rfl ?_
        refine z_getR (q := 122) C flX5_18 dX5_moves_119 hf rfl fun v15 hf => ?_
        refine z_iload_n (q := 123) (i := 3) C 3 dX5_moves_122 rfl rfl rfl ?_
        refine z_aload_n (q := 124) (i := 0) C 0 dX5_moves_123 rfl rfl rfl ?_
        refine z_getR (q := 127) C flX5_18 dX5_moves_124 hf rfl fun v16 hf => ?_
        refine z_iload_n (q := 128) (i := 2) C 2 dX5_moves_127 rfl rfl rfl ?_
        refine z_iald (q := 129) C dX5_moves_128 hf rfl fun v17 hf => ?_
        refine z_iast (q := 130) C dX5_moves_129 hf rfl fun σ hf => ?_
        refine z_lv [] rfl ?_
        exact j130_0  σ hf
    · refine z_iconst (q := 87) C (0 : Int32) dX5_moves_86 ki_0 rfl ?_
      exact z_zreturn C rfl z_nb0 dX5_moves_87 (Option.some.inj hf)
  refine z_iload_n (q := 1) (i := 1) C 1 dX5_moves_0 rfl rfl rfl ?_
  refine z_iconst (q := 2) C (2 : Int32) dX5_moves_1 ki_2 rfl ?_
  refine z_icmpne (q := 5) (tgt := 31) C dX5_moves_2 (by decide) rfl hf (fun c2 hf => ?_) (fun c2 hf => ?_)
  · refine z_iload_n (q := 32) (i := 1) C 1 dX5_moves_31 rfl rfl rfl ?_
    refine z_iconst (q := 33) C (3 : Int32) dX5_moves_32 ki_3 rfl ?_
    refine z_icmpne (q := 36) (tgt := 66) C dX5_moves_33 (by decide) rfl hf (fun c33 hf => ?_) (fun c33 hf => ?_)
    · refine z_aload_n (q := 67) (i := 0) C 0 dX5_moves_66 rfl rfl rfl ?_
      refine z_iload_n (q := 68) (i := 2) C 2 dX5_moves_67 rfl rfl rfl ?_
      refine z_iload_n (q := 69) (i := 1) C 1 dX5_moves_68 rfl rfl rfl ?_
      refine z_iconst (q := 70) C (1 : Int32) dX5_moves_69 ki_1 rfl ?_
      refine z_icmpne (q := 73) (tgt := 77) C dX5_moves_70 (by decide) rfl hf (fun c70 hf => ?_) (fun c70 hf => ?_)
      · refine z_iconst (q := 78) C (-1 : Int32) dX5_moves_77 ki_m1 rfl ?_
        exact j78_0 a0 i1 i2 i3 i4 (-1 : Int32) i2 a0 σ hf
      · refine z_iload_n (q := 74) (i := 3) C 3 dX5_moves_73 rfl rfl rfl ?_
        refine z_goto (q := 78) C dX5_moves_74 (by decide) ?_
        exact j78_0 a0 i1 i2 i3 i4 i3 i2 a0 σ hf
    · refine z_aload_n (q := 37) (i := 0) C 0 dX5_moves_36 rfl rfl rfl ?_
      refine z_iload_n (q := 38) (i := 2) C 2 dX5_moves_37 rfl rfl rfl ?_
      refine z_callVi (q := 41) (As := [.int i2]) C (fun o ho => m_X5_carried _ _ _ ho) zk5 vvX5_58 cdX5_carried pnX5 dX5_moves_38 rfl (by decide) (Nat.le_of_ble_eq_true rfl) hf rfl fun v1 σ hf => ?_
      refine z_istore (q := 43) (i := 5) (lv' := [(5, .int v1), (0, .ref a0), (1, .int i1), (2, .int i2), (3, .int i3), (4, .int i4)]) C dX5_moves_41 (by decide) rfl rfl ?_
      refine z_iload (q := 45) (i := 5) C 0 dX5_moves_43 rfl rfl ?_
      refine z_ifge (q := 48) (tgt := 50) C dX5_moves_45 (by decide) rfl hf (fun c45 hf => ?_) (fun c45 hf => ?_)
      · refine z_aload_n (q := 51) (i := 0) C 1 dX5_moves_50 rfl rfl rfl ?_
        refine z_getR (q := 54) C flX5_22 dX5_moves_51 hf rfl fun v2 hf => ?_
        refine z_iload (q := 56) (i := 5) C 0 dX5_moves_54 rfl rfl ?_
        refine z_aload_n (q := 57) (i := 0) C 1 dX5_moves_56 rfl rfl rfl ?_
        refine z_getR (q := 60) C flX5_18 dX5_moves_57 hf rfl fun v3 hf => ?_
        refine z_iload_n (q := 61) (i := 2) C 3 dX5_moves_60 rfl rfl rfl ?_
        refine z_iald (q := 62) C dX5_moves_61 hf rfl fun v4 hf => ?_
        refine z_iast (q := 63) C dX5_moves_62 hf rfl fun σ hf => ?_
        refine z_goto (q := 130) C dX5_moves_63 (by decide) ?_
        refine z_lv [] rfl ?_
        exact j130_0  σ hf
      · refine z_iconst (q := 49) C (0 : Int32) dX5_moves_48 ki_0 rfl ?_
        exact z_zreturn C rfl z_nb0 dX5_moves_49 (Option.some.inj hf)
  · refine z_aload_n (q := 6) (i := 0) C 0 dX5_moves_5 rfl rfl rfl ?_
    refine z_iload_n (q := 7) (i := 2) C 2 dX5_moves_6 rfl rfl rfl ?_
    refine z_iload (q := 9) (i := 4) C 4 dX5_moves_7 rfl rfl ?_
    refine z_callVi (q := 12) (As := [.int i2, .int i4]) C (fun o ho => m_X5_canLift _ _ _ _ ho) zk5 vvX5_110 cdX5_canLift pnX5 dX5_moves_9 rfl (by decide) (Nat.le_of_ble_eq_true rfl) hf rfl fun v5 σ hf => ?_
    refine z_ifne (q := 15) (tgt := 17) C dX5_moves_12 (by decide) rfl hf (fun c12 hf => ?_) (fun c12 hf => ?_)
    · refine z_aload_n (q := 18) (i := 0) C 0 dX5_moves_17 rfl rfl rfl ?_
      refine z_getR (q := 21) C flX5_22 dX5_moves_18 hf rfl fun v6 hf => ?_
      refine z_iload (q := 23) (i := 4) C 4 dX5_moves_21 rfl rfl ?_
      refine z_bipush (q := 25) C (6 : Int32) dX5_moves_23 kb_6 rfl ?_
      refine z_iload_n (q := 26) (i := 2) C 2 dX5_moves_25 rfl rfl rfl ?_
      refine z_iadd (q := 27) C dX5_moves_26 rfl ?_
      refine z_iast (q := 28) C dX5_moves_27 hf rfl fun σ hf => ?_
      refine z_goto (q := 130) C dX5_moves_28 (by decide) ?_
      refine z_lv [] rfl ?_
      exact j130_0  σ hf
    · refine z_iconst (q := 16) C (0 : Int32) dX5_moves_15 ki_0 rfl ?_
      exact z_zreturn C rfl z_nb0 dX5_moves_16 (Option.some.inj hf)

noncomputable def f_X5_begin_L38 (c0_38 : Nat) (c1_38 : Nat) (i_3 : Int32) (σ : ZT) : Option ((Int32 × ZT) ⊕ ZT) :=
  (gI 6 603 c1_38 σ).bind fun v4 =>
  if i_3 < v4 then
  ((gR 5 502 c0_38 σ).bind fun v5 =>
  (gR 6 608 c1_38 σ).bind fun v6 =>
  (ldR 8 v6 i_3 σ).bind fun v7 =>
  (gI 13 1302 v7 σ).bind fun v8 =>
  (stI v5 i_3 v8 σ).bind fun σ =>
  some (.inl ((i_3 + (1 : Int32)), σ)))
  else
  (some (.inr σ))
noncomputable def f_X5_begin_L7 (c0_7 : Nat) (c1_7 : Nat) (i_1 : Int32) (σ : ZT) : Option ((Int32 × ZT) ⊕ ZT) :=
  (gI 6 602 c1_7 σ).bind fun v2 =>
  if i_1 < v2 then
  ((gR 5 501 c0_7 σ).bind fun v9 =>
  (gR 6 607 c1_7 σ).bind fun v10 =>
  (ldR 7 v10 i_1 σ).bind fun v11 =>
  (gI 12 1202 v11 σ).bind fun v12 =>
  (stI v9 i_1 v12 σ).bind fun σ =>
  some (.inl ((i_1 + (1 : Int32)), σ)))
  else
  (some (.inr σ))
noncomputable def f_X5_begin (a0 : Nat) (a1 : Nat) (σ : ZT) : Option ZT :=
  (pR 5 500 a0 (some a1) σ).bind fun σ =>
  (loopC (fun s : (Int32 × ZT) => f_X5_begin_L7 a0 a1 s.1 s.2) ((0 : Int32), σ)).bind fun σ =>
  (loopC (fun s : (Int32 × ZT) => f_X5_begin_L38 a0 a1 s.1 s.2) ((0 : Int32), σ)).bind fun σ =>
  some σ
set_option maxHeartbeats 4000000 in
theorem m_X5_begin {l : Launch} {G : ZG} (a0 : Nat) (a1 : Nat) (σ : ZT) {out : ZT} (hf : f_X5_begin a0 a1 σ = some out) : ZM l G yX5_begin cX5_begin 3 none [] 1 [.ref a0, .ref a1] σ (.returned none) out := by
  refine ZM.of [(0, .ref a0), (1, .ref a1)] rfl (Nat.le_of_ble_eq_true rfl) fun X (C : ZC G RX5 "begin" cX5_begin 3 none [] X 1) => ?_
  unfold f_X5_begin at hf
  refine z_aload_n (q := 1) (i := 0) C 0 dX5_begin_0 rfl rfl rfl ?_
  refine z_aload_n (q := 2) (i := 1) C 1 dX5_begin_1 rfl rfl rfl ?_
  refine z_putR (q := 5) C puX5_12 rfl dX5_begin_2 hf rfl fun σ hf => ?_
  refine z_iconst (q := 6) C (0 : Int32) dX5_begin_5 ki_0 rfl ?_
  refine z_istore_n (q := 7) (i := 2) (lv' := [(2, .int (0 : Int32)), (0, .ref a0), (1, .ref a1)]) C dX5_begin_6 rfl (by decide) rfl rfl ?_
  refine z_lv [1, 2, 0] rfl ?_
  obtain ⟨r1, hr1, hk1⟩ := Option.bind_eq_some_iff.mp hf
  refine loopC_ind (P := fun s => ZW l G 3 X (ZQ G X (.returned none) out) s.2 7 [(0, .ref a0), (1, .ref a1), (2, .int s.1)] []) (fun s x1 hf hx1 => ?_) hr1
  obtain ⟨i_1, σ⟩ := s
  unfold f_X5_begin_L7 at hf
  try dsimp only at hf
  try dsimp only
  refine z_iload_n (q := 8) (i := 2) C 2 dX5_begin_7 rfl rfl rfl ?_
  refine z_aload_n (q := 9) (i := 1) C 1 dX5_begin_8 rfl rfl rfl ?_
  refine z_getI (q := 12) C flX5_32 dX5_begin_9 hf rfl fun v2 hf => ?_
  refine z_icmpge (q := 15) (tgt := 36) C dX5_begin_12 (by decide) rfl hf (fun c12 hf => ?_) (fun c12 hf => ?_)
  · have e1 := zl_x hf hx1
    have hf := hk1
    rw [← e1] at hf
    try dsimp only at hf
    refine z_iconst (q := 37) C (0 : Int32) dX5_begin_36 ki_0 rfl ?_
    refine z_istore_n (q := 38) (i := 2) (lv' := [(2, .int (0 : Int32)), (0, .ref a0), (1, .ref a1)]) C dX5_begin_37 rfl (by decide) rfl rfl ?_
    refine z_lv [1, 2, 0] rfl ?_
    obtain ⟨r1, hr1, hk1⟩ := Option.bind_eq_some_iff.mp hf
    refine loopC_ind (P := fun s => ZW l G 3 X (ZQ G X (.returned none) out) s.2 38 [(0, .ref a0), (1, .ref a1), (2, .int s.1)] []) (fun s x1 hf hx1 => ?_) hr1
    obtain ⟨i_3, σ⟩ := s
    unfold f_X5_begin_L38 at hf
    try dsimp only at hf
    try dsimp only
    refine z_iload_n (q := 39) (i := 2) C 2 dX5_begin_38 rfl rfl rfl ?_
    refine z_aload_n (q := 40) (i := 1) C 1 dX5_begin_39 rfl rfl rfl ?_
    refine z_getI (q := 43) C flX5_43 dX5_begin_40 hf rfl fun v4 hf => ?_
    refine z_icmpge (q := 46) (tgt := 67) C dX5_begin_43 (by decide) rfl hf (fun c43 hf => ?_) (fun c43 hf => ?_)
    · have e1 := zl_x hf hx1
      have hf := hk1
      rw [← e1] at hf
      try dsimp only at hf
      exact z_return C rfl dX5_begin_67 (Option.some.inj hf)
    · refine z_aload_n (q := 47) (i := 0) C 0 dX5_begin_46 rfl rfl rfl ?_
      refine z_getR (q := 50) C flX5_22 dX5_begin_47 hf rfl fun v5 hf => ?_
      refine z_iload_n (q := 51) (i := 2) C 2 dX5_begin_50 rfl rfl rfl ?_
      refine z_aload_n (q := 52) (i := 1) C 1 dX5_begin_51 rfl rfl rfl ?_
      refine z_getR (q := 55) C flX5_46 dX5_begin_52 hf rfl fun v6 hf => ?_
      refine z_iload_n (q := 56) (i := 2) C 2 dX5_begin_55 rfl rfl rfl ?_
      refine z_aaldR (q := 57) C 8 (by decide) (by decide) dX5_begin_56 hf rfl fun v7 hf => ?_
      refine z_getI (q := 60) C flX5_49 dX5_begin_57 hf rfl fun v8 hf => ?_
      refine z_iast (q := 61) C dX5_begin_60 hf rfl fun σ hf => ?_
      refine z_iinc (q := 64) (i := 2) (lv' := [(2, .int (i_3 + (1 : Int32))), (0, .ref a0), (1, .ref a1)]) C 2 (i_3 + (1 : Int32)) dX5_begin_61 rfl (kn_1 _) (by decide) rfl rfl ?_
      refine z_goto (q := 38) C dX5_begin_64 (by decide) ?_
      refine z_lv [1, 2, 0] rfl ?_
      have hc1 := zl_c hf hx1
      exact hc1
  · refine z_aload_n (q := 16) (i := 0) C 0 dX5_begin_15 rfl rfl rfl ?_
    refine z_getR (q := 19) C flX5_18 dX5_begin_16 hf rfl fun v9 hf => ?_
    refine z_iload_n (q := 20) (i := 2) C 2 dX5_begin_19 rfl rfl rfl ?_
    refine z_aload_n (q := 21) (i := 1) C 1 dX5_begin_20 rfl rfl rfl ?_
    refine z_getR (q := 24) C flX5_35 dX5_begin_21 hf rfl fun v10 hf => ?_
    refine z_iload_n (q := 25) (i := 2) C 2 dX5_begin_24 rfl rfl rfl ?_
    refine z_aaldR (q := 26) C 7 (by decide) (by decide) dX5_begin_25 hf rfl fun v11 hf => ?_
    refine z_getI (q := 29) C flX5_39 dX5_begin_26 hf rfl fun v12 hf => ?_
    refine z_iast (q := 30) C dX5_begin_29 hf rfl fun σ hf => ?_
    refine z_iinc (q := 33) (i := 2) (lv' := [(2, .int (i_1 + (1 : Int32))), (0, .ref a0), (1, .ref a1)]) C 2 (i_1 + (1 : Int32)) dX5_begin_30 rfl (kn_1 _) (by decide) rfl rfl ?_
    refine z_goto (q := 7) C dX5_begin_33 (by decide) ?_
    refine z_lv [1, 2, 0] rfl ?_
    have hc1 := zl_c hf hx1
    exact hc1

noncomputable def f_X5_be (a0 : Nat) (a1 : Nat) (σ : ZT) : Option ZT :=
  (gR 5 500 a1 σ).bind fun v1 =>
  (pR 5 500 a0 (some v1) σ).bind fun σ =>
  (gR 5 501 a1 σ).bind fun v2 =>
  (gR 5 501 a0 σ).bind fun v3 =>
  (cpI v2 (0 : Int32) v3 (0 : Int32) (4 : Int32) σ).bind fun σ =>
  (gR 5 502 a1 σ).bind fun v4 =>
  (gR 5 502 a0 σ).bind fun v5 =>
  (cpI v4 (0 : Int32) v5 (0 : Int32) (2 : Int32) σ).bind fun σ =>
  some σ
set_option maxHeartbeats 4000000 in
theorem m_X5_be {l : Launch} {G : ZG} (a0 : Nat) (a1 : Nat) (σ : ZT) {out : ZT} (hf : f_X5_be a0 a1 σ = some out) : ZM l G yX5_be cX5_be 2 none [] 6 [.ref a0, .ref a1] σ (.returned none) out := by
  refine ZM.of [(0, .ref a0), (1, .ref a1)] rfl (Nat.le_of_ble_eq_true rfl) fun X (C : ZC G RX5 "be" cX5_be 2 none [] X 6) => ?_
  unfold f_X5_be at hf
  refine z_aload_n (q := 1) (i := 0) C 0 dX5_be_0 rfl rfl rfl ?_
  refine z_aload_n (q := 2) (i := 1) C 1 dX5_be_1 rfl rfl rfl ?_
  refine z_getR (q := 5) C flX5_12 dX5_be_2 hf rfl fun v1 hf => ?_
  refine z_putR (q := 8) C puX5_12 rfl dX5_be_5 hf rfl fun σ hf => ?_
  refine z_aload_n (q := 9) (i := 1) C 1 dX5_be_8 rfl rfl rfl ?_
  refine z_getR (q := 12) C flX5_18 dX5_be_9 hf rfl fun v2 hf => ?_
  refine z_iconst (q := 13) C (0 : Int32) dX5_be_12 ki_0 rfl ?_
  refine z_aload_n (q := 14) (i := 0) C 0 dX5_be_13 rfl rfl rfl ?_
  refine z_getR (q := 17) C flX5_18 dX5_be_14 hf rfl fun v3 hf => ?_
  refine z_iconst (q := 18) C (0 : Int32) dX5_be_17 ki_0 rfl ?_
  refine z_iconst (q := 19) C (4 : Int32) dX5_be_18 ki_4 rfl ?_
  refine z_cpyI (q := 22) C q1351 dX5_be_19 (by decide) (Nat.le_of_ble_eq_true rfl) hf rfl fun σ hf => ?_
  refine z_aload_n (q := 23) (i := 1) C 1 dX5_be_22 rfl rfl rfl ?_
  refine z_getR (q := 26) C flX5_22 dX5_be_23 hf rfl fun v4 hf => ?_
  refine z_iconst (q := 27) C (0 : Int32) dX5_be_26 ki_0 rfl ?_
  refine z_aload_n (q := 28) (i := 0) C 0 dX5_be_27 rfl rfl rfl ?_
  refine z_getR (q := 31) C flX5_22 dX5_be_28 hf rfl fun v5 hf => ?_
  refine z_iconst (q := 32) C (0 : Int32) dX5_be_31 ki_0 rfl ?_
  refine z_iconst (q := 33) C (2 : Int32) dX5_be_32 ki_2 rfl ?_
  refine z_cpyI (q := 36) C q1351 dX5_be_33 (by decide) (Nat.le_of_ble_eq_true rfl) hf rfl fun σ hf => ?_
  exact z_return C rfl dX5_be_36 (Option.some.inj hf)

noncomputable def f_X7_add (a0 : Nat) (i1 : Int32) (i2 : Int32) (i3 : Int32) (i4 : Int32) (σ : ZT) : Option ZT :=
  (gR 7 700 a0 σ).bind fun v1 =>
  (gI 7 704 a0 σ).bind fun v2 =>
  (stI v1 v2 i1 σ).bind fun σ =>
  (gR 7 701 a0 σ).bind fun v3 =>
  (gI 7 704 a0 σ).bind fun v4 =>
  (stI v3 v4 i2 σ).bind fun σ =>
  (gR 7 702 a0 σ).bind fun v5 =>
  (gI 7 704 a0 σ).bind fun v6 =>
  (stI v5 v6 i3 σ).bind fun σ =>
  (gR 7 703 a0 σ).bind fun v7 =>
  (gI 7 704 a0 σ).bind fun v8 =>
  (stI v7 v8 i4 σ).bind fun σ =>
  (gI 7 704 a0 σ).bind fun v9 =>
  (pI 7 704 a0 (v9 + (1 : Int32)) σ).bind fun σ =>
  some σ
set_option maxHeartbeats 4000000 in
theorem m_X7_add {l : Launch} {G : ZG} (a0 : Nat) (i1 : Int32) (i2 : Int32) (i3 : Int32) (i4 : Int32) (σ : ZT) {out : ZT} (hf : f_X7_add a0 i1 i2 i3 i4 σ = some out) : ZM l G yX7_add cX7_add 5 none [] 1 [.ref a0, .int i1, .int i2, .int i3, .int i4] σ (.returned none) out := by
  refine ZM.of [(0, .ref a0), (1, .int i1), (2, .int i2), (3, .int i3), (4, .int i4)] rfl (Nat.le_of_ble_eq_true rfl) fun X (C : ZC G RX7 "add" cX7_add 5 none [] X 1) => ?_
  unfold f_X7_add at hf
  refine z_aload_n (q := 1) (i := 0) C 0 dX7_add_0 rfl rfl rfl ?_
  refine z_getR (q := 4) C flX7_11 dX7_add_1 hf rfl fun v1 hf => ?_
  refine z_aload_n (q := 5) (i := 0) C 0 dX7_add_4 rfl rfl rfl ?_
  refine z_getI (q := 8) C flX7_24 dX7_add_5 hf rfl fun v2 hf => ?_
  refine z_iload_n (q := 9) (i := 1) C 1 dX7_add_8 rfl rfl rfl ?_
  refine z_iast (q := 10) C dX7_add_9 hf rfl fun σ hf => ?_
  refine z_aload_n (q := 11) (i := 0) C 0 dX7_add_10 rfl rfl rfl ?_
  refine z_getR (q := 14) C flX7_15 dX7_add_11 hf rfl fun v3 hf => ?_
  refine z_aload_n (q := 15) (i := 0) C 0 dX7_add_14 rfl rfl rfl ?_
  refine z_getI (q := 18) C flX7_24 dX7_add_15 hf rfl fun v4 hf => ?_
  refine z_iload_n (q := 19) (i := 2) C 2 dX7_add_18 rfl rfl rfl ?_
  refine z_iast (q := 20) C dX7_add_19 hf rfl fun σ hf => ?_
  refine z_aload_n (q := 21) (i := 0) C 0 dX7_add_20 rfl rfl rfl ?_
  refine z_getR (q := 24) C flX7_18 dX7_add_21 hf rfl fun v5 hf => ?_
  refine z_aload_n (q := 25) (i := 0) C 0 dX7_add_24 rfl rfl rfl ?_
  refine z_getI (q := 28) C flX7_24 dX7_add_25 hf rfl fun v6 hf => ?_
  refine z_iload_n (q := 29) (i := 3) C 3 dX7_add_28 rfl rfl rfl ?_
  refine z_iast (q := 30) C dX7_add_29 hf rfl fun σ hf => ?_
  refine z_aload_n (q := 31) (i := 0) C 0 dX7_add_30 rfl rfl rfl ?_
  refine z_getR (q := 34) C flX7_21 dX7_add_31 hf rfl fun v7 hf => ?_
  refine z_aload_n (q := 35) (i := 0) C 0 dX7_add_34 rfl rfl rfl ?_
  refine z_getI (q := 38) C flX7_24 dX7_add_35 hf rfl fun v8 hf => ?_
  refine z_iload (q := 40) (i := 4) C 4 dX7_add_38 rfl rfl ?_
  refine z_iast (q := 41) C dX7_add_40 hf rfl fun σ hf => ?_
  refine z_aload_n (q := 42) (i := 0) C 0 dX7_add_41 rfl rfl rfl ?_
  refine z_dup (q := 43) C dX7_add_42 rfl rfl ?_
  refine z_getI (q := 46) C flX7_24 dX7_add_43 hf rfl fun v9 hf => ?_
  refine z_iconst (q := 47) C (1 : Int32) dX7_add_46 ki_1 rfl ?_
  refine z_iadd (q := 48) C dX7_add_47 rfl ?_
  refine z_putI (q := 51) C puX7_24 dX7_add_48 hf rfl fun σ hf => ?_
  exact z_return C rfl dX7_add_51 (Option.some.inj hf)

noncomputable def f_X7_tell_L148 (c0_148 : Nat) (c1_148 : Nat) (i_7 : Int32) (σ : ZT) : Option ((Int32 × ZT) ⊕ ZT) :=
  (gI 6 602 c1_148 σ).bind fun v8 =>
  if i_7 < v8 then
  ((vc 7 c0_148 σ (f_X7_add c0_148 (3 : Int32) i_7 (-1 : Int32) (-1 : Int32) σ)).bind fun σ =>
  some (.inl ((i_7 + (1 : Int32)), σ)))
  else
  (some (.inr σ))
noncomputable def f_X7_tell_L118 (c0_118 : Nat) (c1_118 : Nat) (c2_118 : Int32) (i_10 : Int32) (σ : ZT) : Option ((Int32 × ZT) ⊕ ZT) :=
  (gI 6 603 c1_118 σ).bind fun v11 =>
  if i_10 < v11 then
  ((vc 7 c0_118 σ (f_X7_add c0_118 (2 : Int32) c2_118 (-1 : Int32) i_10 σ)).bind fun σ =>
  some (.inl ((i_10 + (1 : Int32)), σ)))
  else
  (some (.inr σ))
noncomputable def f_X7_tell_L108 (c0_108 : Nat) (c1_108 : Nat) (i_5 : Int32) (σ : ZT) : Option ((Int32 × ZT) ⊕ ZT) :=
  (gI 6 602 c1_108 σ).bind fun v6 =>
  if i_5 < v6 then
  ((loopC (fun s : (Int32 × ZT) => f_X7_tell_L118 c0_108 c1_108 i_5 s.1 s.2) ((0 : Int32), σ)).bind fun σ =>
  some (.inl ((i_5 + (1 : Int32)), σ)))
  else
  (some (.inr σ))
noncomputable def f_X7_tell_L70 (c0_70 : Nat) (c1_70 : Nat) (c2_70 : Int32) (c3_70 : Int32) (i_18 : Int32) (σ : ZT) : Option ((Int32 × ZT) ⊕ ZT) :=
  (gI 6 601 c1_70 σ).bind fun v19 =>
  if i_18 < v19 then
  ((vc 7 c0_70 σ (f_X7_add c0_70 (1 : Int32) c2_70 c3_70 i_18 σ)).bind fun σ =>
  some (.inl ((i_18 + (1 : Int32)), σ)))
  else
  (some (.inr σ))
noncomputable def f_X7_tell_L59 (c0_59 : Nat) (c1_59 : Nat) (c2_59 : Int32) (i_16 : Int32) (σ : ZT) : Option ((Int32 × ZT) ⊕ ZT) :=
  (gI 6 602 c1_59 σ).bind fun v17 =>
  if i_16 < v17 then
  ((loopC (fun s : (Int32 × ZT) => f_X7_tell_L70 c0_59 c1_59 c2_59 i_16 s.1 s.2) ((0 : Int32), σ)).bind fun σ =>
  some (.inl ((i_16 + (1 : Int32)), σ)))
  else
  (some (.inr σ))
noncomputable def f_X7_tell_L47 (c0_47 : Nat) (c1_47 : Nat) (i_3 : Int32) (σ : ZT) : Option ((Int32 × ZT) ⊕ ZT) :=
  (gI 6 602 c1_47 σ).bind fun v4 =>
  if i_3 < v4 then
  ((loopC (fun s : (Int32 × ZT) => f_X7_tell_L59 c0_47 c1_47 i_3 s.1 s.2) ((i_3 + (1 : Int32)), σ)).bind fun σ =>
  some (.inl ((i_3 + (1 : Int32)), σ)))
  else
  (some (.inr σ))
noncomputable def f_X7_tell_L17 (c0_17 : Nat) (c1_17 : Nat) (c2_17 : Int32) (i_32 : Int32) (σ : ZT) : Option ((Int32 × ZT) ⊕ ZT) :=
  (gI 6 601 c1_17 σ).bind fun v33 =>
  if i_32 < v33 then
  ((vc 7 c0_17 σ (f_X7_add c0_17 (0 : Int32) c2_17 (-1 : Int32) i_32 σ)).bind fun σ =>
  some (.inl ((i_32 + (1 : Int32)), σ)))
  else
  (some (.inr σ))
noncomputable def f_X7_tell_L7 (c0_7 : Nat) (c1_7 : Nat) (i_1 : Int32) (σ : ZT) : Option ((Int32 × ZT) ⊕ ZT) :=
  (gI 6 602 c1_7 σ).bind fun v2 =>
  if i_1 < v2 then
  ((loopC (fun s : (Int32 × ZT) => f_X7_tell_L17 c0_7 c1_7 i_1 s.1 s.2) ((0 : Int32), σ)).bind fun σ =>
  some (.inl ((i_1 + (1 : Int32)), σ)))
  else
  (some (.inr σ))
noncomputable def f_X7_tell (a0 : Nat) (a1 : Nat) (σ : ZT) : Option ZT :=
  (pI 7 704 a0 (0 : Int32) σ).bind fun σ =>
  (loopC (fun s : (Int32 × ZT) => f_X7_tell_L7 a0 a1 s.1 s.2) ((0 : Int32), σ)).bind fun σ =>
  (loopC (fun s : (Int32 × ZT) => f_X7_tell_L47 a0 a1 s.1 s.2) ((0 : Int32), σ)).bind fun σ =>
  (loopC (fun s : (Int32 × ZT) => f_X7_tell_L108 a0 a1 s.1 s.2) ((0 : Int32), σ)).bind fun σ =>
  (loopC (fun s : (Int32 × ZT) => f_X7_tell_L148 a0 a1 s.1 s.2) ((0 : Int32), σ)).bind fun σ =>
  some σ
set_option maxHeartbeats 4000000 in
theorem m_X7_tell {l : Launch} {G : ZG} (a0 : Nat) (a1 : Nat) (σ : ZT) {out : ZT} (hf : f_X7_tell a0 a1 σ = some out) : ZM l G yX7_tell cX7_tell 5 none [] 2 [.ref a0, .ref a1] σ (.returned none) out := by
  refine ZM.of [(0, .ref a0), (1, .ref a1)] rfl (Nat.le_of_ble_eq_true rfl) fun X (C : ZC G RX7 "tell" cX7_tell 5 none [] X 2) => ?_
  unfold f_X7_tell at hf
  refine z_aload_n (q := 1) (i := 0) C 0 dX7_tell_0 rfl rfl rfl ?_
  refine z_iconst (q := 2) C (0 : Int32) dX7_tell_1 ki_0 rfl ?_
  refine z_putI (q := 5) C puX7_24 dX7_tell_2 hf rfl fun σ hf => ?_
  refine z_iconst (q := 6) C (0 : Int32) dX7_tell_5 ki_0 rfl ?_
  refine z_istore_n (q := 7) (i := 2) (lv' := [(2, .int (0 : Int32)), (0, .ref a0), (1, .ref a1)]) C dX7_tell_6 rfl (by decide) rfl rfl ?_
  refine z_lv [1, 2, 0] rfl ?_
  obtain ⟨r1, hr1, hk1⟩ := Option.bind_eq_some_iff.mp hf
  refine loopC_ind (P := fun s => ZW l G 5 X (ZQ G X (.returned none) out) s.2 7 [(0, .ref a0), (1, .ref a1), (2, .int s.1)] []) (fun s x1 hf hx1 => ?_) hr1
  obtain ⟨i_1, σ⟩ := s
  unfold f_X7_tell_L7 at hf
  try dsimp only at hf
  try dsimp only
  refine z_iload_n (q := 8) (i := 2) C 2 dX7_tell_7 rfl rfl rfl ?_
  refine z_aload_n (q := 9) (i := 1) C 1 dX7_tell_8 rfl rfl rfl ?_
  refine z_getI (q := 12) C flX7_28 dX7_tell_9 hf rfl fun v2 hf => ?_
  refine z_icmpge (q := 15) (tgt := 45) C dX7_tell_12 (by decide) rfl hf (fun c12 hf => ?_) (fun c12 hf => ?_)
  · have e1 := zl_x hf hx1
    have hf := hk1
    rw [← e1] at hf
    try dsimp only at hf
    refine z_iconst (q := 46) C (0 : Int32) dX7_tell_45 ki_0 rfl ?_
    refine z_istore_n (q := 47) (i := 2) (lv' := [(2, .int (0 : Int32)), (0, .ref a0), (1, .ref a1)]) C dX7_tell_46 rfl (by decide) rfl rfl ?_
    refine z_lv [1, 2, 0] rfl ?_
    obtain ⟨r1, hr1, hk1⟩ := Option.bind_eq_some_iff.mp hf
    refine loopC_ind (P := fun s => ZW l G 5 X (ZQ G X (.returned none) out) s.2 47 [(0, .ref a0), (1, .ref a1), (2, .int s.1)] []) (fun s x1 hf hx1 => ?_) hr1
    obtain ⟨i_3, σ⟩ := s
    unfold f_X7_tell_L47 at hf
    try dsimp only at hf
    try dsimp only
    refine z_iload_n (q := 48) (i := 2) C 2 dX7_tell_47 rfl rfl rfl ?_
    refine z_aload_n (q := 49) (i := 1) C 1 dX7_tell_48 rfl rfl rfl ?_
    refine z_getI (q := 52) C flX7_28 dX7_tell_49 hf rfl fun v4 hf => ?_
    refine z_icmpge (q := 55) (tgt := 106) C dX7_tell_52 (by decide) rfl hf (fun c52 hf => ?_) (fun c52 hf => ?_)
    · have e1 := zl_x hf hx1
      have hf := hk1
      rw [← e1] at hf
      try dsimp only at hf
      refine z_iconst (q := 107) C (0 : Int32) dX7_tell_106 ki_0 rfl ?_
      refine z_istore_n (q := 108) (i := 2) (lv' := [(2, .int (0 : Int32)), (0, .ref a0), (1, .ref a1)]) C dX7_tell_107 rfl (by decide) rfl rfl ?_
      refine z_lv [1, 2, 0] rfl ?_
      obtain ⟨r1, hr1, hk1⟩ := Option.bind_eq_some_iff.mp hf
      refine loopC_ind (P := fun s => ZW l G 5 X (ZQ G X (.returned none) out) s.2 108 [(0, .ref a0), (1, .ref a1), (2, .int s.1)] []) (fun s x1 hf hx1 => ?_) hr1
      obtain ⟨i_5, σ⟩ := s
      unfold f_X7_tell_L108 at hf
      try dsimp only at hf
      try dsimp only
      refine z_iload_n (q := 109) (i := 2) C 2 dX7_tell_108 rfl rfl rfl ?_
      refine z_aload_n (q := 110) (i := 1) C 1 dX7_tell_109 rfl rfl rfl ?_
      refine z_getI (q := 113) C flX7_28 dX7_tell_110 hf rfl fun v6 hf => ?_
      refine z_icmpge (q := 116) (tgt := 146) C dX7_tell_113 (by decide) rfl hf (fun c113 hf => ?_) (fun c113 hf => ?_)
      · have e1 := zl_x hf hx1
        have hf := hk1
        rw [← e1] at hf
        try dsimp only at hf
        refine z_iconst (q := 147) C (0 : Int32) dX7_tell_146 ki_0 rfl ?_
        refine z_istore_n (q := 148) (i := 2) (lv' := [(2, .int (0 : Int32)), (0, .ref a0), (1, .ref a1)]) C dX7_tell_147 rfl (by decide) rfl rfl ?_
        refine z_lv [1, 2, 0] rfl ?_
        obtain ⟨r1, hr1, hk1⟩ := Option.bind_eq_some_iff.mp hf
        refine loopC_ind (P := fun s => ZW l G 5 X (ZQ G X (.returned none) out) s.2 148 [(0, .ref a0), (1, .ref a1), (2, .int s.1)] []) (fun s x1 hf hx1 => ?_) hr1
        obtain ⟨i_7, σ⟩ := s
        unfold f_X7_tell_L148 at hf
        try dsimp only at hf
        try dsimp only
        refine z_iload_n (q := 149) (i := 2) C 2 dX7_tell_148 rfl rfl rfl ?_
        refine z_aload_n (q := 150) (i := 1) C 1 dX7_tell_149 rfl rfl rfl ?_
        refine z_getI (q := 153) C flX7_28 dX7_tell_150 hf rfl fun v8 hf => ?_
        refine z_icmpge (q := 156) (tgt := 170) C dX7_tell_153 (by decide) rfl hf (fun c153 hf => ?_) (fun c153 hf => ?_)
        · have e1 := zl_x hf hx1
          have hf := hk1
          rw [← e1] at hf
          try dsimp only at hf
          exact z_return C rfl dX7_tell_170 (Option.some.inj hf)
        · refine z_aload_n (q := 157) (i := 0) C 0 dX7_tell_156 rfl rfl rfl ?_
          refine z_iconst (q := 158) C (3 : Int32) dX7_tell_157 ki_3 rfl ?_
          refine z_iload_n (q := 159) (i := 2) C 2 dX7_tell_158 rfl rfl rfl ?_
          refine z_iconst (q := 160) C (-1 : Int32) dX7_tell_159 ki_m1 rfl ?_
          refine z_iconst (q := 161) C (-1 : Int32) dX7_tell_160 ki_m1 rfl ?_
          refine z_callVv (q := 164) (As := [.int (3 : Int32), .int i_7, .int (-1 : Int32), .int (-1 : Int32)]) C (fun o ho => m_X7_add _ _ _ _ _ _ ho) zk7 vvX7_36 cdX7_add pnX7 dX7_tell_161 rfl (by decide) (Nat.le_of_ble_eq_true rfl) hf rfl fun σ hf => ?_
          refine z_iinc (q := 167) (i := 2) (lv' := [(2, .int (i_7 + (1 : Int32))), (0, .ref a0), (1, .ref a1)]) C 2 (i_7 + (1 : Int32)) dX7_tell_164 rfl (kn_1 _) (by decide) rfl rfl ?_
          refine z_goto (q := 148) C dX7_tell_167 (by decide) ?_
          refine z_lv [1, 2, 0] rfl ?_
          have hc1 := zl_c hf hx1
          exact hc1
      · refine z_iconst (q := 117) C (0 : Int32) dX7_tell_116 ki_0 rfl ?_
        refine z_istore_n (q := 118) (i := 3) (lv' := [(3, .int (0 : Int32)), (0, .ref a0), (1, .ref a1), (2, .int i_5)]) C dX7_tell_117 rfl (by decide) rfl rfl ?_
        refine z_lv [1, 2, 3, 0] rfl ?_
        obtain ⟨r2, hr2, hk2⟩ := Option.bind_eq_some_iff.mp hf
        refine loopC_ind (P := fun s => ZW l G 5 X (ZQ G X (.returned none) out) s.2 118 [(0, .ref a0), (1, .ref a1), (2, .int i_5), (3, .int s.1)] []) (fun s x2 hf hx2 => ?_) hr2
        obtain ⟨i_10, σ⟩ := s
        unfold f_X7_tell_L118 at hf
        try dsimp only at hf
        try dsimp only
        refine z_iload_n (q := 119) (i := 3) C 3 dX7_tell_118 rfl rfl rfl ?_
        refine z_aload_n (q := 120) (i := 1) C 1 dX7_tell_119 rfl rfl rfl ?_
        refine z_getI (q := 123) C flX7_40 dX7_tell_120 hf rfl fun v11 hf => ?_
        refine z_icmpge (q := 126) (tgt := 140) C dX7_tell_123 (by decide) rfl hf (fun c123 hf => ?_) (fun c123 hf => ?_)
        · have e2 := zl_x hf hx2
          have hf := hk2
          rw [← e2] at hf
          try dsimp only at hf
          refine z_iinc (q := 143) (i := 2) (lv' := [(2, .int (i_5 + (1 : Int32))), (0, .ref a0), (1, .ref a1), (3, .int i_10)]) C 2 (i_5 + (1 : Int32)) dX7_tell_140 rfl (kn_1 _) (by decide) rfl rfl ?_
          refine z_goto (q := 108) C dX7_tell_143 (by decide) ?_
          refine z_lv [1, 2, 0] rfl ?_
          have hc1 := zl_c hf hx1
          exact hc1
        · refine z_aload_n (q := 127) (i := 0) C 0 dX7_tell_126 rfl rfl rfl ?_
          refine z_iconst (q := 128) C (2 : Int32) dX7_tell_127 ki_2 rfl ?_
          refine z_iload_n (q := 129) (i := 2) C 2 dX7_tell_128 rfl rfl rfl ?_
          refine z_iconst (q := 130) C (-1 : Int32) dX7_tell_129 ki_m1 rfl ?_
          refine z_iload_n (q := 131) (i := 3) C 3 dX7_tell_130 rfl rfl rfl ?_
          refine z_callVv (q := 134) (As := [.int (2 : Int32), .int i_5, .int (-1 : Int32), .int i_10]) C (fun o ho => m_X7_add _ _ _ _ _ _ ho) zk7 vvX7_36 cdX7_add pnX7 dX7_tell_131 rfl (by decide) (Nat.le_of_ble_eq_true rfl) hf rfl fun σ hf => ?_
          refine z_iinc (q := 137) (i := 3) (lv' := [(3, .int (i_10 + (1 : Int32))), (0, .ref a0), (1, .ref a1), (2, .int i_5)]) C 3 (i_10 + (1 : Int32)) dX7_tell_134 rfl (kn_1 _) (by decide) rfl rfl ?_
          refine z_goto (q := 118) C dX7_tell_137 (by decide) ?_
          refine z_lv [1, 2, 3, 0] rfl ?_
          have hc2 := zl_c hf hx2
          exact hc2
    · refine z_iload_n (q := 56) (i := 2) C 2 dX7_tell_55 rfl rfl rfl ?_
      refine z_iconst (q := 57) C (1 : Int32) dX7_tell_56 ki_1 rfl ?_
      refine z_iadd (q := 58) C dX7_tell_57 rfl ?_
      refine z_istore_n (q := 59) (i := 3) (lv' := [(3, .int (i_3 + (1 : Int32))), (0, .ref a0), (1, .ref a1), (2, .int i_3)]) C dX7_tell_58 rfl (by decide) rfl rfl ?_
      refine z_lv [1, 2, 3, 0] rfl ?_
      obtain ⟨r2, hr2, hk2⟩ := Option.bind_eq_some_iff.mp hf
      refine loopC_ind (P := fun s => ZW l G 5 X (ZQ G X (.returned none) out) s.2 59 [(0, .ref a0), (1, .ref a1), (2, .int i_3), (3, .int s.1)] []) (fun s x2 hf hx2 => ?_) hr2
      obtain ⟨i_13, σ⟩ := s
      unfold f_X7_tell_L59 at hf
      try dsimp only at hf
      try dsimp only
      refine z_iload_n (q := 60) (i := 3) C 3 dX7_tell_59 rfl rfl rfl ?_
      refine z_aload_n (q := 61) (i := 1) C 1 dX7_tell_60 rfl rfl rfl ?_
      refine z_getI (q := 64) C flX7_28 dX7_tell_61 hf rfl fun v14 hf => ?_
      refine z_icmpge (q := 67) (tgt := 100) C dX7_tell_64 (by decide) rfl hf (fun c64 hf => ?_) (fun c64 hf => ?_)
      · have e2 := zl_x hf hx2
        have hf := hk2
        rw [← e2] at hf
        try dsimp only at hf
        refine z_iinc (q := 103) (i := 2) (lv' := [(2, .int (i_3 + (1 : Int32))), (0, .ref a0), (1, .ref a1), (3, .int i_13)]) C 2 (i_3 + (1 : Int32)) dX7_tell_100 rfl (kn_1 _) (by decide) rfl rfl ?_
        refine z_goto (q := 47) C dX7_tell_103 (by decide) ?_
        refine z_lv [1, 2, 0] rfl ?_
        have hc1 := zl_c hf hx1
        exact hc1
      · refine z_iconst (q := 68) C (0 : Int32) dX7_tell_67 ki_0 rfl ?_
        refine z_istore (q := 70) (i := 4) (lv' := [(4, .int (0 : Int32)), (0, .ref a0), (1, .ref a1), (2, .int i_3), (3, .int i_13)]) C dX7_tell_68 (by decide) rfl rfl ?_
        refine z_lv [1, 2, 3, 4, 0] rfl ?_
        obtain ⟨r3, hr3, hk3⟩ := Option.bind_eq_some_iff.mp hf
        refine loopC_ind (P := fun s => ZW l G 5 X (ZQ G X (.returned none) out) s.2 70 [(0, .ref a0), (1, .ref a1), (2, .int i_3), (3, .int i_13), (4, .int s.1)] []) (fun s x3 hf hx3 => ?_) hr3
        obtain ⟨i_15, σ⟩ := s
        unfold f_X7_tell_L70 at hf
        try dsimp only at hf
        try dsimp only
        refine z_iload (q := 72) (i := 4) C 4 dX7_tell_70 rfl rfl ?_
        refine z_aload_n (q := 73) (i := 1) C 1 dX7_tell_72 rfl rfl rfl ?_
        refine z_getI (q := 76) C flX7_33 dX7_tell_73 hf rfl fun v16 hf => ?_
        refine z_icmpge (q := 79) (tgt := 94) C dX7_tell_76 (by decide) rfl hf (fun c76 hf => ?_) (fun c76 hf => ?_)
        · have e3 := zl_x hf hx3
          have hf := hk3
          rw [← e3] at hf
          try dsimp only at hf
          refine z_iinc (q := 97) (i := 3) (lv' := [(3, .int (i_13 + (1 : Int32))), (0, .ref a0), (1, .ref a1), (2, .int i_3), (4, .int i_15)]) C 3 (i_13 + (1 : Int32)) dX7_tell_94 rfl (kn_1 _) (by decide) rfl rfl ?_
          refine z_goto (q := 59) C dX7_tell_97 (by decide) ?_
          refine z_lv [1, 2, 3, 0] rfl ?_
          have hc2 := zl_c hf hx2
          exact hc2
        · refine z_aload_n (q := 80) (i := 0) C 0 dX7_tell_79 rfl rfl rfl ?_
          refine z_iconst (q := 81) C (1 : Int32) dX7_tell_80 ki_1 rfl ?_
          refine z_iload_n (q := 82) (i := 2) C 2 dX7_tell_81 rfl rfl rfl ?_
          refine z_iload_n (q := 83) (i := 3) C 3 dX7_tell_82 rfl rfl rfl ?_
          refine z_iload (q := 85) (i := 4) C 4 dX7_tell_83 rfl rfl ?_
          refine z_callVv (q := 88) (As := [.int (1 : Int32), .int i_3, .int i_13, .int i_15]) C (fun o ho => m_X7_add _ _ _ _ _ _ ho) zk7 vvX7_36 cdX7_add pnX7 dX7_tell_85 rfl (by decide) (Nat.le_of_ble_eq_true rfl) hf rfl fun σ hf => ?_
          refine z_iinc (q := 91) (i := 4) (lv' := [(4, .int (i_15 + (1 : Int32))), (0, .ref a0), (1, .ref a1), (2, .int i_3), (3, .int i_13)]) C 4 (i_15 + (1 : Int32)) dX7_tell_88 rfl (kn_1 _) (by decide) rfl rfl ?_
          refine z_goto (q := 70) C dX7_tell_91 (by decide) ?_
          refine z_lv [1, 2, 3, 4, 0] rfl ?_
          have hc3 := zl_c hf hx3
          exact hc3
  · refine z_iconst (q := 16) C (0 : Int32) dX7_tell_15 ki_0 rfl ?_
    refine z_istore_n (q := 17) (i := 3) (lv' := [(3, .int (0 : Int32)), (0, .ref a0), (1, .ref a1), (2, .int i_1)]) C dX7_tell_16 rfl (by decide) rfl rfl ?_
    refine z_lv [1, 2, 3, 0] rfl ?_
    obtain ⟨r2, hr2, hk2⟩ := Option.bind_eq_some_iff.mp hf
    refine loopC_ind (P := fun s => ZW l G 5 X (ZQ G X (.returned none) out) s.2 17 [(0, .ref a0), (1, .ref a1), (2, .int i_1), (3, .int s.1)] []) (fun s x2 hf hx2 => ?_) hr2
    obtain ⟨i_18, σ⟩ := s
    unfold f_X7_tell_L17 at hf
    try dsimp only at hf
    try dsimp only
    refine z_iload_n (q := 18) (i := 3) C 3 dX7_tell_17 rfl rfl rfl ?_
    refine z_aload_n (q := 19) (i := 1) C 1 dX7_tell_18 rfl rfl rfl ?_
    refine z_getI (q := 22) C flX7_33 dX7_tell_19 hf rfl fun v19 hf => ?_
    refine z_icmpge (q := 25) (tgt := 39) C dX7_tell_22 (by decide) rfl hf (fun c22 hf => ?_) (fun c22 hf => ?_)
    · have e2 := zl_x hf hx2
      have hf := hk2
      rw [← e2] at hf
      try dsimp only at hf
      refine z_iinc (q := 42) (i := 2) (lv' := [(2, .int (i_1 + (1 : Int32))), (0, .ref a0), (1, .ref a1), (3, .int i_18)]) C 2 (i_1 + (1 : Int32)) dX7_tell_39 rfl (kn_1 _) (by decide) rfl rfl ?_
      refine z_goto (q := 7) C dX7_tell_42 (by decide) ?_
      refine z_lv [1, 2, 0] rfl ?_
      have hc1 := zl_c hf hx1
      exact hc1
    · refine z_aload_n (q := 26) (i := 0) C 0 dX7_tell_25 rfl rfl rfl ?_
      refine z_iconst (q := 27) C (0 : Int32) dX7_tell_26 ki_0 rfl ?_
      refine z_iload_n (q := 28) (i := 2) C 2 dX7_tell_27 rfl rfl rfl ?_
      refine z_iconst (q := 29) C (-1 : Int32) dX7_tell_28 ki_m1 rfl ?_
      refine z_iload_n (q := 30) (i := 3) C 3 dX7_tell_29 rfl rfl rfl ?_
      refine z_callVv (q := 33) (As := [.int (0 : Int32), .int i_1, .int (-1 : Int32), .int i_18]) C (fun o ho => m_X7_add _ _ _ _ _ _ ho) zk7 vvX7_36 cdX7_add pnX7 dX7_tell_30 rfl (by decide) (Nat.le_of_ble_eq_true rfl) hf rfl fun σ hf => ?_
      refine z_iinc (q := 36) (i := 3) (lv' := [(3, .int (i_18 + (1 : Int32))), (0, .ref a0), (1, .ref a1), (2, .int i_1)]) C 3 (i_18 + (1 : Int32)) dX7_tell_33 rfl (kn_1 _) (by decide) rfl rfl ?_
      refine z_goto (q := 17) C dX7_tell_36 (by decide) ?_
      refine z_lv [1, 2, 3, 0] rfl ?_
      have hc2 := zl_c hf hx2
      exact hc2

noncomputable def f_X5_number_L44 (c0_44 : Nat) (i_7 : Int32) (i_8 : Int32) (σ : ZT) : Option ((Int32 × Int32 × ZT) ⊕ (Int32 × ZT)) :=
  if i_8 < 0 then
  (some (.inr (i_7, σ)))
  else
  ((gR 5 501 c0_44 σ).bind fun v9 =>
  (ldI 0 v9 i_8 σ).bind fun v10 =>
  some (.inl (((i_7 * (6 : Int32)) + v10), (i_8 + (-1 : Int32)), σ)))
noncomputable def f_X5_number_L12 (c0_12 : Nat) (i_3 : Int32) (i_4 : Int32) (σ : ZT) : Option ((Int32 × Int32 × ZT) ⊕ (Int32 × ZT)) :=
  if i_4 < 0 then
  (some (.inr (i_3, σ)))
  else
  ((gR 5 502 c0_12 σ).bind fun v12 =>
  (ldI 0 v12 i_4 σ).bind fun v13 =>
  some (.inl (((i_3 * (10 : Int32)) + v13), (i_4 + (-1 : Int32)), σ)))
noncomputable def f_X5_number (a0 : Nat) (σ : ZT) : Option (Int32 × ZT) :=
  (gR 5 500 a0 σ).bind fun v1 =>
  (gI 6 603 v1 σ).bind fun v2 =>
  (loopC (fun s : (Int32 × Int32 × ZT) => f_X5_number_L12 a0 s.1 s.2.1 s.2.2) ((0 : Int32), (v2 - (1 : Int32)), σ)).bind fun x => (match x with
  | (x14, σ) => (gR 5 500 a0 σ).bind fun v15 =>
  (gI 6 602 v15 σ).bind fun v16 =>
  (loopC (fun s : (Int32 × Int32 × ZT) => f_X5_number_L44 a0 s.1 s.2.1 s.2.2) (x14, (v16 - (1 : Int32)), σ)).bind fun x => (match x with
  | (x21, σ) => some (x21, σ)))
set_option maxHeartbeats 4000000 in
theorem m_X5_number {l : Launch} {G : ZG} (a0 : Nat) (σ : ZT) {out : (Int32 × ZT)} (hf : f_X5_number a0 σ = some out) : ZM l G yX5_number cX5_number 3 (some .int) [] 1 [.ref a0] σ (.returned (some (.int out.1))) out.2 := by
  refine ZM.of [(0, .ref a0)] rfl (Nat.le_of_ble_eq_true rfl) fun X (C : ZC G RX5 "number" cX5_number 3 (some .int) [] X 1) => ?_
  unfold f_X5_number at hf
  refine z_iconst (q := 1) C (0 : Int32) dX5_number_0 ki_0 rfl ?_
  refine z_istore_n (q := 2) (i := 1) (lv' := [(1, .int (0 : Int32)), (0, .ref a0)]) C dX5_number_1 rfl (by decide) rfl rfl ?_
  refine z_aload_n (q := 3) (i := 0) C 1 dX5_number_2 rfl rfl rfl ?_
  refine z_getR (q := 6) C flX5_12 dX5_number_3 hf rfl fun v1 hf => ?_
  refine z_getI (q := 9) C flX5_43 dX5_number_6 hf rfl fun v2 hf => ?_
  refine z_iconst (q := 10) C (1 : Int32) dX5_number_9 ki_1 rfl ?_
  refine z_isub (q := 11) C dX5_number_10 rfl ?_
  refine z_istore_n (q := 12) (i := 2) (lv' := [(2, .int (v2 - (1 : Int32))), (1, .int (0 : Int32)), (0, .ref a0)]) C dX5_number_11 rfl (by decide) rfl rfl ?_
  refine z_lv [2, 1, 0] rfl ?_
  obtain ⟨r1, hr1, hk1⟩ := Option.bind_eq_some_iff.mp hf
  refine loopC_ind (P := fun s => ZW l G 3 X (ZQ G X (.returned (some (.int out.1))) out.2) s.2.2 12 [(0, .ref a0), (1, .int s.1), (2, .int s.2.1)] []) (fun s x1 hf hx1 => ?_) hr1
  obtain ⟨i_3, i_4, σ⟩ := s
  unfold f_X5_number_L12 at hf
  try dsimp only at hf
  try dsimp only
  refine z_iload_n (q := 13) (i := 2) C 2 dX5_number_12 rfl rfl rfl ?_
  refine z_iflt (q := 16) (tgt := 34) C dX5_number_13 (by decide) rfl hf (fun c13 hf => ?_) (fun c13 hf => ?_)
  · have e1 := zl_x hf hx1
    have hf := hk1
    rw [← e1] at hf
    try dsimp only at hf
    refine z_aload_n (q := 35) (i := 0) C 0 dX5_number_34 rfl rfl rfl ?_
    refine z_getR (q := 38) C flX5_12 dX5_number_35 hf rfl fun v5 hf => ?_
    refine z_getI (q := 41) C flX5_32 dX5_number_38 hf rfl fun v6 hf => ?_
    refine z_iconst (q := 42) C (1 : Int32) dX5_number_41 ki_1 rfl ?_
    refine z_isub (q := 43) C dX5_number_42 rfl ?_
    refine z_istore_n (q := 44) (i := 2) (lv' := [(2, .int (v6 - (1 : Int32))), (0, .ref a0), (1, .int i_3)]) C dX5_number_43 rfl (by decide) rfl rfl ?_
    refine z_lv [1, 2, 0] rfl ?_
    obtain ⟨r1, hr1, hk1⟩ := Option.bind_eq_some_iff.mp hf
    refine loopC_ind (P := fun s => ZW l G 3 X (ZQ G X (.returned (some (.int out.1))) out.2) s.2.2 44 [(0, .ref a0), (1, .int s.1), (2, .int s.2.1)] []) (fun s x1 hf hx1 => ?_) hr1
    obtain ⟨i_7, i_8, σ⟩ := s
    unfold f_X5_number_L44 at hf
    try dsimp only at hf
    try dsimp only
    refine z_iload_n (q := 45) (i := 2) C 2 dX5_number_44 rfl rfl rfl ?_
    refine z_iflt (q := 48) (tgt := 66) C dX5_number_45 (by decide) rfl hf (fun c45 hf => ?_) (fun c45 hf => ?_)
    · have e1 := zl_x hf hx1
      have hf := hk1
      rw [← e1] at hf
      try dsimp only at hf
      refine z_iload_n (q := 67) (i := 1) C 1 dX5_number_66 rfl rfl rfl ?_
      exact z_ireturn C rfl dX5_number_67 (Option.some.inj hf)
    · refine z_iload_n (q := 49) (i := 1) C 1 dX5_number_48 rfl rfl rfl ?_
      refine z_bipush (q := 51) C (6 : Int32) dX5_number_49 kb_6 rfl ?_
      refine z_imul (q := 52) C dX5_number_51 rfl ?_
      refine z_aload_n (q := 53) (i := 0) C 0 dX5_number_52 rfl rfl rfl ?_
      refine z_getR (q := 56) C flX5_18 dX5_number_53 hf rfl fun v9 hf => ?_
      refine z_iload_n (q := 57) (i := 2) C 2 dX5_number_56 rfl rfl rfl ?_
      refine z_iald (q := 58) C dX5_number_57 hf rfl fun v10 hf => ?_
      refine z_iadd (q := 59) C dX5_number_58 rfl ?_
      refine z_istore_n (q := 60) (i := 1) (lv' := [(1, .int ((i_7 * (6 : Int32)) + v10)), (0, .ref a0), (2, .int i_8)]) C dX5_number_59 rfl (by decide) rfl rfl ?_
      refine z_iinc (q := 63) (i := 2) (lv' := [(2, .int (i_8 + (-1 : Int32))), (1, .int ((i_7 * (6 : Int32)) + v10)), (0, .ref a0)]) C 2 (i_8 + (-1 : Int32)) dX5_number_60 rfl (kn_m1 _) (by decide) rfl rfl ?_
      refine z_goto (q := 44) C dX5_number_63 (by decide) ?_
      refine z_lv [2, 1, 0] rfl ?_
      have hc1 := zl_c hf hx1
      exact hc1
  · refine z_iload_n (q := 17) (i := 1) C 1 dX5_number_16 rfl rfl rfl ?_
    refine z_bipush (q := 19) C (10 : Int32) dX5_number_17 kb_10 rfl ?_
    refine z_imul (q := 20) C dX5_number_19 rfl ?_
    refine z_aload_n (q := 21) (i := 0) C 0 dX5_number_20 rfl rfl rfl ?_
    refine z_getR (q := 24) C flX5_22 dX5_number_21 hf rfl fun v11 hf => ?_
    refine z_iload_n (q := 25) (i := 2) C 2 dX5_number_24 rfl rfl rfl ?_
    refine z_iald (q := 26) C dX5_number_25 hf rfl fun v12 hf => ?_
    refine z_iadd (q := 27) C dX5_number_26 rfl ?_
    refine z_istore_n (q := 28) (i := 1) (lv' := [(1, .int ((i_3 * (10 : Int32)) + v12)), (0, .ref a0), (2, .int i_4)]) C dX5_number_27 rfl (by decide) rfl rfl ?_
    refine z_iinc (q := 31) (i := 2) (lv' := [(2, .int (i_4 + (-1 : Int32))), (1, .int ((i_3 * (10 : Int32)) + v12)), (0, .ref a0)]) C 2 (i_4 + (-1 : Int32)) dX5_number_28 rfl (kn_m1 _) (by decide) rfl rfl ?_
    refine z_goto (q := 12) C dX5_number_31 (by decide) ?_
    refine z_lv [2, 1, 0] rfl ?_
    have hc1 := zl_c hf hx1
    exact hc1

noncomputable def f_X5_be_2_L38 (c0_38 : Nat) (i_5 : Int32) (i_6 : Int32) (σ : ZT) : Option ((Int32 × Int32 × ZT) ⊕ ZT) :=
  (gR 5 500 c0_38 σ).bind fun v7 =>
  (gI 6 603 v7 σ).bind fun v8 =>
  if i_6 < v8 then
  ((gR 5 502 c0_38 σ).bind fun v9 =>
  (zirem i_5 (10 : Int32)).bind fun v10 =>
  (stI v9 i_6 v10 σ).bind fun σ =>
  (zidiv i_5 (10 : Int32)).bind fun v11 =>
  some (.inl (v11, (i_6 + (1 : Int32)), σ)))
  else
  (some (.inr σ))
noncomputable def f_X5_be_2_L4 (c0_4 : Nat) (i_1 : Int32) (i_2 : Int32) (σ : ZT) : Option ((Int32 × Int32 × ZT) ⊕ (Int32 × ZT)) :=
  (gR 5 500 c0_4 σ).bind fun v3 =>
  (gI 6 602 v3 σ).bind fun v4 =>
  if i_2 < v4 then
  ((gR 5 501 c0_4 σ).bind fun v12 =>
  (zirem i_1 (6 : Int32)).bind fun v13 =>
  (stI v12 i_2 v13 σ).bind fun σ =>
  (zidiv i_1 (6 : Int32)).bind fun v14 =>
  some (.inl (v14, (i_2 + (1 : Int32)), σ)))
  else
  (some (.inr (i_1, σ)))
noncomputable def f_X5_be_2 (a0 : Nat) (i1 : Int32) (σ : ZT) : Option ZT :=
  (loopC (fun s : (Int32 × Int32 × ZT) => f_X5_be_2_L4 a0 s.1 s.2.1 s.2.2) (i1, (0 : Int32), σ)).bind fun x => (match x with
  | (x15, σ) => (loopC (fun s : (Int32 × Int32 × ZT) => f_X5_be_2_L38 a0 s.1 s.2.1 s.2.2) (x15, (0 : Int32), σ)).bind fun σ =>
  some σ)
set_option maxHeartbeats 4000000 in
theorem m_X5_be_2 {l : Launch} {G : ZG} (a0 : Nat) (i1 : Int32) (σ : ZT) {out : ZT} (hf : f_X5_be_2 a0 i1 σ = some out) : ZM l G yX5_be_2 cX5_be_2 4 none [] 1 [.ref a0, .int i1] σ (.returned none) out := by
  refine ZM.of [(0, .ref a0), (1, .int i1)] rfl (Nat.le_of_ble_eq_true rfl) fun X (C : ZC G RX5 "be" cX5_be_2 4 none [] X 1) => ?_
  unfold f_X5_be_2 at hf
  refine z_iload_n (q := 1) (i := 1) C 1 dX5_be_2_0 rfl rfl rfl ?_
  refine z_istore_n (q := 2) (i := 2) (lv' := [(2, .int i1), (0, .ref a0), (1, .int i1)]) C dX5_be_2_1 rfl (by decide) rfl rfl ?_
  refine z_iconst (q := 3) C (0 : Int32) dX5_be_2_2 ki_0 rfl ?_
  refine z_istore_n (q := 4) (i := 3) (lv' := [(3, .int (0 : Int32)), (2, .int i1), (0, .ref a0), (1, .int i1)]) C dX5_be_2_3 rfl (by decide) rfl rfl ?_
  refine z_lv [2, 1, 0] rfl ?_
  obtain ⟨r1, hr1, hk1⟩ := Option.bind_eq_some_iff.mp hf
  refine loopC_ind (P := fun s => ZW l G 4 X (ZQ G X (.returned none) out) s.2.2 4 [(0, .ref a0), (2, .int s.1), (3, .int s.2.1)] []) (fun s x1 hf hx1 => ?_) hr1
  obtain ⟨i_1, i_2, σ⟩ := s
  unfold f_X5_be_2_L4 at hf
  try dsimp only at hf
  try dsimp only
  refine z_iload_n (q := 5) (i := 3) C 2 dX5_be_2_4 rfl rfl rfl ?_
  refine z_aload_n (q := 6) (i := 0) C 0 dX5_be_2_5 rfl rfl rfl ?_
  refine z_getR (q := 9) C flX5_12 dX5_be_2_6 hf rfl fun v3 hf => ?_
  refine z_getI (q := 12) C flX5_32 dX5_be_2_9 hf rfl fun v4 hf => ?_
  refine z_icmpge (q := 15) (tgt := 36) C dX5_be_2_12 (by decide) rfl hf (fun c12 hf => ?_) (fun c12 hf => ?_)
  · have e1 := zl_x hf hx1
    have hf := hk1
    rw [← e1] at hf
    try dsimp only at hf
    refine z_iconst (q := 37) C (0 : Int32) dX5_be_2_36 ki_0 rfl ?_
    refine z_istore_n (q := 38) (i := 3) (lv' := [(3, .int (0 : Int32)), (0, .ref a0), (2, .int i_1)]) C dX5_be_2_37 rfl (by decide) rfl rfl ?_
    refine z_lv [1, 2, 0] rfl ?_
    obtain ⟨r1, hr1, hk1⟩ := Option.bind_eq_some_iff.mp hf
    refine loopC_ind (P := fun s => ZW l G 4 X (ZQ G X (.returned none) out) s.2.2 38 [(0, .ref a0), (2, .int s.1), (3, .int s.2.1)] []) (fun s x1 hf hx1 => ?_) hr1
    obtain ⟨i_5, i_6, σ⟩ := s
    unfold f_X5_be_2_L38 at hf
    try dsimp only at hf
    try dsimp only
    refine z_iload_n (q := 39) (i := 3) C 2 dX5_be_2_38 rfl rfl rfl ?_
    refine z_aload_n (q := 40) (i := 0) C 0 dX5_be_2_39 rfl rfl rfl ?_
    refine z_getR (q := 43) C flX5_12 dX5_be_2_40 hf rfl fun v7 hf => ?_
    refine z_getI (q := 46) C flX5_43 dX5_be_2_43 hf rfl fun v8 hf => ?_
    refine z_icmpge (q := 49) (tgt := 70) C dX5_be_2_46 (by decide) rfl hf (fun c46 hf => ?_) (fun c46 hf => ?_)
    · have e1 := zl_x hf hx1
      have hf := hk1
      rw [← e1] at hf
      try dsimp only at hf
      exact z_return C rfl dX5_be_2_70 (Option.some.inj hf)
    · refine z_aload_n (q := 50) (i := 0) C 0 dX5_be_2_49 rfl rfl rfl ?_
      refine z_getR (q := 53) C flX5_22 dX5_be_2_50 hf rfl fun v9 hf => ?_
      refine z_iload_n (q := 54) (i := 3) C 2 dX5_be_2_53 rfl rfl rfl ?_
      refine z_iload_n (q := 55) (i := 2) C 1 dX5_be_2_54 rfl rfl rfl ?_
      refine z_bipush (q := 57) C (10 : Int32) dX5_be_2_55 kb_10 rfl ?_
      refine z_irem (q := 58) C dX5_be_2_57 hf rfl fun v10 hf => ?_
      refine z_iast (q := 59) C dX5_be_2_58 hf rfl fun σ hf => ?_
      refine z_iload_n (q := 60) (i := 2) C 1 dX5_be_2_59 rfl rfl rfl ?_
      refine z_bipush (q := 62) C (10 : Int32) dX5_be_2_60 kb_10 rfl ?_
      refine z_idiv (q := 63) C dX5_be_2_62 hf rfl fun v11 hf => ?_
      refine z_istore_n (q := 64) (i := 2) (lv' := [(2, .int v11), (0, .ref a0), (3, .int i_6)]) C dX5_be_2_63 rfl (by decide) rfl rfl ?_
      refine z_iinc (q := 67) (i := 3) (lv' := [(3, .int (i_6 + (1 : Int32))), (2, .int v11), (0, .ref a0)]) C 2 (i_6 + (1 : Int32)) dX5_be_2_64 rfl (kn_1 _) (by decide) rfl rfl ?_
      refine z_goto (q := 38) C dX5_be_2_67 (by decide) ?_
      refine z_lv [2, 1, 0] rfl ?_
      have hc1 := zl_c hf hx1
      exact hc1
  · refine z_aload_n (q := 16) (i := 0) C 0 dX5_be_2_15 rfl rfl rfl ?_
    refine z_getR (q := 19) C flX5_18 dX5_be_2_16 hf rfl fun v12 hf => ?_
    refine z_iload_n (q := 20) (i := 3) C 2 dX5_be_2_19 rfl rfl rfl ?_
    refine z_iload_n (q := 21) (i := 2) C 1 dX5_be_2_20 rfl rfl rfl ?_
    refine z_bipush (q := 23) C (6 : Int32) dX5_be_2_21 kb_6 rfl ?_
    refine z_irem (q := 24) C dX5_be_2_23 hf rfl fun v13 hf => ?_
    refine z_iast (q := 25) C dX5_be_2_24 hf rfl fun σ hf => ?_
    refine z_iload_n (q := 26) (i := 2) C 1 dX5_be_2_25 rfl rfl rfl ?_
    refine z_bipush (q := 28) C (6 : Int32) dX5_be_2_26 kb_6 rfl ?_
    refine z_idiv (q := 29) C dX5_be_2_28 hf rfl fun v14 hf => ?_
    refine z_istore_n (q := 30) (i := 2) (lv' := [(2, .int v14), (0, .ref a0), (3, .int i_2)]) C dX5_be_2_29 rfl (by decide) rfl rfl ?_
    refine z_iinc (q := 33) (i := 3) (lv' := [(3, .int (i_2 + (1 : Int32))), (2, .int v14), (0, .ref a0)]) C 2 (i_2 + (1 : Int32)) dX5_be_2_30 rfl (kn_1 _) (by decide) rfl rfl ?_
    refine z_goto (q := 4) C dX5_be_2_33 (by decide) ?_
    refine z_lv [2, 1, 0] rfl ?_
    have hc1 := zl_c hf hx1
    exact hc1

noncomputable def f_X7_does (a0 : Nat) (a1 : Nat) (i2 : Int32) (σ : ZT) : Option (Int32 × ZT) :=
  (gR 7 700 a0 σ).bind fun v1 =>
  (ldI 0 v1 i2 σ).bind fun v2 =>
  (gR 7 701 a0 σ).bind fun v3 =>
  (ldI 0 v3 i2 σ).bind fun v4 =>
  (gR 7 702 a0 σ).bind fun v5 =>
  (ldI 0 v5 i2 σ).bind fun v6 =>
  (gR 7 703 a0 σ).bind fun v7 =>
  (ldI 0 v7 i2 σ).bind fun v8 =>
  bnd2 (vc 5 a1 σ (f_X5_moves a1 v2 v4 v6 v8 σ)) fun v9 σ =>
  (rz v9).bind fun z10 =>
  some (z10, σ)
set_option maxHeartbeats 4000000 in
theorem m_X7_does {l : Launch} {G : ZG} (a0 : Nat) (a1 : Nat) (i2 : Int32) (σ : ZT) {out : (Int32 × ZT)} (hf : f_X7_does a0 a1 i2 σ = some out) : ZM l G yX7_does cX7_does 3 (some .boolean) [] 6 [.ref a0, .ref a1, .int i2] σ (.returned (some (.int out.1))) out.2 := by
  refine ZM.of [(0, .ref a0), (1, .ref a1), (2, .int i2)] rfl (Nat.le_of_ble_eq_true rfl) fun X (C : ZC G RX7 "does" cX7_does 3 (some .boolean) [] X 6) => ?_
  unfold f_X7_does at hf
  refine z_aload_n (q := 1) (i := 1) C 1 dX7_does_0 rfl rfl rfl ?_
  refine z_aload_n (q := 2) (i := 0) C 0 dX7_does_1 rfl rfl rfl ?_
  refine z_getR (q := 5) C flX7_11 dX7_does_2 hf rfl fun v1 hf => ?_
  refine z_iload_n (q := 6) (i := 2) C 2 dX7_does_5 rfl rfl rfl ?_
  refine z_iald (q := 7) C dX7_does_6 hf rfl fun v2 hf => ?_
  refine z_aload_n (q := 8) (i := 0) C 0 dX7_does_7 rfl rfl rfl ?_
  refine z_getR (q := 11) C flX7_15 dX7_does_8 hf rfl fun v3 hf => ?_
  refine z_iload_n (q := 12) (i := 2) C 2 dX7_does_11 rfl rfl rfl ?_
  refine z_iald (q := 13) C dX7_does_12 hf rfl fun v4 hf => ?_
  refine z_aload_n (q := 14) (i := 0) C 0 dX7_does_13 rfl rfl rfl ?_
  refine z_getR (q := 17) C flX7_18 dX7_does_14 hf rfl fun v5 hf => ?_
  refine z_iload_n (q := 18) (i := 2) C 2 dX7_does_17 rfl rfl rfl ?_
  refine z_iald (q := 19) C dX7_does_18 hf rfl fun v6 hf => ?_
  refine z_aload_n (q := 20) (i := 0) C 0 dX7_does_19 rfl rfl rfl ?_
  refine z_getR (q := 23) C flX7_21 dX7_does_20 hf rfl fun v7 hf => ?_
  refine z_iload_n (q := 24) (i := 2) C 2 dX7_does_23 rfl rfl rfl ?_
  refine z_iald (q := 25) C dX7_does_24 hf rfl fun v8 hf => ?_
  refine z_callVi (q := 28) (As := [.int v2, .int v4, .int v6, .int v8]) C (fun o ho => m_X5_moves _ _ _ _ _ _ ho) zk5 vvX7_43 cdX5_moves pnX5 dX7_does_25 rfl (by decide) (Nat.le_of_ble_eq_true rfl) hf rfl fun v9 σ hf => ?_
  refine z_rz C hf fun hn hf => ?_
  exact z_zreturn C rfl hn dX7_does_28 (Option.some.inj hf)

noncomputable def f_X7_toll_J44 (w0_44 : Int32) (σ : ZT) : Option (Int32 × ZT) :=
  some (w0_44, σ)
noncomputable def f_X7_toll_J43 (w0_43 : Int32) (w1_43 : Int32) (σ : ZT) : Option (Int32 × ZT) :=
  f_X7_toll_J44 (w1_43 * w0_43) σ
noncomputable def f_X7_toll (a0 : Nat) (a1 : Nat) (i2 : Int32) (σ : ZT) : Option (Int32 × ZT) :=
  (gR 7 700 a0 σ).bind fun v1 =>
  (ldI 0 v1 i2 σ).bind fun v2 =>
  if (1 : Int32) < v2 then
  (f_X7_toll_J44 (0 : Int32) σ)
  else
  ((gR 6 606 a1 σ).bind fun v3 =>
  (gR 7 703 a0 σ).bind fun v4 =>
  (ldI 0 v4 i2 σ).bind fun v5 =>
  (ldR 6 v3 v5 σ).bind fun v6 =>
  (gI 11 1107 v6 σ).bind fun v7 =>
  (gR 7 700 a0 σ).bind fun v8 =>
  (ldI 0 v8 i2 σ).bind fun v9 =>
  if v9 = (1 : Int32) then
  (f_X7_toll_J43 (2 : Int32) v7 σ)
  else
  (f_X7_toll_J43 (1 : Int32) v7 σ))
set_option maxHeartbeats 4000000 in
theorem m_X7_toll {l : Launch} {G : ZG} (a0 : Nat) (a1 : Nat) (i2 : Int32) (σ : ZT) {out : (Int32 × ZT)} (hf : f_X7_toll a0 a1 i2 σ = some out) : ZM l G yX7_toll cX7_toll 3 (some .int) [] 1 [.ref a0, .ref a1, .int i2] σ (.returned (some (.int out.1))) out.2 := by
  refine ZM.of [(0, .ref a0), (1, .ref a1), (2, .int i2)] rfl (Nat.le_of_ble_eq_true rfl) fun X (C : ZC G RX7 "toll" cX7_toll 3 (some .int) [] X 1) => ?_
  unfold f_X7_toll at hf
  have j44_0 : ∀ (w0_44 : Int32) (σ : ZT), f_X7_toll_J44 w0_44 σ = some out → ZW l G 3 X (ZQ G X (.returned (some (.int out.1))) out.2) σ 44 [] [.int w0_44] := by
    intro w0_44 σ hf
    unfold f_X7_toll_J44 at hf
    exact z_ireturn C rfl dX7_toll_44 (Option.some.inj hf)
  have j43_0 : ∀ (w0_43 : Int32) (w1_43 : Int32) (σ : ZT), f_X7_toll_J43 w0_43 w1_43 σ = some out → ZW l G 3 X (ZQ G X (.returned (some (.int out.1))) out.2) σ 43 [] [.int w0_43, .int w1_43] := by
    intro w0_43 w1_43 σ hf
    unfold f_X7_toll_J43 at hf
    refine z_imul (q := 44) C dX7_toll_43 rfl ?_
    exact j44_0 (w1_43 * w0_43) σ hf
  refine z_aload_n (q := 1) (i := 0) C 0 dX7_toll_0 rfl rfl rfl ?_
  refine z_getR (q := 4) C flX7_11 dX7_toll_1 hf rfl fun v1 hf => ?_
  refine z_iload_n (q := 5) (i := 2) C 2 dX7_toll_4 rfl rfl rfl ?_
  refine z_iald (q := 6) C dX7_toll_5 hf rfl fun v2 hf => ?_
  refine z_iconst (q := 7) C (1 : Int32) dX7_toll_6 ki_1 rfl ?_
  refine z_icmple (q := 10) (tgt := 14) C dX7_toll_7 (by decide) rfl hf (fun c7 hf => ?_) (fun c7 hf => ?_)
  · refine z_aload_n (q := 15) (i := 1) C 1 dX7_toll_14 rfl rfl rfl ?_
    refine z_getR (q := 18) C flX7_49 dX7_toll_15 hf rfl fun v3 hf => ?_
    refine z_aload_n (q := 19) (i := 0) C 0 dX7_toll_18 rfl rfl rfl ?_
    refine z_getR (q := 22) C flX7_21 dX7_toll_19 hf rfl fun v4 hf => ?_
    refine z_iload_n (q := 23) (i := 2) C 2 dX7_toll_22 rfl rfl rfl ?_
    refine z_iald (q := 24) C dX7_toll_23 hf rfl fun v5 hf => ?_
    refine z_aaldR (q := 25) C 6 (by decide) (by decide) dX7_toll_24 hf rfl fun v6 hf => ?_
    refine z_getI (q := 28) C flX7_53 dX7_toll_25 hf rfl fun v7 hf => ?_
    refine z_aload_n (q := 29) (i := 0) C 0 dX7_toll_28 rfl rfl rfl ?_
    refine z_getR (q := 32) C flX7_11 dX7_toll_29 hf rfl fun v8 hf => ?_
    refine z_iload_n (q := 33) (i := 2) C 2 dX7_toll_32 rfl rfl rfl ?_
    refine z_iald (q := 34) C dX7_toll_33 hf rfl fun v9 hf => ?_
    refine z_iconst (q := 35) C (1 : Int32) dX7_toll_34 ki_1 rfl ?_
    refine z_icmpne (q := 38) (tgt := 42) C dX7_toll_35 (by decide) rfl hf (fun c35 hf => ?_) (fun c35 hf => ?_)
    · refine z_iconst (q := 43) C (1 : Int32) dX7_toll_42 ki_1 rfl ?_
      refine z_lv [] rfl ?_
      exact j43_0 (1 : Int32) v7 σ hf
    · refine z_iconst (q := 39) C (2 : Int32) dX7_toll_38 ki_2 rfl ?_
      refine z_goto (q := 43) C dX7_toll_39 (by decide) ?_
      refine z_lv [] rfl ?_
      exact j43_0 (2 : Int32) v7 σ hf
  · refine z_iconst (q := 11) C (0 : Int32) dX7_toll_10 ki_0 rfl ?_
    refine z_goto (q := 44) C dX7_toll_11 (by decide) ?_
    refine z_lv [] rfl ?_
    exact j44_0 (0 : Int32) σ hf

noncomputable def f_X7_minutes_J28 (w0_28 : Int32) (σ : ZT) : Option (Int32 × ZT) :=
  some (w0_28, σ)
noncomputable def f_X7_minutes (a0 : Nat) (a1 : Nat) (i2 : Int32) (σ : ZT) : Option (Int32 × ZT) :=
  (gR 7 700 a0 σ).bind fun v1 =>
  (ldI 0 v1 i2 σ).bind fun v2 =>
  if (1 : Int32) < v2 then
  (f_X7_minutes_J28 (0 : Int32) σ)
  else
  ((gR 6 606 a1 σ).bind fun v3 =>
  (gR 7 703 a0 σ).bind fun v4 =>
  (ldI 0 v4 i2 σ).bind fun v5 =>
  (ldR 6 v3 v5 σ).bind fun v6 =>
  (gI 11 1108 v6 σ).bind fun v7 =>
  f_X7_minutes_J28 v7 σ)
set_option maxHeartbeats 4000000 in
theorem m_X7_minutes {l : Launch} {G : ZG} (a0 : Nat) (a1 : Nat) (i2 : Int32) (σ : ZT) {out : (Int32 × ZT)} (hf : f_X7_minutes a0 a1 i2 σ = some out) : ZM l G yX7_minutes cX7_minutes 3 (some .int) [] 1 [.ref a0, .ref a1, .int i2] σ (.returned (some (.int out.1))) out.2 := by
  refine ZM.of [(0, .ref a0), (1, .ref a1), (2, .int i2)] rfl (Nat.le_of_ble_eq_true rfl) fun X (C : ZC G RX7 "minutes" cX7_minutes 3 (some .int) [] X 1) => ?_
  unfold f_X7_minutes at hf
  have j28_0 : ∀ (w0_28 : Int32) (σ : ZT), f_X7_minutes_J28 w0_28 σ = some out → ZW l G 3 X (ZQ G X (.returned (some (.int out.1))) out.2) σ 28 [] [.int w0_28] := by
    intro w0_28 σ hf
    unfold f_X7_minutes_J28 at hf
    exact z_ireturn C rfl dX7_minutes_28 (Option.some.inj hf)
  refine z_aload_n (q := 1) (i := 0) C 0 dX7_minutes_0 rfl rfl rfl ?_
  refine z_getR (q := 4) C flX7_11 dX7_minutes_1 hf rfl fun v1 hf => ?_
  refine z_iload_n (q := 5) (i := 2) C 2 dX7_minutes_4 rfl rfl rfl ?_
  refine z_iald (q := 6) C dX7_minutes_5 hf rfl fun v2 hf => ?_
  refine z_iconst (q := 7) C (1 : Int32) dX7_minutes_6 ki_1 rfl ?_
  refine z_icmple (q := 10) (tgt := 14) C dX7_minutes_7 (by decide) rfl hf (fun c7 hf => ?_) (fun c7 hf => ?_)
  · refine z_aload_n (q := 15) (i := 1) C 1 dX7_minutes_14 rfl rfl rfl ?_
    refine z_getR (q := 18) C flX7_49 dX7_minutes_15 hf rfl fun v3 hf => ?_
    refine z_aload_n (q := 19) (i := 0) C 0 dX7_minutes_18 rfl rfl rfl ?_
    refine z_getR (q := 22) C flX7_21 dX7_minutes_19 hf rfl fun v4 hf => ?_
    refine z_iload_n (q := 23) (i := 2) C 2 dX7_minutes_22 rfl rfl rfl ?_
    refine z_iald (q := 24) C dX7_minutes_23 hf rfl fun v5 hf => ?_
    refine z_aaldR (q := 25) C 6 (by decide) (by decide) dX7_minutes_24 hf rfl fun v6 hf => ?_
    refine z_getI (q := 28) C flX7_58 dX7_minutes_25 hf rfl fun v7 hf => ?_
    refine z_lv [] rfl ?_
    exact j28_0 v7 σ hf
  · refine z_iconst (q := 11) C (0 : Int32) dX7_minutes_10 ki_0 rfl ?_
    refine z_goto (q := 28) C dX7_minutes_11 (by decide) ?_
    refine z_lv [] rfl ?_
    exact j28_0 (0 : Int32) σ hf

noncomputable def f_X8_begin_J23 (a0_23 : Nat) (w0_23 : Int32) (w1_23 : Nat) (σ : ZT) : Option ZT :=
  (pZ 8 809 w1_23 w0_23 σ).bind fun σ =>
  (pI 8 802 a0_23 (0 : Int32) σ).bind fun σ =>
  (pI 8 803 a0_23 (0 : Int32) σ).bind fun σ =>
  (pI 8 804 a0_23 (0 : Int32) σ).bind fun σ =>
  (pI 8 805 a0_23 (0 : Int32) σ).bind fun σ =>
  (pI 8 806 a0_23 (0 : Int32) σ).bind fun σ =>
  (pI 8 807 a0_23 (0 : Int32) σ).bind fun σ =>
  (pZ 8 808 a0_23 (0 : Int32) σ).bind fun σ =>
  some σ
noncomputable def f_X8_begin (a0 : Nat) (a1 : Nat) (i2 : Int32) (σ : ZT) : Option ZT :=
  (gR 8 800 a0 σ).bind fun v1 =>
  (vc 5 v1 σ (f_X5_be v1 a1 σ)).bind fun σ =>
  (pI 8 801 a0 i2 σ).bind fun σ =>
  if i2 < 0 then
  (f_X8_begin_J23 a0 (0 : Int32) a0 σ)
  else
  (f_X8_begin_J23 a0 (1 : Int32) a0 σ)
set_option maxHeartbeats 4000000 in
theorem m_X8_begin {l : Launch} {G : ZG} (a0 : Nat) (a1 : Nat) (i2 : Int32) (σ : ZT) {out : ZT} (hf : f_X8_begin a0 a1 i2 σ = some out) : ZM l G yX8_begin cX8_begin 3 none [] 7 [.ref a0, .ref a1, .int i2] σ (.returned none) out := by
  refine ZM.of [(0, .ref a0), (1, .ref a1), (2, .int i2)] rfl (Nat.le_of_ble_eq_true rfl) fun X (C : ZC G RX8 "begin" cX8_begin 3 none [] X 7) => ?_
  unfold f_X8_begin at hf
  have j23_0 : ∀ (a0_23 : Nat) (w0_23 : Int32) (w1_23 : Nat) (σ : ZT), f_X8_begin_J23 a0_23 w0_23 w1_23 σ = some out → ZW l G 3 X (ZQ G X (.returned none) out) σ 23 [(0, .ref a0_23)] [.int w0_23, .ref w1_23] := by
    intro a0_23 w0_23 w1_23 σ hf
    unfold f_X8_begin_J23 at hf
    refine z_putZ (q := 26) C puX8_26 dX8_begin_23 hf rfl fun σ hf => ?_
    refine z_aload_n (q := 27) (i := 0) C 0 dX8_begin_26 rfl rfl rfl ?_
    refine z_iconst (q := 28) C (0 : Int32) dX8_begin_27 ki_0 rfl ?_
    refine z_putI (q := 31) C puX8_30 dX8_begin_28 hf rfl fun σ hf => ?_
    refine z_aload_n (q := 32) (i := 0) C 0 dX8_begin_31 rfl rfl rfl ?_
    refine z_iconst (q := 33) C (0 : Int32) dX8_begin_32 ki_0 rfl ?_
    refine z_putI (q := 36) C puX8_33 dX8_begin_33 hf rfl fun σ hf => ?_
    refine z_aload_n (q := 37) (i := 0) C 0 dX8_begin_36 rfl rfl rfl ?_
    refine z_iconst (q := 38) C (0 : Int32) dX8_begin_37 ki_0 rfl ?_
    refine z_putI (q := 41) C puX8_36 dX8_begin_38 hf rfl fun σ hf => ?_
    refine z_aload_n (q := 42) (i := 0) C 0 dX8_begin_41 rfl rfl rfl ?_
    refine z_iconst (q := 43) C (0 : Int32) dX8_begin_42 ki_0 rfl ?_
    refine z_putI (q := 46) C puX8_39 dX8_begin_43 hf rfl fun σ hf => ?_
    refine z_aload_n (q := 47) (i := 0) C 0 dX8_begin_46 rfl rfl rfl ?_
    refine z_iconst (q := 48) C (0 : Int32) dX8_begin_47 ki_0 rfl ?_
    refine z_putI (q := 51) C puX8_42 dX8_begin_48 hf rfl fun σ hf => ?_
    refine z_aload_n (q := 52) (i := 0) C 0 dX8_begin_51 rfl rfl rfl ?_
    refine z_iconst (q := 53) C (0 : Int32) dX8_begin_52 ki_0 rfl ?_
    refine z_putI (q := 56) C puX8_45 dX8_begin_53 hf rfl fun σ hf => ?_
    refine z_aload_n (q := 57) (i := 0) C 0 dX8_begin_56 rfl rfl rfl ?_
    refine z_iconst (q := 58) C (0 : Int32) dX8_begin_57 ki_0 rfl ?_
    refine z_putZ (q := 61) C puX8_48 dX8_begin_58 hf rfl fun σ hf => ?_
    exact z_return C rfl dX8_begin_61 (Option.some.inj hf)
  refine z_aload_n (q := 1) (i := 0) C 0 dX8_begin_0 rfl rfl rfl ?_
  refine z_getR (q := 4) C flX8_12 dX8_begin_1 hf rfl fun v1 hf => ?_
  refine z_aload_n (q := 5) (i := 1) C 1 dX8_begin_4 rfl rfl rfl ?_
  refine z_callVv (q := 8) (As := [.ref a1]) C (fun o ho => m_X5_be _ _ _ ho) zk5 vvX8_18 cdX5_be pnX5 dX8_begin_5 rfl (by decide) (Nat.le_of_ble_eq_true rfl) hf rfl fun σ hf => ?_
  refine z_aload_n (q := 9) (i := 0) C 0 dX8_begin_8 rfl rfl rfl ?_
  refine z_iload_n (q := 10) (i := 2) C 2 dX8_begin_9 rfl rfl rfl ?_
  refine z_putI (q := 13) C puX8_22 dX8_begin_10 hf rfl fun σ hf => ?_
  refine z_aload_n (q := 14) (i := 0) C 0 dX8_begin_13 rfl rfl rfl ?_
  refine z_iload_n (q := 15) (i := 2) C 2 dX8_begin_14 rfl rfl rfl ?_
  refine z_iflt (q := 18) (tgt := 22) C dX8_begin_15 (by decide) rfl hf (fun c15 hf => ?_) (fun c15 hf => ?_)
  · refine z_iconst (q := 23) C (0 : Int32) dX8_begin_22 ki_0 rfl ?_
    refine z_lv [0] rfl ?_
    exact j23_0 a0 (0 : Int32) a0 σ hf
  · refine z_iconst (q := 19) C (1 : Int32) dX8_begin_18 ki_1 rfl ?_
    refine z_goto (q := 23) C dX8_begin_19 (by decide) ?_
    refine z_lv [0] rfl ?_
    exact j23_0 a0 (1 : Int32) a0 σ hf

noncomputable def f_X15_all_L2 (F : Nat → Nat → ZT → Option ZT) (c0_2 : Nat) (c1_2 : Nat) (i_1 : Int32) (σ : ZT) : Option ((Int32 × ZT) ⊕ ZT) :=
  (gIB  1501 c0_2 σ).bind fun v2 =>
  if i_1 < v2 then
  ((gI 8 808 c1_2 σ).bind fun v3 =>
  if v3 = 0 then
  ((gRB  1500 c0_2 σ).bind fun v4 =>
  (ldR 10 v4 i_1 σ).bind fun v5 =>
  (vc4 v5 σ (F v5 c1_2 σ)).bind fun σ =>
  some (.inl ((i_1 + (1 : Int32)), σ)))
  else
  (some (.inr σ)))
  else
  (some (.inr σ))
noncomputable def f_X15_all_J33 (F : Nat → Nat → ZT → Option ZT)  (σ : ZT) : Option ZT :=
  some σ
noncomputable def f_X15_all (F : Nat → Nat → ZT → Option ZT) (a0 : Nat) (a1 : Nat) (σ : ZT) : Option ZT :=
  (loopC (fun s : (Int32 × ZT) => f_X15_all_L2 F a0 a1 s.1 s.2) ((0 : Int32), σ)).bind fun σ =>
  f_X15_all_J33 F  σ
set_option maxHeartbeats 4000000 in
theorem m_X15_all {l : Launch} {G : ZG} {d0 : Nat} (F : Nat → Nat → ZT → Option ZT) (hF : ∀ (a : Nat) (p0 : Nat) (σ : ZT) (o : ZT), F a p0 σ = some o → ZM l G yX14_go cX14_go 2 none [] d0 [.ref a, .ref p0] σ (.returned none) o) (a0 : Nat) (a1 : Nat) (σ : ZT) {out : ZT} (hf : f_X15_all F a0 a1 σ = some out) : ZM l G yX15_all cX15_all 3 none [] (d0 + 1) [.ref a0, .ref a1] σ (.returned none) out := by
  refine ZM.of [(0, .ref a0), (1, .ref a1)] rfl (Nat.le_of_ble_eq_true rfl) fun X (C : ZC G RX15 "all" cX15_all 3 none [] X (d0 + 1)) => ?_
  unfold f_X15_all at hf
  have j33_0 : ∀  (σ : ZT), f_X15_all_J33 F  σ = some out → ZW l G 3 X (ZQ G X (.returned none) out) σ 33 [] [] := by
    intro  σ hf
    unfold f_X15_all_J33 at hf
    exact z_return C rfl dX15_all_33 (Option.some.inj hf)
  refine z_iconst (q := 1) C (0 : Int32) dX15_all_0 ki_0 rfl ?_
  refine z_istore_n (q := 2) (i := 2) (lv' := [(2, .int (0 : Int32)), (0, .ref a0), (1, .ref a1)]) C dX15_all_1 rfl (by decide) rfl rfl ?_
  refine z_lv [1, 2, 0] rfl ?_
  obtain ⟨r1, hr1, hk1⟩ := Option.bind_eq_some_iff.mp hf
  refine loopC_ind (P := fun s => ZW l G 3 X (ZQ G X (.returned none) out) s.2 2 [(0, .ref a0), (1, .ref a1), (2, .int s.1)] []) (fun s x1 hf hx1 => ?_) hr1
  obtain ⟨i_1, σ⟩ := s
  unfold f_X15_all_L2 at hf
  try dsimp only at hf
  try dsimp only
  refine z_iload_n (q := 3) (i := 2) C 2 dX15_all_2 rfl rfl rfl ?_
  refine z_aload_n (q := 4) (i := 0) C 0 dX15_all_3 rfl rfl rfl ?_
  refine z_getIB (q := 7) C fbX15_13 dX15_all_4 hf rfl fun v2 hf => ?_
  refine z_icmpge (q := 10) (tgt := 33) C dX15_all_7 (by decide) rfl hf (fun c7 hf => ?_) (fun c7 hf => ?_)
  · have e1 := zl_x hf hx1
    have hf := hk1
    rw [← e1] at hf
    try dsimp only at hf
    refine z_lv [] rfl ?_
    exact j33_0  σ hf
  · refine z_aload_n (q := 11) (i := 1) C 1 dX15_all_10 rfl rfl rfl ?_
    refine z_getI (q := 14) C flX15_23 dX15_all_11 hf rfl fun v3 hf => ?_
    refine z_ifne (q := 17) (tgt := 33) C dX15_all_14 (by decide) rfl hf (fun c14 hf => ?_) (fun c14 hf => ?_)
    · have e1 := zl_x hf hx1
      have hf := hk1
      rw [← e1] at hf
      try dsimp only at hf
      refine z_lv [] rfl ?_
      exact j33_0  σ hf
    · refine z_aload_n (q := 18) (i := 0) C 0 dX15_all_17 rfl rfl rfl ?_
      refine z_getRB (q := 21) C fbX15_7 dX15_all_18 hf rfl fun v4 hf => ?_
      refine z_iload_n (q := 22) (i := 2) C 2 dX15_all_21 rfl rfl rfl ?_
      refine z_aaldR (q := 23) C 10 (by decide) (by decide) dX15_all_22 hf rfl fun v5 hf => ?_
      refine z_aload_n (q := 24) (i := 1) C 1 dX15_all_23 rfl rfl rfl ?_
      refine z_call4v (q := 27) (As := [.ref a1]) C (fun o ho => hF _ _ _ o ho) v4X15_29 cdX14_go pnX14 dX15_all_24 rfl (by omega) (Nat.le_of_ble_eq_true rfl) hf rfl fun σ hf => ?_
      refine z_iinc (q := 30) (i := 2) (lv' := [(2, .int (i_1 + (1 : Int32))), (0, .ref a0), (1, .ref a1)]) C 2 (i_1 + (1 : Int32)) dX15_all_27 rfl (kn_1 _) (by decide) rfl rfl ?_
      refine z_goto (q := 2) C dX15_all_30 (by decide) ?_
      refine z_lv [1, 2, 0] rfl ?_
      have hc1 := zl_c hf hx1
      exact hc1

noncomputable def f_X6_init (a0 : Nat) (σ : ZT) : Option ZT :=
  bnd2 (nwA 1 (6 : Int32) σ) fun v1 σ =>
  (pR 6 604 a0 (some v1) σ).bind fun σ =>
  bnd2 (nwA 0 (6 : Int32) σ) fun v2 σ =>
  (pR 6 605 a0 (some v2) σ).bind fun σ =>
  bnd2 (nwA 6 (8 : Int32) σ) fun v3 σ =>
  (pR 6 606 a0 (some v3) σ).bind fun σ =>
  bnd2 (nwA 7 (4 : Int32) σ) fun v4 σ =>
  (pR 6 607 a0 (some v4) σ).bind fun σ =>
  bnd2 (nwA 8 (2 : Int32) σ) fun v5 σ =>
  (pR 6 608 a0 (some v5) σ).bind fun σ =>
  some σ
set_option maxHeartbeats 4000000 in
theorem m_X6_init {l : Launch} {G : ZG} (a0 : Nat) (σ : ZT) {out : ZT} (hf : f_X6_init a0 σ = some out) : ZM l G yX6_init cX6_init 1 none [] 2 [.ref a0] σ (.returned none) out := by
  refine ZM.of [(0, .ref a0)] rfl (Nat.le_of_ble_eq_true rfl) fun X (C : ZC G RX6 "<init>" cX6_init 1 none [] X 2) => ?_
  unfold f_X6_init at hf
  refine z_aload_n (q := 1) (i := 0) C 0 dX6_init_0 rfl rfl rfl ?_
  refine z_objInit (q := 4) C q303 dX6_init_1 rfl (by decide) (Nat.le_of_ble_eq_true rfl) ?_
  refine z_aload_n (q := 5) (i := 0) C 0 dX6_init_4 rfl rfl rfl ?_
  refine z_bipush (q := 7) C (6 : Int32) dX6_init_5 kb_6 rfl ?_
  refine z_newarr (q := 9) C 1 (by decide) rfl q366 dX6_init_7 hf rfl fun v1 σ hf => ?_
  refine z_putR (q := 12) C puX6_9 rfl dX6_init_9 hf rfl fun σ hf => ?_
  refine z_aload_n (q := 13) (i := 0) C 0 dX6_init_12 rfl rfl rfl ?_
  refine z_bipush (q := 15) C (6 : Int32) dX6_init_13 kb_6 rfl ?_
  refine z_newarr (q := 17) C 0 (by decide) rfl q367 dX6_init_15 hf rfl fun v2 σ hf => ?_
  refine z_putR (q := 20) C puX6_15 rfl dX6_init_17 hf rfl fun σ hf => ?_
  refine z_aload_n (q := 21) (i := 0) C 0 dX6_init_20 rfl rfl rfl ?_
  refine z_bipush (q := 23) C (8 : Int32) dX6_init_21 kb_8 rfl ?_
  refine z_anewarr (q := 26) C 6 (by decide) (by decide) rfl (by decide) q304 dX6_init_23 hf rfl fun v3 σ hf => ?_
  refine z_putR (q := 29) C puX6_21 rfl dX6_init_26 hf rfl fun σ hf => ?_
  refine z_aload_n (q := 30) (i := 0) C 0 dX6_init_29 rfl rfl rfl ?_
  refine z_iconst (q := 31) C (4 : Int32) dX6_init_30 ki_4 rfl ?_
  refine z_anewarr (q := 34) C 7 (by decide) (by decide) rfl (by decide) q306 dX6_init_31 hf rfl fun v4 σ hf => ?_
  refine z_putR (q := 37) C puX6_27 rfl dX6_init_34 hf rfl fun σ hf => ?_
  refine z_aload_n (q := 38) (i := 0) C 0 dX6_init_37 rfl rfl rfl ?_
  refine z_iconst (q := 39) C (2 : Int32) dX6_init_38 ki_2 rfl ?_
  refine z_anewarr (q := 42) C 8 (by decide) (by decide) rfl (by decide) q308 dX6_init_39 hf rfl fun v5 σ hf => ?_
  refine z_putR (q := 45) C puX6_33 rfl dX6_init_42 hf rfl fun σ hf => ?_
  exact z_return C rfl dX6_init_45 (Option.some.inj hf)

noncomputable def f_X5_init (a0 : Nat) (σ : ZT) : Option ZT :=
  bnd2 (nwO 6 9 σ) fun v1 σ =>
  (f_X6_init v1 σ).bind fun σ =>
  (pR 5 500 a0 (some v1) σ).bind fun σ =>
  bnd2 (nwA 0 (4 : Int32) σ) fun v3 σ =>
  (pR 5 501 a0 (some v3) σ).bind fun σ =>
  bnd2 (nwA 0 (2 : Int32) σ) fun v4 σ =>
  (pR 5 502 a0 (some v4) σ).bind fun σ =>
  (pI 5 503 a0 (-1 : Int32) σ).bind fun σ =>
  (pI 5 504 a0 (-1 : Int32) σ).bind fun σ =>
  some σ
set_option maxHeartbeats 4000000 in
theorem m_X5_init {l : Launch} {G : ZG} (a0 : Nat) (σ : ZT) {out : ZT} (hf : f_X5_init a0 σ = some out) : ZM l G yX5_init cX5_init 1 none [] 3 [.ref a0] σ (.returned none) out := by
  refine ZM.of [(0, .ref a0)] rfl (Nat.le_of_ble_eq_true rfl) fun X (C : ZC G RX5 "<init>" cX5_init 1 none [] X 3) => ?_
  unfold f_X5_init at hf
  refine z_aload_n (q := 1) (i := 0) C 0 dX5_init_0 rfl rfl rfl ?_
  refine z_objInit (q := 4) C q297 dX5_init_1 rfl (by decide) (Nat.le_of_ble_eq_true rfl) ?_
  refine z_aload_n (q := 5) (i := 0) C 0 dX5_init_4 rfl rfl rfl ?_
  refine z_new (q := 8) C zk6 zty6 q298 q299 q152 dX5_init_5 hf rfl fun v1 σ hf => ?_
  refine z_dup (q := 9) C dX5_init_8 rfl rfl ?_
  refine z_callIv (q := 12) (As := []) C (fun o ho => m_X6_init _ _ ho) viX5_11 pnX6 dX5_init_9 rfl (by decide) (Nat.le_of_ble_eq_true rfl) hf rfl fun σ hf => ?_
  refine z_putR (q := 15) C puX5_12 rfl dX5_init_12 hf rfl fun σ hf => ?_
  refine z_aload_n (q := 16) (i := 0) C 0 dX5_init_15 rfl rfl rfl ?_
  refine z_iconst (q := 17) C (4 : Int32) dX5_init_16 ki_4 rfl ?_
  refine z_newarr (q := 19) C 0 (by decide) rfl q367 dX5_init_17 hf rfl fun v3 σ hf => ?_
  refine z_putR (q := 22) C puX5_18 rfl dX5_init_19 hf rfl fun σ hf => ?_
  refine z_aload_n (q := 23) (i := 0) C 0 dX5_init_22 rfl rfl rfl ?_
  refine z_iconst (q := 24) C (2 : Int32) dX5_init_23 ki_2 rfl ?_
  refine z_newarr (q := 26) C 0 (by decide) rfl q367 dX5_init_24 hf rfl fun v4 σ hf => ?_
  refine z_putR (q := 29) C puX5_22 rfl dX5_init_26 hf rfl fun σ hf => ?_
  refine z_aload_n (q := 30) (i := 0) C 0 dX5_init_29 rfl rfl rfl ?_
  refine z_iconst (q := 31) C (-1 : Int32) dX5_init_30 ki_m1 rfl ?_
  refine z_putI (q := 34) C puX5_25 dX5_init_31 hf rfl fun σ hf => ?_
  refine z_aload_n (q := 35) (i := 0) C 0 dX5_init_34 rfl rfl rfl ?_
  refine z_iconst (q := 36) C (-1 : Int32) dX5_init_35 ki_m1 rfl ?_
  refine z_putI (q := 39) C puX5_29 dX5_init_36 hf rfl fun σ hf => ?_
  exact z_return C rfl dX5_init_39 (Option.some.inj hf)

noncomputable def f_X4_init (a0 : Nat) (σ : ZT) : Option ZT :=
  bnd2 (nwO 5 6 σ) fun v1 σ =>
  (f_X5_init v1 σ).bind fun σ =>
  (pR 4 400 a0 (some v1) σ).bind fun σ =>
  some σ
set_option maxHeartbeats 4000000 in
theorem m_X4_init {l : Launch} {G : ZG} (a0 : Nat) (σ : ZT) {out : ZT} (hf : f_X4_init a0 σ = some out) : ZM l G yX4_init cX4_init 1 none [] 4 [.ref a0] σ (.returned none) out := by
  refine ZM.of [(0, .ref a0)] rfl (Nat.le_of_ble_eq_true rfl) fun X (C : ZC G RX4 "<init>" cX4_init 1 none [] X 4) => ?_
  unfold f_X4_init at hf
  refine z_aload_n (q := 1) (i := 0) C 0 dX4_init_0 rfl rfl rfl ?_
  refine z_objInit (q := 4) C q291 dX4_init_1 rfl (by decide) (Nat.le_of_ble_eq_true rfl) ?_
  refine z_aload_n (q := 5) (i := 0) C 0 dX4_init_4 rfl rfl rfl ?_
  refine z_new (q := 8) C zk5 zty5 q292 q293 q151 dX4_init_5 hf rfl fun v1 σ hf => ?_
  refine z_dup (q := 9) C dX4_init_8 rfl rfl ?_
  refine z_callIv (q := 12) (As := []) C (fun o ho => m_X5_init _ _ ho) viX4_9 pnX5 dX4_init_9 rfl (by decide) (Nat.le_of_ble_eq_true rfl) hf rfl fun σ hf => ?_
  refine z_putR (q := 15) C puX4_10 rfl dX4_init_12 hf rfl fun σ hf => ?_
  exact z_return C rfl dX4_init_15 (Option.some.inj hf)

noncomputable def f_X4_be (a0 : Nat) (a1 : Nat) (σ : ZT) : Option ZT :=
  (gR 4 400 a0 σ).bind fun v1 =>
  (gR 4 400 a1 σ).bind fun v2 =>
  (vc 5 v1 σ (f_X5_be v1 v2 σ)).bind fun σ =>
  (gQ 4 401 a1 σ).bind fun v4 =>
  (pR 4 401 a0 v4 σ).bind fun σ =>
  some σ
set_option maxHeartbeats 4000000 in
theorem m_X4_be {l : Launch} {G : ZG} (a0 : Nat) (a1 : Nat) (σ : ZT) {out : ZT} (hf : f_X4_be a0 a1 σ = some out) : ZM l G yX4_be cX4_be 2 none [] 7 [.ref a0, .ref a1] σ (.returned none) out := by
  refine ZM.of [(0, .ref a0), (1, .ref a1)] rfl (Nat.le_of_ble_eq_true rfl) fun X (C : ZC G RX4 "be" cX4_be 2 none [] X 7) => ?_
  unfold f_X4_be at hf
  refine z_aload_n (q := 1) (i := 0) C 0 dX4_be_0 rfl rfl rfl ?_
  refine z_getR (q := 4) C flX4_10 dX4_be_1 hf rfl fun v1 hf => ?_
  refine z_aload_n (q := 5) (i := 1) C 1 dX4_be_4 rfl rfl rfl ?_
  refine z_getR (q := 8) C flX4_10 dX4_be_5 hf rfl fun v2 hf => ?_
  refine z_callVv (q := 11) (As := [.ref v2]) C (fun o ho => m_X5_be _ _ _ ho) zk5 vvX4_16 cdX5_be pnX5 dX4_be_8 rfl (by decide) (Nat.le_of_ble_eq_true rfl) hf rfl fun σ hf => ?_
  refine z_aload_n (q := 12) (i := 0) C 0 dX4_be_11 rfl rfl rfl ?_
  refine z_aload_n (q := 13) (i := 1) C 1 dX4_be_12 rfl rfl rfl ?_
  refine z_getQ (q := 16) C flX4_20 dX4_be_13 hf rfl fun v4 hf => ?_
  refine z_putQ (q := 19) C puX4_20 rfl dX4_be_16 hf rfl fun σ hf => ?_
  exact z_return C rfl dX4_be_19 (Option.some.inj hf)

noncomputable def f_X1_init (a0 : Nat) (σ : ZT) : Option ZT :=
  some σ
set_option maxHeartbeats 4000000 in
theorem m_X1_init {l : Launch} {G : ZG} (a0 : Nat) (σ : ZT) {out : ZT} (hf : f_X1_init a0 σ = some out) : ZM l G yX1_init cX1_init 1 none [] 2 [.ref a0] σ (.returned none) out := by
  refine ZM.of [(0, .ref a0)] rfl (Nat.le_of_ble_eq_true rfl) fun X (C : ZC G RX1 "<init>" cX1_init 1 none [] X 2) => ?_
  unfold f_X1_init at hf
  refine z_aload_n (q := 1) (i := 0) C 0 dX1_init_0 rfl rfl rfl ?_
  refine z_objInit (q := 4) C q191 dX1_init_1 rfl (by decide) (Nat.le_of_ble_eq_true rfl) ?_
  exact z_return C rfl dX1_init_4 (Option.some.inj hf)

noncomputable def f_X2_at (a0 : Nat) (i1 : Int32) (i2 : Int32) (σ : ZT) : Option (Nat × ZT) :=
  (pI 2 206 a0 i1 σ).bind fun σ =>
  (pI 2 207 a0 i2 σ).bind fun σ =>
  some (a0, σ)
set_option maxHeartbeats 4000000 in
theorem m_X2_at {l : Launch} {G : ZG} (a0 : Nat) (i1 : Int32) (i2 : Int32) (σ : ZT) {out : (Nat × ZT)} (hf : f_X2_at a0 i1 i2 σ = some out) : ZM l G yX2_at cX2_at 3 (some (.object "SillBridges$Bad")) [] 1 [.ref a0, .int i1, .int i2] σ (.returned (some (.ref out.1))) out.2 := by
  refine ZM.of [(0, .ref a0), (1, .int i1), (2, .int i2)] rfl (Nat.le_of_ble_eq_true rfl) fun X (C : ZC G RX2 "at" cX2_at 3 (some (.object "SillBridges$Bad")) [] X 1) => ?_
  unfold f_X2_at at hf
  refine z_aload_n (q := 1) (i := 0) C 0 dX2_at_0 rfl rfl rfl ?_
  refine z_iload_n (q := 2) (i := 1) C 1 dX2_at_1 rfl rfl rfl ?_
  refine z_putI (q := 5) C puX2_7 dX2_at_2 hf rfl fun σ hf => ?_
  refine z_aload_n (q := 6) (i := 0) C 0 dX2_at_5 rfl rfl rfl ?_
  refine z_iload_n (q := 7) (i := 2) C 2 dX2_at_6 rfl rfl rfl ?_
  refine z_putI (q := 10) C puX2_13 dX2_at_7 hf rfl fun σ hf => ?_
  refine z_aload_n (q := 11) (i := 0) C 0 dX2_at_10 rfl rfl rfl ?_
  exact z_areturn C rfl dX2_at_11 (Option.some.inj hf)

noncomputable def f_X6_placeNamed_L2 (c0_2 : Nat) (c1_2 : Int64) (i_1 : Int32) (σ : ZT) : Option ((Int32 × ZT) ⊕ ((Int32 × ZT) ⊕ ZT)) :=
  (gI 6 600 c0_2 σ).bind fun v2 =>
  if i_1 < v2 then
  ((gR 6 604 c0_2 σ).bind fun v3 =>
  (ldL v3 i_1 σ).bind fun v4 =>
  if (lg_cmp v4 c1_2) = 0 then
  (some (.inr (.inl (i_1, σ))))
  else
  (some (.inl ((i_1 + (1 : Int32)), σ))))
  else
  (some (.inr (.inr σ)))
noncomputable def f_X6_placeNamed (a0 : Nat) (l1 : Int64) (σ : ZT) : Option (Int32 × ZT) :=
  (loopC (fun s : (Int32 × ZT) => f_X6_placeNamed_L2 a0 l1 s.1 s.2) ((0 : Int32), σ)).bind fun x => (match x with
  | .inl o => some o
  | .inr σ => some ((-1 : Int32), σ))
set_option maxHeartbeats 4000000 in
theorem m_X6_placeNamed {l : Launch} {G : ZG} (a0 : Nat) (l1 : Int64) (σ : ZT) {out : (Int32 × ZT)} (hf : f_X6_placeNamed a0 l1 σ = some out) : ZM l G yX6_placeNamed cX6_placeNamed 4 (some .int) [] 1 [.ref a0, .long l1] σ (.returned (some (.int out.1))) out.2 := by
  refine ZM.of [(0, .ref a0), (1, .long l1)] rfl (Nat.le_of_ble_eq_true rfl) fun X (C : ZC G RX6 "placeNamed" cX6_placeNamed 4 (some .int) [] X 1) => ?_
  unfold f_X6_placeNamed at hf
  refine z_iconst (q := 1) C (0 : Int32) dX6_placeNamed_0 ki_0 rfl ?_
  refine z_istore_n (q := 2) (i := 3) (lv' := [(3, .int (0 : Int32)), (0, .ref a0), (1, .long l1)]) C dX6_placeNamed_1 rfl (by decide) rfl rfl ?_
  refine z_lv [1, 2, 0] rfl ?_
  obtain ⟨r1, hr1, hk1⟩ := Option.bind_eq_some_iff.mp hf
  refine loopC_ind (P := fun s => ZW l G 4 X (ZQ G X (.returned (some (.int out.1))) out.2) s.2 2 [(0, .ref a0), (1, .long l1), (3, .int s.1)] []) (fun s x1 hf hx1 => ?_) hr1
  obtain ⟨i_1, σ⟩ := s
  unfold f_X6_placeNamed_L2 at hf
  try dsimp only at hf
  try dsimp only
  refine z_iload_n (q := 3) (i := 3) C 2 dX6_placeNamed_2 rfl rfl rfl ?_
  refine z_aload_n (q := 4) (i := 0) C 0 dX6_placeNamed_3 rfl rfl rfl ?_
  refine z_getI (q := 7) C flX6_37 dX6_placeNamed_4 hf rfl fun v2 hf => ?_
  refine z_icmpge (q := 10) (tgt := 29) C dX6_placeNamed_7 (by decide) rfl hf (fun c7 hf => ?_) (fun c7 hf => ?_)
  · have e1 := zl_x hf hx1
    have hf := hk1
    rw [← e1] at hf
    try dsimp only at hf
    refine z_iconst (q := 30) C (-1 : Int32) dX6_placeNamed_29 ki_m1 rfl ?_
    exact z_ireturn C rfl dX6_placeNamed_30 (Option.some.inj hf)
  · refine z_aload_n (q := 11) (i := 0) C 0 dX6_placeNamed_10 rfl rfl rfl ?_
    refine z_getR (q := 14) C flX6_9 dX6_placeNamed_11 hf rfl fun v3 hf => ?_
    refine z_iload_n (q := 15) (i := 3) C 2 dX6_placeNamed_14 rfl rfl rfl ?_
    refine z_lald (q := 16) C dX6_placeNamed_15 hf rfl fun v4 hf => ?_
    refine z_lload_n (q := 17) (i := 1) C 1 dX6_placeNamed_16 rfl rfl rfl ?_
    refine z_lcmp (q := 18) C dX6_placeNamed_17 rfl ?_
    refine z_ifne (q := 21) (tgt := 23) C dX6_placeNamed_18 (by decide) rfl hf (fun c18 hf => ?_) (fun c18 hf => ?_)
    · refine z_iinc (q := 26) (i := 3) (lv' := [(3, .int (i_1 + (1 : Int32))), (0, .ref a0), (1, .long l1)]) C 2 (i_1 + (1 : Int32)) dX6_placeNamed_23 rfl (kn_1 _) (by decide) rfl rfl ?_
      refine z_goto (q := 2) C dX6_placeNamed_26 (by decide) ?_
      refine z_lv [1, 2, 0] rfl ?_
      have hc1 := zl_c hf hx1
      exact hc1
    · refine z_iload_n (q := 22) (i := 3) C 2 dX6_placeNamed_21 rfl rfl rfl ?_
      have e1 := zl_x hf hx1
      have hf := hk1
      rw [← e1] at hf
      try dsimp only at hf
      exact z_ireturn C rfl dX6_placeNamed_22 (Option.some.inj hf)

noncomputable def f_X6_bridgeNamed_L2 (c0_2 : Nat) (c1_2 : Int64) (i_1 : Int32) (σ : ZT) : Option ((Int32 × ZT) ⊕ ((Int32 × ZT) ⊕ ZT)) :=
  (gI 6 601 c0_2 σ).bind fun v2 =>
  if i_1 < v2 then
  ((gR 6 606 c0_2 σ).bind fun v3 =>
  (ldR 6 v3 i_1 σ).bind fun v4 =>
  (gL 11 1100 v4 σ).bind fun v5 =>
  if (lg_cmp v5 c1_2) = 0 then
  (some (.inr (.inl (i_1, σ))))
  else
  (some (.inl ((i_1 + (1 : Int32)), σ))))
  else
  (some (.inr (.inr σ)))
noncomputable def f_X6_bridgeNamed (a0 : Nat) (l1 : Int64) (σ : ZT) : Option (Int32 × ZT) :=
  (loopC (fun s : (Int32 × ZT) => f_X6_bridgeNamed_L2 a0 l1 s.1 s.2) ((0 : Int32), σ)).bind fun x => (match x with
  | .inl o => some o
  | .inr σ => some ((-1 : Int32), σ))
set_option maxHeartbeats 4000000 in
theorem m_X6_bridgeNamed {l : Launch} {G : ZG} (a0 : Nat) (l1 : Int64) (σ : ZT) {out : (Int32 × ZT)} (hf : f_X6_bridgeNamed a0 l1 σ = some out) : ZM l G yX6_bridgeNamed cX6_bridgeNamed 4 (some .int) [] 1 [.ref a0, .long l1] σ (.returned (some (.int out.1))) out.2 := by
  refine ZM.of [(0, .ref a0), (1, .long l1)] rfl (Nat.le_of_ble_eq_true rfl) fun X (C : ZC G RX6 "bridgeNamed" cX6_bridgeNamed 4 (some .int) [] X 1) => ?_
  unfold f_X6_bridgeNamed at hf
  refine z_iconst (q := 1) C (0 : Int32) dX6_bridgeNamed_0 ki_0 rfl ?_
  refine z_istore_n (q := 2) (i := 3) (lv' := [(3, .int (0 : Int32)), (0, .ref a0), (1, .long l1)]) C dX6_bridgeNamed_1 rfl (by decide) rfl rfl ?_
  refine z_lv [1, 2, 0] rfl ?_
  obtain ⟨r1, hr1, hk1⟩ := Option.bind_eq_some_iff.mp hf
  refine loopC_ind (P := fun s => ZW l G 4 X (ZQ G X (.returned (some (.int out.1))) out.2) s.2 2 [(0, .ref a0), (1, .long l1), (3, .int s.1)] []) (fun s x1 hf hx1 => ?_) hr1
  obtain ⟨i_1, σ⟩ := s
  unfold f_X6_bridgeNamed_L2 at hf
  try dsimp only at hf
  try dsimp only
  refine z_iload_n (q := 3) (i := 3) C 2 dX6_bridgeNamed_2 rfl rfl rfl ?_
  refine z_aload_n (q := 4) (i := 0) C 0 dX6_bridgeNamed_3 rfl rfl rfl ?_
  refine z_getI (q := 7) C flX6_41 dX6_bridgeNamed_4 hf rfl fun v2 hf => ?_
  refine z_icmpge (q := 10) (tgt := 32) C dX6_bridgeNamed_7 (by decide) rfl hf (fun c7 hf => ?_) (fun c7 hf => ?_)
  · have e1 := zl_x hf hx1
    have hf := hk1
    rw [← e1] at hf
    try dsimp only at hf
    refine z_iconst (q := 33) C (-1 : Int32) dX6_bridgeNamed_32 ki_m1 rfl ?_
    exact z_ireturn C rfl dX6_bridgeNamed_33 (Option.some.inj hf)
  · refine z_aload_n (q := 11) (i := 0) C 0 dX6_bridgeNamed_10 rfl rfl rfl ?_
    refine z_getR (q := 14) C flX6_21 dX6_bridgeNamed_11 hf rfl fun v3 hf => ?_
    refine z_iload_n (q := 15) (i := 3) C 2 dX6_bridgeNamed_14 rfl rfl rfl ?_
    refine z_aaldR (q := 16) C 6 (by decide) (by decide) dX6_bridgeNamed_15 hf rfl fun v4 hf => ?_
    refine z_getL (q := 19) C flX6_44 dX6_bridgeNamed_16 hf rfl fun v5 hf => ?_
    refine z_lload_n (q := 20) (i := 1) C 1 dX6_bridgeNamed_19 rfl rfl rfl ?_
    refine z_lcmp (q := 21) C dX6_bridgeNamed_20 rfl ?_
    refine z_ifne (q := 24) (tgt := 26) C dX6_bridgeNamed_21 (by decide) rfl hf (fun c21 hf => ?_) (fun c21 hf => ?_)
    · refine z_iinc (q := 29) (i := 3) (lv' := [(3, .int (i_1 + (1 : Int32))), (0, .ref a0), (1, .long l1)]) C 2 (i_1 + (1 : Int32)) dX6_bridgeNamed_26 rfl (kn_1 _) (by decide) rfl rfl ?_
      refine z_goto (q := 2) C dX6_bridgeNamed_29 (by decide) ?_
      refine z_lv [1, 2, 0] rfl ?_
      have hc1 := zl_c hf hx1
      exact hc1
    · refine z_iload_n (q := 25) (i := 3) C 2 dX6_bridgeNamed_24 rfl rfl rfl ?_
      have e1 := zl_x hf hx1
      have hf := hk1
      rw [← e1] at hf
      try dsimp only at hf
      exact z_ireturn C rfl dX6_bridgeNamed_25 (Option.some.inj hf)

noncomputable def f_X6_personNamed_L2 (c0_2 : Nat) (c1_2 : Int64) (i_1 : Int32) (σ : ZT) : Option ((Int32 × ZT) ⊕ ((Int32 × ZT) ⊕ ZT)) :=
  (gI 6 602 c0_2 σ).bind fun v2 =>
  if i_1 < v2 then
  ((gR 6 607 c0_2 σ).bind fun v3 =>
  (ldR 7 v3 i_1 σ).bind fun v4 =>
  (gL 12 1200 v4 σ).bind fun v5 =>
  if (lg_cmp v5 c1_2) = 0 then
  (some (.inr (.inl (i_1, σ))))
  else
  (some (.inl ((i_1 + (1 : Int32)), σ))))
  else
  (some (.inr (.inr σ)))
noncomputable def f_X6_personNamed (a0 : Nat) (l1 : Int64) (σ : ZT) : Option (Int32 × ZT) :=
  (loopC (fun s : (Int32 × ZT) => f_X6_personNamed_L2 a0 l1 s.1 s.2) ((0 : Int32), σ)).bind fun x => (match x with
  | .inl o => some o
  | .inr σ => some ((-1 : Int32), σ))
set_option maxHeartbeats 4000000 in
theorem m_X6_personNamed {l : Launch} {G : ZG} (a0 : Nat) (l1 : Int64) (σ : ZT) {out : (Int32 × ZT)} (hf : f_X6_personNamed a0 l1 σ = some out) : ZM l G yX6_personNamed cX6_personNamed 4 (some .int) [] 1 [.ref a0, .long l1] σ (.returned (some (.int out.1))) out.2 := by
  refine ZM.of [(0, .ref a0), (1, .long l1)] rfl (Nat.le_of_ble_eq_true rfl) fun X (C : ZC G RX6 "personNamed" cX6_personNamed 4 (some .int) [] X 1) => ?_
  unfold f_X6_personNamed at hf
  refine z_iconst (q := 1) C (0 : Int32) dX6_personNamed_0 ki_0 rfl ?_
  refine z_istore_n (q := 2) (i := 3) (lv' := [(3, .int (0 : Int32)), (0, .ref a0), (1, .long l1)]) C dX6_personNamed_1 rfl (by decide) rfl rfl ?_
  refine z_lv [1, 2, 0] rfl ?_
  obtain ⟨r1, hr1, hk1⟩ := Option.bind_eq_some_iff.mp hf
  refine loopC_ind (P := fun s => ZW l G 4 X (ZQ G X (.returned (some (.int out.1))) out.2) s.2 2 [(0, .ref a0), (1, .long l1), (3, .int s.1)] []) (fun s x1 hf hx1 => ?_) hr1
  obtain ⟨i_1, σ⟩ := s
  unfold f_X6_personNamed_L2 at hf
  try dsimp only at hf
  try dsimp only
  refine z_iload_n (q := 3) (i := 3) C 2 dX6_personNamed_2 rfl rfl rfl ?_
  refine z_aload_n (q := 4) (i := 0) C 0 dX6_personNamed_3 rfl rfl rfl ?_
  refine z_getI (q := 7) C flX6_48 dX6_personNamed_4 hf rfl fun v2 hf => ?_
  refine z_icmpge (q := 10) (tgt := 32) C dX6_personNamed_7 (by decide) rfl hf (fun c7 hf => ?_) (fun c7 hf => ?_)
  · have e1 := zl_x hf hx1
    have hf := hk1
    rw [← e1] at hf
    try dsimp only at hf
    refine z_iconst (q := 33) C (-1 : Int32) dX6_personNamed_32 ki_m1 rfl ?_
    exact z_ireturn C rfl dX6_personNamed_33 (Option.some.inj hf)
  · refine z_aload_n (q := 11) (i := 0) C 0 dX6_personNamed_10 rfl rfl rfl ?_
    refine z_getR (q := 14) C flX6_27 dX6_personNamed_11 hf rfl fun v3 hf => ?_
    refine z_iload_n (q := 15) (i := 3) C 2 dX6_personNamed_14 rfl rfl rfl ?_
    refine z_aaldR (q := 16) C 7 (by decide) (by decide) dX6_personNamed_15 hf rfl fun v4 hf => ?_
    refine z_getL (q := 19) C flX6_51 dX6_personNamed_16 hf rfl fun v5 hf => ?_
    refine z_lload_n (q := 20) (i := 1) C 1 dX6_personNamed_19 rfl rfl rfl ?_
    refine z_lcmp (q := 21) C dX6_personNamed_20 rfl ?_
    refine z_ifne (q := 24) (tgt := 26) C dX6_personNamed_21 (by decide) rfl hf (fun c21 hf => ?_) (fun c21 hf => ?_)
    · refine z_iinc (q := 29) (i := 3) (lv' := [(3, .int (i_1 + (1 : Int32))), (0, .ref a0), (1, .long l1)]) C 2 (i_1 + (1 : Int32)) dX6_personNamed_26 rfl (kn_1 _) (by decide) rfl rfl ?_
      refine z_goto (q := 2) C dX6_personNamed_29 (by decide) ?_
      refine z_lv [1, 2, 0] rfl ?_
      have hc1 := zl_c hf hx1
      exact hc1
    · refine z_iload_n (q := 25) (i := 3) C 2 dX6_personNamed_24 rfl rfl rfl ?_
      have e1 := zl_x hf hx1
      have hf := hk1
      rw [← e1] at hf
      try dsimp only at hf
      exact z_ireturn C rfl dX6_personNamed_25 (Option.some.inj hf)

noncomputable def f_X6_loadNamed_L2 (c0_2 : Nat) (c1_2 : Int64) (i_1 : Int32) (σ : ZT) : Option ((Int32 × ZT) ⊕ ((Int32 × ZT) ⊕ ZT)) :=
  (gI 6 603 c0_2 σ).bind fun v2 =>
  if i_1 < v2 then
  ((gR 6 608 c0_2 σ).bind fun v3 =>
  (ldR 8 v3 i_1 σ).bind fun v4 =>
  (gL 13 1300 v4 σ).bind fun v5 =>
  if (lg_cmp v5 c1_2) = 0 then
  (some (.inr (.inl (i_1, σ))))
  else
  (some (.inl ((i_1 + (1 : Int32)), σ))))
  else
  (some (.inr (.inr σ)))
noncomputable def f_X6_loadNamed (a0 : Nat) (l1 : Int64) (σ : ZT) : Option (Int32 × ZT) :=
  (loopC (fun s : (Int32 × ZT) => f_X6_loadNamed_L2 a0 l1 s.1 s.2) ((0 : Int32), σ)).bind fun x => (match x with
  | .inl o => some o
  | .inr σ => some ((-1 : Int32), σ))
set_option maxHeartbeats 4000000 in
theorem m_X6_loadNamed {l : Launch} {G : ZG} (a0 : Nat) (l1 : Int64) (σ : ZT) {out : (Int32 × ZT)} (hf : f_X6_loadNamed a0 l1 σ = some out) : ZM l G yX6_loadNamed cX6_loadNamed 4 (some .int) [] 1 [.ref a0, .long l1] σ (.returned (some (.int out.1))) out.2 := by
  refine ZM.of [(0, .ref a0), (1, .long l1)] rfl (Nat.le_of_ble_eq_true rfl) fun X (C : ZC G RX6 "loadNamed" cX6_loadNamed 4 (some .int) [] X 1) => ?_
  unfold f_X6_loadNamed at hf
  refine z_iconst (q := 1) C (0 : Int32) dX6_loadNamed_0 ki_0 rfl ?_
  refine z_istore_n (q := 2) (i := 3) (lv' := [(3, .int (0 : Int32)), (0, .ref a0), (1, .long l1)]) C dX6_loadNamed_1 rfl (by decide) rfl rfl ?_
  refine z_lv [1, 2, 0] rfl ?_
  obtain ⟨r1, hr1, hk1⟩ := Option.bind_eq_some_iff.mp hf
  refine loopC_ind (P := fun s => ZW l G 4 X (ZQ G X (.returned (some (.int out.1))) out.2) s.2 2 [(0, .ref a0), (1, .long l1), (3, .int s.1)] []) (fun s x1 hf hx1 => ?_) hr1
  obtain ⟨i_1, σ⟩ := s
  unfold f_X6_loadNamed_L2 at hf
  try dsimp only at hf
  try dsimp only
  refine z_iload_n (q := 3) (i := 3) C 2 dX6_loadNamed_2 rfl rfl rfl ?_
  refine z_aload_n (q := 4) (i := 0) C 0 dX6_loadNamed_3 rfl rfl rfl ?_
  refine z_getI (q := 7) C flX6_52 dX6_loadNamed_4 hf rfl fun v2 hf => ?_
  refine z_icmpge (q := 10) (tgt := 32) C dX6_loadNamed_7 (by decide) rfl hf (fun c7 hf => ?_) (fun c7 hf => ?_)
  · have e1 := zl_x hf hx1
    have hf := hk1
    rw [← e1] at hf
    try dsimp only at hf
    refine z_iconst (q := 33) C (-1 : Int32) dX6_loadNamed_32 ki_m1 rfl ?_
    exact z_ireturn C rfl dX6_loadNamed_33 (Option.some.inj hf)
  · refine z_aload_n (q := 11) (i := 0) C 0 dX6_loadNamed_10 rfl rfl rfl ?_
    refine z_getR (q := 14) C flX6_33 dX6_loadNamed_11 hf rfl fun v3 hf => ?_
    refine z_iload_n (q := 15) (i := 3) C 2 dX6_loadNamed_14 rfl rfl rfl ?_
    refine z_aaldR (q := 16) C 8 (by decide) (by decide) dX6_loadNamed_15 hf rfl fun v4 hf => ?_
    refine z_getL (q := 19) C flX6_55 dX6_loadNamed_16 hf rfl fun v5 hf => ?_
    refine z_lload_n (q := 20) (i := 1) C 1 dX6_loadNamed_19 rfl rfl rfl ?_
    refine z_lcmp (q := 21) C dX6_loadNamed_20 rfl ?_
    refine z_ifne (q := 24) (tgt := 26) C dX6_loadNamed_21 (by decide) rfl hf (fun c21 hf => ?_) (fun c21 hf => ?_)
    · refine z_iinc (q := 29) (i := 3) (lv' := [(3, .int (i_1 + (1 : Int32))), (0, .ref a0), (1, .long l1)]) C 2 (i_1 + (1 : Int32)) dX6_loadNamed_26 rfl (kn_1 _) (by decide) rfl rfl ?_
      refine z_goto (q := 2) C dX6_loadNamed_29 (by decide) ?_
      refine z_lv [1, 2, 0] rfl ?_
      have hc1 := zl_c hf hx1
      exact hc1
    · refine z_iload_n (q := 25) (i := 3) C 2 dX6_loadNamed_24 rfl rfl rfl ?_
      have e1 := zl_x hf hx1
      have hf := hk1
      rw [← e1] at hf
      try dsimp only at hf
      exact z_ireturn C rfl dX6_loadNamed_25 (Option.some.inj hf)

noncomputable def f_X6_isTaken_J37 (w0_37 : Int32) (σ : ZT) : Option (Int32 × ZT) :=
  (rz w0_37).bind fun z5 =>
  some (z5, σ)
noncomputable def f_X6_isTaken_J32  (σ : ZT) : Option (Int32 × ZT) :=
  f_X6_isTaken_J37 (1 : Int32) σ
noncomputable def f_X6_isTaken (a0 : Nat) (l1 : Int64) (σ : ZT) : Option (Int32 × ZT) :=
  bnd2 (vc 6 a0 σ (f_X6_placeNamed a0 l1 σ)) fun v1 σ =>
  if v1 < 0 then
  (bnd2 (vc 6 a0 σ (f_X6_bridgeNamed a0 l1 σ)) fun v2 σ =>
  if v2 < 0 then
  (bnd2 (vc 6 a0 σ (f_X6_personNamed a0 l1 σ)) fun v3 σ =>
  if v3 < 0 then
  (bnd2 (vc 6 a0 σ (f_X6_loadNamed a0 l1 σ)) fun v4 σ =>
  if v4 < 0 then
  (f_X6_isTaken_J37 (0 : Int32) σ)
  else
  (f_X6_isTaken_J32  σ))
  else
  (f_X6_isTaken_J32  σ))
  else
  (f_X6_isTaken_J32  σ))
  else
  (f_X6_isTaken_J32  σ)
set_option maxHeartbeats 4000000 in
theorem m_X6_isTaken {l : Launch} {G : ZG} (a0 : Nat) (l1 : Int64) (σ : ZT) {out : (Int32 × ZT)} (hf : f_X6_isTaken a0 l1 σ = some out) : ZM l G yX6_isTaken cX6_isTaken 3 (some .boolean) [] 2 [.ref a0, .long l1] σ (.returned (some (.int out.1))) out.2 := by
  refine ZM.of [(0, .ref a0), (1, .long l1)] rfl (Nat.le_of_ble_eq_true rfl) fun X (C : ZC G RX6 "isTaken" cX6_isTaken 3 (some .boolean) [] X 2) => ?_
  unfold f_X6_isTaken at hf
  have j37_0 : ∀ (w0_37 : Int32) (σ : ZT), f_X6_isTaken_J37 w0_37 σ = some out → ZW l G 3 X (ZQ G X (.returned (some (.int out.1))) out.2) σ 37 [] [.int w0_37] := by
    intro w0_37 σ hf
    unfold f_X6_isTaken_J37 at hf
    refine z_rz C hf fun hn hf => ?_
    exact z_zreturn C rfl hn dX6_isTaken_37 (Option.some.inj hf)
  have j32_0 : ∀  (σ : ZT), f_X6_isTaken_J32  σ = some out → ZW l G 3 X (ZQ G X (.returned (some (.int out.1))) out.2) σ 32 [] [] := by
    intro  σ hf
    unfold f_X6_isTaken_J32 at hf
    refine z_iconst (q := 33) C (1 : Int32) dX6_isTaken_32 ki_1 rfl ?_
    refine z_goto (q := 37) C dX6_isTaken_33 (by decide) ?_
    exact j37_0 (1 : Int32) σ hf
  refine z_aload_n (q := 1) (i := 0) C 0 dX6_isTaken_0 rfl rfl rfl ?_
  refine z_lload_n (q := 2) (i := 1) C 1 dX6_isTaken_1 rfl rfl rfl ?_
  refine z_callVi (q := 5) (As := [.long l1]) C (fun o ho => m_X6_placeNamed _ _ _ ho) zk6 vvX6_56 cdX6_placeNamed pnX6 dX6_isTaken_2 rfl (by decide) (Nat.le_of_ble_eq_true rfl) hf rfl fun v1 σ hf => ?_
  refine z_ifge (q := 8) (tgt := 32) C dX6_isTaken_5 (by decide) rfl hf (fun c5 hf => ?_) (fun c5 hf => ?_)
  · refine z_lv [] rfl ?_
    exact j32_0  σ hf
  · refine z_aload_n (q := 9) (i := 0) C 0 dX6_isTaken_8 rfl rfl rfl ?_
    refine z_lload_n (q := 10) (i := 1) C 1 dX6_isTaken_9 rfl rfl rfl ?_
    refine z_callVi (q := 13) (As := [.long l1]) C (fun o ho => m_X6_bridgeNamed _ _ _ ho) zk6 vvX6_60 cdX6_bridgeNamed pnX6 dX6_isTaken_10 rfl (by decide) (Nat.le_of_ble_eq_true rfl) hf rfl fun v2 σ hf => ?_
    refine z_ifge (q := 16) (tgt := 32) C dX6_isTaken_13 (by decide) rfl hf (fun c13 hf => ?_) (fun c13 hf => ?_)
    · refine z_lv [] rfl ?_
      exact j32_0  σ hf
    · refine z_aload_n (q := 17) (i := 0) C 0 dX6_isTaken_16 rfl rfl rfl ?_
      refine z_lload_n (q := 18) (i := 1) C 1 dX6_isTaken_17 rfl rfl rfl ?_
      refine z_callVi (q := 21) (As := [.long l1]) C (fun o ho => m_X6_personNamed _ _ _ ho) zk6 vvX6_63 cdX6_personNamed pnX6 dX6_isTaken_18 rfl (by decide) (Nat.le_of_ble_eq_true rfl) hf rfl fun v3 σ hf => ?_
      refine z_ifge (q := 24) (tgt := 32) C dX6_isTaken_21 (by decide) rfl hf (fun c21 hf => ?_) (fun c21 hf => ?_)
      · refine z_lv [] rfl ?_
        exact j32_0  σ hf
      · refine z_aload_n (q := 25) (i := 0) C 0 dX6_isTaken_24 rfl rfl rfl ?_
        refine z_lload_n (q := 26) (i := 1) C 1 dX6_isTaken_25 rfl rfl rfl ?_
        refine z_callVi (q := 29) (As := [.long l1]) C (fun o ho => m_X6_loadNamed _ _ _ ho) zk6 vvX6_66 cdX6_loadNamed pnX6 dX6_isTaken_26 rfl (by decide) (Nat.le_of_ble_eq_true rfl) hf rfl fun v4 σ hf => ?_
        refine z_iflt (q := 32) (tgt := 36) C dX6_isTaken_29 (by decide) rfl hf (fun c29 hf => ?_) (fun c29 hf => ?_)
        · refine z_iconst (q := 37) C (0 : Int32) dX6_isTaken_36 ki_0 rfl ?_
          refine z_lv [] rfl ?_
          exact j37_0 (0 : Int32) σ hf
        · refine z_lv [] rfl ?_
          exact j32_0  σ hf

noncomputable def f_X11_init (a0 : Nat) (l1 : Int64) (i3 : Int32) (i4 : Int32) (i5 : Int32) (i6 : Int32) (σ : ZT) : Option ZT :=
  (pI 11 1105 a0 (1 : Int32) σ).bind fun σ =>
  (pI 11 1106 a0 (9999 : Int32) σ).bind fun σ =>
  (pI 11 1108 a0 (1 : Int32) σ).bind fun σ =>
  (pL 11 1100 a0 l1 σ).bind fun σ =>
  (pI 11 1101 a0 i3 σ).bind fun σ =>
  (pI 11 1102 a0 i4 σ).bind fun σ =>
  (pI 11 1103 a0 i5 σ).bind fun σ =>
  (pI 11 1104 a0 i6 σ).bind fun σ =>
  some σ
set_option maxHeartbeats 4000000 in
theorem m_X11_init {l : Launch} {G : ZG} (a0 : Nat) (l1 : Int64) (i3 : Int32) (i4 : Int32) (i5 : Int32) (i6 : Int32) (σ : ZT) {out : ZT} (hf : f_X11_init a0 l1 i3 i4 i5 i6 σ = some out) : ZM l G yX11_init cX11_init 7 none [] 2 [.ref a0, .long l1, .int i3, .int i4, .int i5, .int i6] σ (.returned none) out := by
  refine ZM.of [(0, .ref a0), (1, .long l1), (3, .int i3), (4, .int i4), (5, .int i5), (6, .int i6)] rfl (Nat.le_of_ble_eq_true rfl) fun X (C : ZC G RX11 "<init>" cX11_init 7 none [] X 2) => ?_
  unfold f_X11_init at hf
  refine z_aload_n (q := 1) (i := 0) C 0 dX11_init_0 rfl rfl rfl ?_
  refine z_objInit (q := 4) C q909 dX11_init_1 rfl (by decide) (Nat.le_of_ble_eq_true rfl) ?_
  refine z_aload_n (q := 5) (i := 0) C 0 dX11_init_4 rfl rfl rfl ?_
  refine z_iconst (q := 6) C (1 : Int32) dX11_init_5 ki_1 rfl ?_
  refine z_putI (q := 9) C puX11_9 dX11_init_6 hf rfl fun σ hf => ?_
  refine z_aload_n (q := 10) (i := 0) C 0 dX11_init_9 rfl rfl rfl ?_
  refine z_sipush (q := 13) C (9999 : Int32) dX11_init_10 ks_9999 rfl ?_
  refine z_putI (q := 16) C puX11_15 dX11_init_13 hf rfl fun σ hf => ?_
  refine z_aload_n (q := 17) (i := 0) C 0 dX11_init_16 rfl rfl rfl ?_
  refine z_iconst (q := 18) C (1 : Int32) dX11_init_17 ki_1 rfl ?_
  refine z_putI (q := 21) C puX11_18 dX11_init_18 hf rfl fun σ hf => ?_
  refine z_aload_n (q := 22) (i := 0) C 0 dX11_init_21 rfl rfl rfl ?_
  refine z_lload_n (q := 23) (i := 1) C 1 dX11_init_22 rfl rfl rfl ?_
  refine z_putL (q := 26) C puX11_21 dX11_init_23 hf rfl fun σ hf => ?_
  refine z_aload_n (q := 27) (i := 0) C 0 dX11_init_26 rfl rfl rfl ?_
  refine z_iload_n (q := 28) (i := 3) C 2 dX11_init_27 rfl rfl rfl ?_
  refine z_putI (q := 31) C puX11_25 dX11_init_28 hf rfl fun σ hf => ?_
  refine z_aload_n (q := 32) (i := 0) C 0 dX11_init_31 rfl rfl rfl ?_
  refine z_iload (q := 34) (i := 4) C 3 dX11_init_32 rfl rfl ?_
  refine z_putI (q := 37) C puX11_28 dX11_init_34 hf rfl fun σ hf => ?_
  refine z_aload_n (q := 38) (i := 0) C 0 dX11_init_37 rfl rfl rfl ?_
  refine z_iload (q := 40) (i := 5) C 4 dX11_init_38 rfl rfl ?_
  refine z_putI (q := 43) C puX11_31 dX11_init_40 hf rfl fun σ hf => ?_
  refine z_aload_n (q := 44) (i := 0) C 0 dX11_init_43 rfl rfl rfl ?_
  refine z_iload (q := 46) (i := 6) C 5 dX11_init_44 rfl rfl ?_
  refine z_putI (q := 49) C puX11_34 dX11_init_46 hf rfl fun σ hf => ?_
  exact z_return C rfl dX11_init_49 (Option.some.inj hf)

noncomputable def f_X12_init (a0 : Nat) (l1 : Int64) (i3 : Int32) (i4 : Int32) (σ : ZT) : Option ZT :=
  (pI 12 1203 a0 (-1 : Int32) σ).bind fun σ =>
  (pL 12 1200 a0 l1 σ).bind fun σ =>
  (pI 12 1201 a0 i3 σ).bind fun σ =>
  (pI 12 1202 a0 i4 σ).bind fun σ =>
  some σ
set_option maxHeartbeats 4000000 in
theorem m_X12_init {l : Launch} {G : ZG} (a0 : Nat) (l1 : Int64) (i3 : Int32) (i4 : Int32) (σ : ZT) {out : ZT} (hf : f_X12_init a0 l1 i3 i4 σ = some out) : ZM l G yX12_init cX12_init 5 none [] 2 [.ref a0, .long l1, .int i3, .int i4] σ (.returned none) out := by
  refine ZM.of [(0, .ref a0), (1, .long l1), (3, .int i3), (4, .int i4)] rfl (Nat.le_of_ble_eq_true rfl) fun X (C : ZC G RX12 "<init>" cX12_init 5 none [] X 2) => ?_
  unfold f_X12_init at hf
  refine z_aload_n (q := 1) (i := 0) C 0 dX12_init_0 rfl rfl rfl ?_
  refine z_objInit (q := 4) C q974 dX12_init_1 rfl (by decide) (Nat.le_of_ble_eq_true rfl) ?_
  refine z_aload_n (q := 5) (i := 0) C 0 dX12_init_4 rfl rfl rfl ?_
  refine z_iconst (q := 6) C (-1 : Int32) dX12_init_5 ki_m1 rfl ?_
  refine z_putI (q := 9) C puX12_9 dX12_init_6 hf rfl fun σ hf => ?_
  refine z_aload_n (q := 10) (i := 0) C 0 dX12_init_9 rfl rfl rfl ?_
  refine z_lload_n (q := 11) (i := 1) C 1 dX12_init_10 rfl rfl rfl ?_
  refine z_putL (q := 14) C puX12_15 dX12_init_11 hf rfl fun σ hf => ?_
  refine z_aload_n (q := 15) (i := 0) C 0 dX12_init_14 rfl rfl rfl ?_
  refine z_iload_n (q := 16) (i := 3) C 2 dX12_init_15 rfl rfl rfl ?_
  refine z_putI (q := 19) C puX12_19 dX12_init_16 hf rfl fun σ hf => ?_
  refine z_aload_n (q := 20) (i := 0) C 0 dX12_init_19 rfl rfl rfl ?_
  refine z_iload (q := 22) (i := 4) C 3 dX12_init_20 rfl rfl ?_
  refine z_putI (q := 25) C puX12_22 dX12_init_22 hf rfl fun σ hf => ?_
  exact z_return C rfl dX12_init_25 (Option.some.inj hf)

noncomputable def f_X13_init (a0 : Nat) (l1 : Int64) (i3 : Int32) (i4 : Int32) (σ : ZT) : Option ZT :=
  (pL 13 1300 a0 l1 σ).bind fun σ =>
  (pI 13 1301 a0 i3 σ).bind fun σ =>
  (pI 13 1302 a0 i4 σ).bind fun σ =>
  some σ
set_option maxHeartbeats 4000000 in
theorem m_X13_init {l : Launch} {G : ZG} (a0 : Nat) (l1 : Int64) (i3 : Int32) (i4 : Int32) (σ : ZT) {out : ZT} (hf : f_X13_init a0 l1 i3 i4 σ = some out) : ZM l G yX13_init cX13_init 5 none [] 2 [.ref a0, .long l1, .int i3, .int i4] σ (.returned none) out := by
  refine ZM.of [(0, .ref a0), (1, .long l1), (3, .int i3), (4, .int i4)] rfl (Nat.le_of_ble_eq_true rfl) fun X (C : ZC G RX13 "<init>" cX13_init 5 none [] X 2) => ?_
  unfold f_X13_init at hf
  refine z_aload_n (q := 1) (i := 0) C 0 dX13_init_0 rfl rfl rfl ?_
  refine z_objInit (q := 4) C q1014 dX13_init_1 rfl (by decide) (Nat.le_of_ble_eq_true rfl) ?_
  refine z_aload_n (q := 5) (i := 0) C 0 dX13_init_4 rfl rfl rfl ?_
  refine z_lload_n (q := 6) (i := 1) C 1 dX13_init_5 rfl rfl rfl ?_
  refine z_putL (q := 9) C puX13_7 dX13_init_6 hf rfl fun σ hf => ?_
  refine z_aload_n (q := 10) (i := 0) C 0 dX13_init_9 rfl rfl rfl ?_
  refine z_iload_n (q := 11) (i := 3) C 2 dX13_init_10 rfl rfl rfl ?_
  refine z_putI (q := 14) C puX13_13 dX13_init_11 hf rfl fun σ hf => ?_
  refine z_aload_n (q := 15) (i := 0) C 0 dX13_init_14 rfl rfl rfl ?_
  refine z_iload (q := 17) (i := 4) C 3 dX13_init_15 rfl rfl ?_
  refine z_putI (q := 20) C puX13_17 dX13_init_17 hf rfl fun σ hf => ?_
  exact z_return C rfl dX13_init_20 (Option.some.inj hf)

noncomputable def f_X14_init (a0 : Nat) (σ : ZT) : Option ZT :=
  some σ
set_option maxHeartbeats 4000000 in
theorem m_X14_init {l : Launch} {G : ZG} (a0 : Nat) (σ : ZT) {out : ZT} (hf : f_X14_init a0 σ = some out) : ZM l G yX14_init cX14_init 1 none [] 2 [.ref a0] σ (.returned none) out := by
  refine ZM.of [(0, .ref a0)] rfl (Nat.le_of_ble_eq_true rfl) fun X (C : ZC G RX14 "<init>" cX14_init 1 none [] X 2) => ?_
  unfold f_X14_init at hf
  refine z_aload_n (q := 1) (i := 0) C 0 dX14_init_0 rfl rfl rfl ?_
  refine z_objInit (q := 4) C q1060 dX14_init_1 rfl (by decide) (Nat.le_of_ble_eq_true rfl) ?_
  exact z_return C rfl dX14_init_4 (Option.some.inj hf)

noncomputable def f_X15_init (a0 : Nat) (σ : ZT) : Option ZT :=
  (f_X14_init a0 σ).bind fun σ =>
  bnd2 (nwA 10 (4 : Int32) σ) fun v2 σ =>
  (pRB  1500 a0 (some v2) σ).bind fun σ =>
  some σ
set_option maxHeartbeats 4000000 in
theorem m_X15_init {l : Launch} {G : ZG} (a0 : Nat) (σ : ZT) {out : ZT} (hf : f_X15_init a0 σ = some out) : ZM l G yX15_init cX15_init 1 none [] 3 [.ref a0] σ (.returned none) out := by
  refine ZM.of [(0, .ref a0)] rfl (Nat.le_of_ble_eq_true rfl) fun X (C : ZC G RX15 "<init>" cX15_init 1 none [] X 3) => ?_
  unfold f_X15_init at hf
  refine z_aload_n (q := 1) (i := 0) C 0 dX15_init_0 rfl rfl rfl ?_
  refine z_callIv (q := 4) (As := []) C (fun o ho => m_X14_init _ _ ho) viX15_1 pnX14 dX15_init_1 rfl (by decide) (Nat.le_of_ble_eq_true rfl) hf rfl fun σ hf => ?_
  refine z_aload_n (q := 5) (i := 0) C 0 dX15_init_4 rfl rfl rfl ?_
  refine z_iconst (q := 6) C (4 : Int32) dX15_init_5 ki_4 rfl ?_
  refine z_anewarr (q := 9) C 10 (by decide) (by decide) rfl (by decide) q1061 dX15_init_6 hf rfl fun v2 σ hf => ?_
  refine z_putRB (q := 12) C pbX15_7 rfl dX15_init_9 hf rfl fun σ hf => ?_
  exact z_return C rfl dX15_init_12 (Option.some.inj hf)

noncomputable def f_X17_init (a0 : Nat) (i1 : Int32) (i2 : Int32) (i3 : Int32) (σ : ZT) : Option ZT :=
  (f_X15_init a0 σ).bind fun σ =>
  (pI 17 1702 a0 i1 σ).bind fun σ =>
  (pI 17 1703 a0 i2 σ).bind fun σ =>
  (pI 17 1704 a0 i3 σ).bind fun σ =>
  some σ
set_option maxHeartbeats 4000000 in
theorem m_X17_init {l : Launch} {G : ZG} (a0 : Nat) (i1 : Int32) (i2 : Int32) (i3 : Int32) (σ : ZT) {out : ZT} (hf : f_X17_init a0 i1 i2 i3 σ = some out) : ZM l G yX17_init cX17_init 4 none [] 4 [.ref a0, .int i1, .int i2, .int i3] σ (.returned none) out := by
  refine ZM.of [(0, .ref a0), (1, .int i1), (2, .int i2), (3, .int i3)] rfl (Nat.le_of_ble_eq_true rfl) fun X (C : ZC G RX17 "<init>" cX17_init 4 none [] X 4) => ?_
  unfold f_X17_init at hf
  refine z_aload_n (q := 1) (i := 0) C 0 dX17_init_0 rfl rfl rfl ?_
  refine z_callIv (q := 4) (As := []) C (fun o ho => m_X15_init _ _ ho) viX17_3 pnX15 dX17_init_1 rfl (by decide) (Nat.le_of_ble_eq_true rfl) hf rfl fun σ hf => ?_
  refine z_aload_n (q := 5) (i := 0) C 0 dX17_init_4 rfl rfl rfl ?_
  refine z_iload_n (q := 6) (i := 1) C 1 dX17_init_5 rfl rfl rfl ?_
  refine z_putI (q := 9) C puX17_9 dX17_init_6 hf rfl fun σ hf => ?_
  refine z_aload_n (q := 10) (i := 0) C 0 dX17_init_9 rfl rfl rfl ?_
  refine z_iload_n (q := 11) (i := 2) C 2 dX17_init_10 rfl rfl rfl ?_
  refine z_putI (q := 14) C puX17_15 dX17_init_11 hf rfl fun σ hf => ?_
  refine z_aload_n (q := 15) (i := 0) C 0 dX17_init_14 rfl rfl rfl ?_
  refine z_iload_n (q := 16) (i := 3) C 3 dX17_init_15 rfl rfl rfl ?_
  refine z_putI (q := 19) C puX17_18 dX17_init_16 hf rfl fun σ hf => ?_
  exact z_return C rfl dX17_init_19 (Option.some.inj hf)

noncomputable def f_X16_init (a0 : Nat) (i1 : Int32) (σ : ZT) : Option ZT :=
  (f_X15_init a0 σ).bind fun σ =>
  (pI 16 1602 a0 i1 σ).bind fun σ =>
  some σ
set_option maxHeartbeats 4000000 in
theorem m_X16_init {l : Launch} {G : ZG} (a0 : Nat) (i1 : Int32) (σ : ZT) {out : ZT} (hf : f_X16_init a0 i1 σ = some out) : ZM l G yX16_init cX16_init 2 none [] 4 [.ref a0, .int i1] σ (.returned none) out := by
  refine ZM.of [(0, .ref a0), (1, .int i1)] rfl (Nat.le_of_ble_eq_true rfl) fun X (C : ZC G RX16 "<init>" cX16_init 2 none [] X 4) => ?_
  unfold f_X16_init at hf
  refine z_aload_n (q := 1) (i := 0) C 0 dX16_init_0 rfl rfl rfl ?_
  refine z_callIv (q := 4) (As := []) C (fun o ho => m_X15_init _ _ ho) viX16_1 pnX15 dX16_init_1 rfl (by decide) (Nat.le_of_ble_eq_true rfl) hf rfl fun σ hf => ?_
  refine z_aload_n (q := 5) (i := 0) C 0 dX16_init_4 rfl rfl rfl ?_
  refine z_iload_n (q := 6) (i := 1) C 1 dX16_init_5 rfl rfl rfl ?_
  refine z_putI (q := 9) C puX16_7 dX16_init_6 hf rfl fun σ hf => ?_
  exact z_return C rfl dX16_init_9 (Option.some.inj hf)

noncomputable def f_X18_init_J40 (a0_40 : Nat) (i4_40 : Int32) (w0_40 : Int32) (w1_40 : Nat) (σ : ZT) : Option ZT :=
  (pI 18 1802 w1_40 w0_40 σ).bind fun σ =>
  (pI 18 1803 a0_40 i4_40 σ).bind fun σ =>
  some σ
noncomputable def f_X18_init_J20 (a0_20 : Nat) (i2_20 : Int32) (i3_20 : Int32) (i4_20 : Int32) (w0_20 : Int32) (w1_20 : Int32) (w2_20 : Nat) (σ : ZT) : Option ZT :=
  (pI 18 1801 w2_20 (if w0_20 < w1_20 then w0_20 else w1_20) σ).bind fun σ =>
  if i3_20 < 0 then
  (f_X18_init_J40 a0_20 i4_20 (-1 : Int32) a0_20 σ)
  else
  (f_X18_init_J40 a0_20 i4_20 (if i2_20 < i3_20 then i3_20 else i2_20) a0_20 σ)
noncomputable def f_X18_init (a0 : Nat) (i1 : Int32) (i2 : Int32) (i3 : Int32) (i4 : Int32) (σ : ZT) : Option ZT :=
  (f_X14_init a0 σ).bind fun σ =>
  (pI 18 1800 a0 i1 σ).bind fun σ =>
  if i3 < 0 then
  (f_X18_init_J20 a0 i2 i3 i4 i2 i2 a0 σ)
  else
  (f_X18_init_J20 a0 i2 i3 i4 i3 i2 a0 σ)
set_option maxHeartbeats 4000000 in
theorem m_X18_init {l : Launch} {G : ZG} (a0 : Nat) (i1 : Int32) (i2 : Int32) (i3 : Int32) (i4 : Int32) (σ : ZT) {out : ZT} (hf : f_X18_init a0 i1 i2 i3 i4 σ = some out) : ZM l G yX18_init cX18_init 5 none [] 6 [.ref a0, .int i1, .int i2, .int i3, .int i4] σ (.returned none) out := by
  refine ZM.of [(0, .ref a0), (1, .int i1), (2, .int i2), (3, .int i3), (4, .int i4)] rfl (Nat.le_of_ble_eq_true rfl) fun X (C : ZC G RX18 "<init>" cX18_init 5 none [] X 6) => ?_
  unfold f_X18_init at hf
  have j40_0 : ∀ (a0_40 : Nat) (i4_40 : Int32) (w0_40 : Int32) (w1_40 : Nat) (σ : ZT), f_X18_init_J40 a0_40 i4_40 w0_40 w1_40 σ = some out → ZW l G 5 X (ZQ G X (.returned none) out) σ 40 [(0, .ref a0_40), (4, .int i4_40)] [.int w0_40, .ref w1_40] := by
    intro a0_40 i4_40 w0_40 w1_40 σ hf
    unfold f_X18_init_J40 at hf
    refine z_putI (q := 43) C puX18_27 dX18_init_40 hf rfl fun σ hf => ?_
    refine z_aload_n (q := 44) (i := 0) C 0 dX18_init_43 rfl rfl rfl ?_
    refine z_iload (q := 46) (i := 4) C 1 dX18_init_44 rfl rfl ?_
    refine z_putI (q := 49) C puX18_30 dX18_init_46 hf rfl fun σ hf => ?_
    exact z_return C rfl dX18_init_49 (Option.some.inj hf)
  have j20_0 : ∀ (a0_20 : Nat) (i2_20 : Int32) (i3_20 : Int32) (i4_20 : Int32) (w0_20 : Int32) (w1_20 : Int32) (w2_20 : Nat) (σ : ZT), f_X18_init_J20 a0_20 i2_20 i3_20 i4_20 w0_20 w1_20 w2_20 σ = some out → ZW l G 5 X (ZQ G X (.returned none) out) σ 20 [(0, .ref a0_20), (2, .int i2_20), (3, .int i3_20), (4, .int i4_20)] [.int w0_20, .int w1_20, .ref w2_20] := by
    intro a0_20 i2_20 i3_20 i4_20 w0_20 w1_20 w2_20 σ hf
    unfold f_X18_init_J20 at hf
    refine z_mmin (q := 23) C q1141 dX18_init_20 (by decide) (Nat.le_of_ble_eq_true rfl) rfl ?_
    refine z_putI (q := 26) C puX18_21 dX18_init_23 hf rfl fun σ hf => ?_
    refine z_aload_n (q := 27) (i := 0) C 0 dX18_init_26 rfl rfl rfl ?_
    refine z_iload_n (q := 28) (i := 3) C 2 dX18_init_27 rfl rfl rfl ?_
    refine z_ifge (q := 31) (tgt := 35) C dX18_init_28 (by decide) rfl hf (fun c28 hf => ?_) (fun c28 hf => ?_)
    · refine z_iload_n (q := 36) (i := 2) C 1 dX18_init_35 rfl rfl rfl ?_
      refine z_iload_n (q := 37) (i := 3) C 2 dX18_init_36 rfl rfl rfl ?_
      refine z_mmax (q := 40) C q1144 dX18_init_37 (by decide) (Nat.le_of_ble_eq_true rfl) rfl ?_
      refine z_lv [0, 3] rfl ?_
      exact j40_0 a0_20 i4_20 (if i2_20 < i3_20 then i3_20 else i2_20) a0_20 σ hf
    · refine z_iconst (q := 32) C (-1 : Int32) dX18_init_31 ki_m1 rfl ?_
      refine z_goto (q := 40) C dX18_init_32 (by decide) ?_
      refine z_lv [0, 3] rfl ?_
      exact j40_0 a0_20 i4_20 (-1 : Int32) a0_20 σ hf
  refine z_aload_n (q := 1) (i := 0) C 0 dX18_init_0 rfl rfl rfl ?_
  refine z_callIv (q := 4) (As := []) C (fun o ho => m_X14_init _ _ ho) viX18_3 pnX14 dX18_init_1 rfl (by decide) (Nat.le_of_ble_eq_true rfl) hf rfl fun σ hf => ?_
  refine z_aload_n (q := 5) (i := 0) C 0 dX18_init_4 rfl rfl rfl ?_
  refine z_iload_n (q := 6) (i := 1) C 1 dX18_init_5 rfl rfl rfl ?_
  refine z_putI (q := 9) C puX18_9 dX18_init_6 hf rfl fun σ hf => ?_
  refine z_aload_n (q := 10) (i := 0) C 0 dX18_init_9 rfl rfl rfl ?_
  refine z_iload_n (q := 11) (i := 2) C 2 dX18_init_10 rfl rfl rfl ?_
  refine z_iload_n (q := 12) (i := 3) C 3 dX18_init_11 rfl rfl rfl ?_
  refine z_ifge (q := 15) (tgt := 19) C dX18_init_12 (by decide) rfl hf (fun c12 hf => ?_) (fun c12 hf => ?_)
  · refine z_iload_n (q := 20) (i := 3) C 3 dX18_init_19 rfl rfl rfl ?_
    refine z_lv [0, 2, 3, 4] rfl ?_
    exact j20_0 a0 i2 i3 i4 i3 i2 a0 σ hf
  · refine z_iload_n (q := 16) (i := 2) C 2 dX18_init_15 rfl rfl rfl ?_
    refine z_goto (q := 20) C dX18_init_16 (by decide) ?_
    refine z_lv [0, 2, 3, 4] rfl ?_
    exact j20_0 a0 i2 i3 i4 i2 i2 a0 σ hf

noncomputable def f_X19_init (a0 : Nat) (σ : ZT) : Option ZT :=
  (f_X14_init a0 σ).bind fun σ =>
  some σ
set_option maxHeartbeats 4000000 in
theorem m_X19_init {l : Launch} {G : ZG} (a0 : Nat) (σ : ZT) {out : ZT} (hf : f_X19_init a0 σ = some out) : ZM l G yX19_init cX19_init 1 none [] 3 [.ref a0] σ (.returned none) out := by
  refine ZM.of [(0, .ref a0)] rfl (Nat.le_of_ble_eq_true rfl) fun X (C : ZC G RX19 "<init>" cX19_init 1 none [] X 3) => ?_
  unfold f_X19_init at hf
  refine z_aload_n (q := 1) (i := 0) C 0 dX19_init_0 rfl rfl rfl ?_
  refine z_callIv (q := 4) (As := []) C (fun o ho => m_X14_init _ _ ho) viX19_1 pnX14 dX19_init_1 rfl (by decide) (Nat.le_of_ble_eq_true rfl) hf rfl fun σ hf => ?_
  exact z_return C rfl dX19_init_4 (Option.some.inj hf)

noncomputable def f_X15_add_J41 (a0_41 : Nat) (a1_41 : Nat) (σ : ZT) : Option ZT :=
  (gRB  1500 a0_41 σ).bind fun v8 =>
  (gIB  1501 a0_41 σ).bind fun v9 =>
  (stR 10 v8 v9 a1_41 σ).bind fun σ =>
  (gIB  1501 a0_41 σ).bind fun v10 =>
  (pIB  1501 a0_41 (v10 + (1 : Int32)) σ).bind fun σ =>
  some σ
noncomputable def f_X15_add (a0 : Nat) (a1 : Nat) (σ : ZT) : Option ZT :=
  (gIB  1501 a0 σ).bind fun v1 =>
  (gRB  1500 a0 σ).bind fun v2 =>
  (zlen 10 v2 σ).bind fun v3 =>
  if v1 = v3 then
  ((gIB  1501 a0 σ).bind fun v4 =>
  bnd2 (nwA 10 ((2 : Int32) * v4) σ) fun v5 σ =>
  (gRB  1500 a0 σ).bind fun v6 =>
  (gIB  1501 a0 σ).bind fun v7 =>
  (cpR v6 (0 : Int32) v5 (0 : Int32) v7 σ).bind fun σ =>
  (pRB  1500 a0 (some v5) σ).bind fun σ =>
  f_X15_add_J41 a0 a1 σ)
  else
  (f_X15_add_J41 a0 a1 σ)
set_option maxHeartbeats 4000000 in
theorem m_X15_add {l : Launch} {G : ZG} (a0 : Nat) (a1 : Nat) (σ : ZT) {out : ZT} (hf : f_X15_add a0 a1 σ = some out) : ZM l G yX15_add cX15_add 3 none [] 6 [.ref a0, .ref a1] σ (.returned none) out := by
  refine ZM.of [(0, .ref a0), (1, .ref a1)] rfl (Nat.le_of_ble_eq_true rfl) fun X (C : ZC G RX15 "add" cX15_add 3 none [] X 6) => ?_
  unfold f_X15_add at hf
  have j41_0 : ∀ (a0_41 : Nat) (a1_41 : Nat) (σ : ZT), f_X15_add_J41 a0_41 a1_41 σ = some out → ZW l G 3 X (ZQ G X (.returned none) out) σ 41 [(0, .ref a0_41), (1, .ref a1_41)] [] := by
    intro a0_41 a1_41 σ hf
    unfold f_X15_add_J41 at hf
    refine z_aload_n (q := 42) (i := 0) C 0 dX15_add_41 rfl rfl rfl ?_
    refine z_getRB (q := 45) C fbX15_7 dX15_add_42 hf rfl fun v8 hf => ?_
    refine z_aload_n (q := 46) (i := 0) C 0 dX15_add_45 rfl rfl rfl ?_
    refine z_getIB (q := 49) C fbX15_13 dX15_add_46 hf rfl fun v9 hf => ?_
    refine z_aload_n (q := 50) (i := 1) C 1 dX15_add_49 rfl rfl rfl ?_
    refine z_aast (q := 51) C 10 (by decide) (by decide) dX15_add_50 hf rfl fun σ hf => ?_
    refine z_aload_n (q := 52) (i := 0) C 0 dX15_add_51 rfl rfl rfl ?_
    refine z_dup (q := 53) C dX15_add_52 rfl rfl ?_
    refine z_getIB (q := 56) C fbX15_13 dX15_add_53 hf rfl fun v10 hf => ?_
    refine z_iconst (q := 57) C (1 : Int32) dX15_add_56 ki_1 rfl ?_
    refine z_iadd (q := 58) C dX15_add_57 rfl ?_
    refine z_putIB (q := 61) C pbX15_13 dX15_add_58 hf rfl fun σ hf => ?_
    exact z_return C rfl dX15_add_61 (Option.some.inj hf)
  refine z_aload_n (q := 1) (i := 0) C 0 dX15_add_0 rfl rfl rfl ?_
  refine z_getIB (q := 4) C fbX15_13 dX15_add_1 hf rfl fun v1 hf => ?_
  refine z_aload_n (q := 5) (i := 0) C 0 dX15_add_4 rfl rfl rfl ?_
  refine z_getRB (q := 8) C fbX15_7 dX15_add_5 hf rfl fun v2 hf => ?_
  refine z_alen (q := 9) C 10 (by decide) dX15_add_8 hf rfl fun v3 hf => ?_
  refine z_icmpne (q := 12) (tgt := 41) C dX15_add_9 (by decide) rfl hf (fun c9 hf => ?_) (fun c9 hf => ?_)
  · exact j41_0 a0 a1 σ hf
  · refine z_iconst (q := 13) C (2 : Int32) dX15_add_12 ki_2 rfl ?_
    refine z_aload_n (q := 14) (i := 0) C 0 dX15_add_13 rfl rfl rfl ?_
    refine z_getIB (q := 17) C fbX15_13 dX15_add_14 hf rfl fun v4 hf => ?_
    refine z_imul (q := 18) C dX15_add_17 rfl ?_
    refine z_anewarr (q := 21) C 10 (by decide) (by decide) rfl (by decide) q1061 dX15_add_18 hf rfl fun v5 σ hf => ?_
    refine z_astore_n (q := 22) (i := 2) (lv' := [(2, .ref v5), (0, .ref a0), (1, .ref a1)]) C dX15_add_21 rfl (by decide) rfl rfl ?_
    refine z_aload_n (q := 23) (i := 0) C 1 dX15_add_22 rfl rfl rfl ?_
    refine z_getRB (q := 26) C fbX15_7 dX15_add_23 hf rfl fun v6 hf => ?_
    refine z_iconst (q := 27) C (0 : Int32) dX15_add_26 ki_0 rfl ?_
    refine z_aload_n (q := 28) (i := 2) C 0 dX15_add_27 rfl rfl rfl ?_
    refine z_iconst (q := 29) C (0 : Int32) dX15_add_28 ki_0 rfl ?_
    refine z_aload_n (q := 30) (i := 0) C 1 dX15_add_29 rfl rfl rfl ?_
    refine z_getIB (q := 33) C fbX15_13 dX15_add_30 hf rfl fun v7 hf => ?_
    refine z_cpyR (q := 36) C q1178 dX15_add_33 (by decide) (Nat.le_of_ble_eq_true rfl) hf rfl fun σ hf => ?_
    refine z_aload_n (q := 37) (i := 0) C 1 dX15_add_36 rfl rfl rfl ?_
    refine z_aload_n (q := 38) (i := 2) C 0 dX15_add_37 rfl rfl rfl ?_
    refine z_putRB (q := 41) C pbX15_7 rfl dX15_add_38 hf rfl fun σ hf => ?_
    refine z_lv [1, 2] rfl ?_
    exact j41_0 a0 a1 σ hf

noncomputable def f_X16_does_L2 (F : Nat → Nat → ZT → Option ZT) (c0_2 : Nat) (c1_2 : Nat) (i_1 : Int32) (σ : ZT) : Option ((Int32 × ZT) ⊕ ZT) :=
  (gI 16 1602 c0_2 σ).bind fun v2 =>
  if i_1 < v2 then
  ((gI 8 808 c1_2 σ).bind fun v3 =>
  if v3 = 0 then
  ((vc 16 c0_2 σ (f_X15_all F c0_2 c1_2 σ)).bind fun σ =>
  some (.inl ((i_1 + (1 : Int32)), σ)))
  else
  (some (.inr σ)))
  else
  (some (.inr σ))
noncomputable def f_X16_does_J28 (F : Nat → Nat → ZT → Option ZT)  (σ : ZT) : Option ZT :=
  some σ
noncomputable def f_X16_does (F : Nat → Nat → ZT → Option ZT) (a0 : Nat) (a1 : Nat) (σ : ZT) : Option ZT :=
  (loopC (fun s : (Int32 × ZT) => f_X16_does_L2 F a0 a1 s.1 s.2) ((0 : Int32), σ)).bind fun σ =>
  f_X16_does_J28 F  σ
set_option maxHeartbeats 4000000 in
theorem m_X16_does {l : Launch} {G : ZG} {d0 : Nat} (F : Nat → Nat → ZT → Option ZT) (hF : ∀ (a : Nat) (p0 : Nat) (σ : ZT) (o : ZT), F a p0 σ = some o → ZM l G yX14_go cX14_go 2 none [] d0 [.ref a, .ref p0] σ (.returned none) o) (a0 : Nat) (a1 : Nat) (σ : ZT) {out : ZT} (hf : f_X16_does F a0 a1 σ = some out) : ZM l G yX16_does cX16_does 3 none [] (d0 + 10) [.ref a0, .ref a1] σ (.returned none) out := by
  refine ZM.of [(0, .ref a0), (1, .ref a1)] rfl (Nat.le_of_ble_eq_true rfl) fun X (C : ZC G RX16 "does" cX16_does 3 none [] X (d0 + 10)) => ?_
  unfold f_X16_does at hf
  have j28_0 : ∀  (σ : ZT), f_X16_does_J28 F  σ = some out → ZW l G 3 X (ZQ G X (.returned none) out) σ 28 [] [] := by
    intro  σ hf
    unfold f_X16_does_J28 at hf
    exact z_return C rfl dX16_does_28 (Option.some.inj hf)
  refine z_iconst (q := 1) C (0 : Int32) dX16_does_0 ki_0 rfl ?_
  refine z_istore_n (q := 2) (i := 2) (lv' := [(2, .int (0 : Int32)), (0, .ref a0), (1, .ref a1)]) C dX16_does_1 rfl (by decide) rfl rfl ?_
  refine z_lv [1, 2, 0] rfl ?_
  obtain ⟨r1, hr1, hk1⟩ := Option.bind_eq_some_iff.mp hf
  refine loopC_ind (P := fun s => ZW l G 3 X (ZQ G X (.returned none) out) s.2 2 [(0, .ref a0), (1, .ref a1), (2, .int s.1)] []) (fun s x1 hf hx1 => ?_) hr1
  obtain ⟨i_1, σ⟩ := s
  unfold f_X16_does_L2 at hf
  try dsimp only at hf
  try dsimp only
  refine z_iload_n (q := 3) (i := 2) C 2 dX16_does_2 rfl rfl rfl ?_
  refine z_aload_n (q := 4) (i := 0) C 0 dX16_does_3 rfl rfl rfl ?_
  refine z_getI (q := 7) C flX16_7 dX16_does_4 hf rfl fun v2 hf => ?_
  refine z_icmpge (q := 10) (tgt := 28) C dX16_does_7 (by decide) rfl hf (fun c7 hf => ?_) (fun c7 hf => ?_)
  · have e1 := zl_x hf hx1
    have hf := hk1
    rw [← e1] at hf
    try dsimp only at hf
    refine z_lv [] rfl ?_
    exact j28_0  σ hf
  · refine z_aload_n (q := 11) (i := 1) C 1 dX16_does_10 rfl rfl rfl ?_
    refine z_getI (q := 14) C flX16_13 dX16_does_11 hf rfl fun v3 hf => ?_
    refine z_ifne (q := 17) (tgt := 28) C dX16_does_14 (by decide) rfl hf (fun c14 hf => ?_) (fun c14 hf => ?_)
    · have e1 := zl_x hf hx1
      have hf := hk1
      rw [← e1] at hf
      try dsimp only at hf
      refine z_lv [] rfl ?_
      exact j28_0  σ hf
    · refine z_aload_n (q := 18) (i := 0) C 0 dX16_does_17 rfl rfl rfl ?_
      refine z_aload_n (q := 19) (i := 1) C 1 dX16_does_18 rfl rfl rfl ?_
      refine z_callUv (q := 22) (As := [.ref a1]) C (fun o ho => m_X15_all F hF _ _ _ ho) zk16 vuX16_19 cdX15_all pnX15 dX16_does_19 rfl (by omega) (Nat.le_of_ble_eq_true rfl) hf rfl fun σ hf => ?_
      refine z_iinc (q := 25) (i := 2) (lv' := [(2, .int (i_1 + (1 : Int32))), (0, .ref a0), (1, .ref a1)]) C 2 (i_1 + (1 : Int32)) dX16_does_22 rfl (kn_1 _) (by decide) rfl rfl ?_
      refine z_goto (q := 2) C dX16_does_25 (by decide) ?_
      refine z_lv [1, 2, 0] rfl ?_
      have hc1 := zl_c hf hx1
      exact hc1

noncomputable def f_X17_does_J85 (F : Nat → Nat → ZT → Option ZT)  (σ : ZT) : Option ZT :=
  some σ
noncomputable def f_X17_does_J75 (F : Nat → Nat → ZT → Option ZT) (a0_75 : Nat) (a1_75 : Nat) (w0_75 : Int32) (σ : ZT) : Option ZT :=
  if w0_75 = 0 then
  (f_X17_does_J85 F  σ)
  else
  ((vc 17 a0_75 σ (f_X15_all F a0_75 a1_75 σ)).bind fun σ =>
  f_X17_does_J85 F  σ)
noncomputable def f_X17_does (F : Nat → Nat → ZT → Option ZT) (a0 : Nat) (a1 : Nat) (σ : ZT) : Option ZT :=
  (gI 17 1702 a0 σ).bind fun v1 =>
  if v1 = 0 then
  ((gR 8 800 a1 σ).bind fun v9 =>
  (gR 5 501 v9 σ).bind fun v10 =>
  (gI 17 1703 a0 σ).bind fun v11 =>
  (ldI 0 v10 v11 σ).bind fun v12 =>
  (gI 17 1704 a0 σ).bind fun v13 =>
  if v12 = v13 then
  (f_X17_does_J75 F a0 a1 (1 : Int32) σ)
  else
  (f_X17_does_J75 F a0 a1 (0 : Int32) σ))
  else
  ((gI 17 1702 a0 σ).bind fun v2 =>
  if v2 = (1 : Int32) then
  ((gR 8 800 a1 σ).bind fun v6 =>
  (gI 17 1703 a0 σ).bind fun v7 =>
  bnd2 (vc 5 v6 σ (f_X5_hangs v6 v7 σ)) fun v8 σ =>
  f_X17_does_J75 F a0 a1 v8 σ)
  else
  ((gR 8 800 a1 σ).bind fun v3 =>
  (gI 17 1703 a0 σ).bind fun v4 =>
  bnd2 (vc 5 v3 σ (f_X5_carried v3 v4 σ)) fun v5 σ =>
  if v5 < 0 then
  (f_X17_does_J75 F a0 a1 (0 : Int32) σ)
  else
  (f_X17_does_J75 F a0 a1 (1 : Int32) σ)))
set_option maxHeartbeats 4000000 in
theorem m_X17_does {l : Launch} {G : ZG} {d0 : Nat} (F : Nat → Nat → ZT → Option ZT) (hF : ∀ (a : Nat) (p0 : Nat) (σ : ZT) (o : ZT), F a p0 σ = some o → ZM l G yX14_go cX14_go 2 none [] d0 [.ref a, .ref p0] σ (.returned none) o) (a0 : Nat) (a1 : Nat) (σ : ZT) {out : ZT} (hf : f_X17_does F a0 a1 σ = some out) : ZM l G yX17_does cX17_does 3 none [] (d0 + 10) [.ref a0, .ref a1] σ (.returned none) out := by
  refine ZM.of [(0, .ref a0), (1, .ref a1)] rfl (Nat.le_of_ble_eq_true rfl) fun X (C : ZC G RX17 "does" cX17_does 3 none [] X (d0 + 10)) => ?_
  unfold f_X17_does at hf
  have j85_0 : ∀  (σ : ZT), f_X17_does_J85 F  σ = some out → ZW l G 3 X (ZQ G X (.returned none) out) σ 85 [] [] := by
    intro  σ hf
    unfold f_X17_does_J85 at hf
    exact z_return C rfl dX17_does_85 (Option.some.inj hf)
  have j75_0 : ∀ (a0_75 : Nat) (a1_75 : Nat) (w0_75 : Int32) (σ : ZT), f_X17_does_J75 F a0_75 a1_75 w0_75 σ = some out → ZW l G 3 X (ZQ G X (.returned none) out) σ 75 [(0, .ref a0_75), (1, .ref a1_75)] [.int w0_75] := by
    intro a0_75 a1_75 w0_75 σ hf
    unfold f_X17_does_J75 at hf
    refine z_istore_n (q := 76) (i := 2) (lv' := [(2, .int w0_75), (0, .ref a0_75), (1, .ref a1_75)]) C dX17_does_75 rfl (by decide) rfl rfl ?_
    refine z_iload_n (q := 77) (i := 2) C 0 dX17_does_76 rfl rfl rfl ?_
    refine z_ifeq (q := 80) (tgt := 85) C dX17_does_77 (by decide) rfl hf (fun c77 hf => ?_) (fun c77 hf => ?_)
    · refine z_lv [] rfl ?_
      exact j85_0  σ hf
    · refine z_aload_n (q := 81) (i := 0) C 1 dX17_does_80 rfl rfl rfl ?_
      refine z_aload_n (q := 82) (i := 1) C 2 dX17_does_81 rfl rfl rfl ?_
      refine z_callUv (q := 85) (As := [.ref a1_75]) C (fun o ho => m_X15_all F hF _ _ _ ho) zk17 vuX17_41 cdX15_all pnX15 dX17_does_82 rfl (by omega) (Nat.le_of_ble_eq_true rfl) hf rfl fun σ hf => ?_
      refine z_lv [] rfl ?_
      exact j85_0  σ hf
  refine z_aload_n (q := 1) (i := 0) C 0 dX17_does_0 rfl rfl rfl ?_
  refine z_getI (q := 4) C flX17_9 dX17_does_1 hf rfl fun v1 hf => ?_
  refine z_ifne (q := 7) (tgt := 34) C dX17_does_4 (by decide) rfl hf (fun c4 hf => ?_) (fun c4 hf => ?_)
  · refine z_aload_n (q := 35) (i := 0) C 0 dX17_does_34 rfl rfl rfl ?_
    refine z_getI (q := 38) C flX17_9 dX17_does_35 hf rfl fun v2 hf => ?_
    refine z_iconst (q := 39) C (1 : Int32) dX17_does_38 ki_1 rfl ?_
    refine z_icmpne (q := 42) (tgt := 56) C dX17_does_39 (by decide) rfl hf (fun c39 hf => ?_) (fun c39 hf => ?_)
    · refine z_aload_n (q := 57) (i := 1) C 1 dX17_does_56 rfl rfl rfl ?_
      refine z_getR (q := 60) C flX17_21 dX17_does_57 hf rfl fun v3 hf => ?_
      refine z_aload_n (q := 61) (i := 0) C 0 dX17_does_60 rfl rfl rfl ?_
      refine z_getI (q := 64) C flX17_15 dX17_does_61 hf rfl fun v4 hf => ?_
      refine z_callVi (q := 67) (As := [.int v4]) C (fun o ho => m_X5_carried _ _ _ ho) zk5 vvX17_37 cdX5_carried pnX5 dX17_does_64 rfl (by omega) (Nat.le_of_ble_eq_true rfl) hf rfl fun v5 σ hf => ?_
      refine z_iflt (q := 70) (tgt := 74) C dX17_does_67 (by decide) rfl hf (fun c67 hf => ?_) (fun c67 hf => ?_)
      · refine z_iconst (q := 75) C (0 : Int32) dX17_does_74 ki_0 rfl ?_
        exact j75_0 a0 a1 (0 : Int32) σ hf
      · refine z_iconst (q := 71) C (1 : Int32) dX17_does_70 ki_1 rfl ?_
        refine z_goto (q := 75) C dX17_does_71 (by decide) ?_
        exact j75_0 a0 a1 (1 : Int32) σ hf
    · refine z_aload_n (q := 43) (i := 1) C 1 dX17_does_42 rfl rfl rfl ?_
      refine z_getR (q := 46) C flX17_21 dX17_does_43 hf rfl fun v6 hf => ?_
      refine z_aload_n (q := 47) (i := 0) C 0 dX17_does_46 rfl rfl rfl ?_
      refine z_getI (q := 50) C flX17_15 dX17_does_47 hf rfl fun v7 hf => ?_
      refine z_callVi (q := 53) (As := [.int v7]) C (fun o ho => m_X5_hangs _ _ _ ho) zk5 vvX17_33 cdX5_hangs pnX5 dX17_does_50 rfl (by omega) (Nat.le_of_ble_eq_true rfl) hf rfl fun v8 σ hf => ?_
      refine z_goto (q := 75) C dX17_does_53 (by decide) ?_
      exact j75_0 a0 a1 v8 σ hf
  · refine z_aload_n (q := 8) (i := 1) C 1 dX17_does_7 rfl rfl rfl ?_
    refine z_getR (q := 11) C flX17_21 dX17_does_8 hf rfl fun v9 hf => ?_
    refine z_getR (q := 14) C flX17_27 dX17_does_11 hf rfl fun v10 hf => ?_
    refine z_aload_n (q := 15) (i := 0) C 0 dX17_does_14 rfl rfl rfl ?_
    refine z_getI (q := 18) C flX17_15 dX17_does_15 hf rfl fun v11 hf => ?_
    refine z_iald (q := 19) C dX17_does_18 hf rfl fun v12 hf => ?_
    refine z_aload_n (q := 20) (i := 0) C 0 dX17_does_19 rfl rfl rfl ?_
    refine z_getI (q := 23) C flX17_18 dX17_does_20 hf rfl fun v13 hf => ?_
    refine z_icmpne (q := 26) (tgt := 30) C dX17_does_23 (by decide) rfl hf (fun c23 hf => ?_) (fun c23 hf => ?_)
    · refine z_iconst (q := 31) C (0 : Int32) dX17_does_30 ki_0 rfl ?_
      refine z_goto (q := 75) C dX17_does_31 (by decide) ?_
      exact j75_0 a0 a1 (0 : Int32) σ hf
    · refine z_iconst (q := 27) C (1 : Int32) dX17_does_26 ki_1 rfl ?_
      refine z_goto (q := 75) C dX17_does_27 (by decide) ?_
      exact j75_0 a0 a1 (1 : Int32) σ hf

noncomputable def f_X8_finish_J33 (w0_33 : Int32) (w1_33 : Nat) (σ : ZT) : Option ZT :=
  (pZ 8 808 w1_33 w0_33 σ).bind fun σ =>
  some σ
noncomputable def f_X8_finish_J28 (w0_28 : Nat) (σ : ZT) : Option ZT :=
  f_X8_finish_J33 (1 : Int32) w0_28 σ
noncomputable def f_X8_finish (a0 : Nat) (σ : ZT) : Option ZT :=
  (gI 8 803 a0 σ).bind fun v1 =>
  (pI 8 803 a0 (v1 + (1 : Int32)) σ).bind fun σ =>
  (gI 8 808 a0 σ).bind fun v2 =>
  if v2 = 0 then
  ((gR 8 800 a0 σ).bind fun v3 =>
  bnd2 (vc 5 v3 σ (f_X5_isDone v3 σ)) fun v4 σ =>
  if v4 = 0 then
  (f_X8_finish_J33 (0 : Int32) a0 σ)
  else
  (f_X8_finish_J28 a0 σ))
  else
  (f_X8_finish_J28 a0 σ)
set_option maxHeartbeats 4000000 in
theorem m_X8_finish {l : Launch} {G : ZG} (a0 : Nat) (σ : ZT) {out : ZT} (hf : f_X8_finish a0 σ = some out) : ZM l G yX8_finish cX8_finish 1 none [] 2 [.ref a0] σ (.returned none) out := by
  refine ZM.of [(0, .ref a0)] rfl (Nat.le_of_ble_eq_true rfl) fun X (C : ZC G RX8 "finish" cX8_finish 1 none [] X 2) => ?_
  unfold f_X8_finish at hf
  have j33_0 : ∀ (w0_33 : Int32) (w1_33 : Nat) (σ : ZT), f_X8_finish_J33 w0_33 w1_33 σ = some out → ZW l G 1 X (ZQ G X (.returned none) out) σ 33 [] [.int w0_33, .ref w1_33] := by
    intro w0_33 w1_33 σ hf
    unfold f_X8_finish_J33 at hf
    refine z_putZ (q := 36) C puX8_48 dX8_finish_33 hf rfl fun σ hf => ?_
    exact z_return C rfl dX8_finish_36 (Option.some.inj hf)
  have j28_0 : ∀ (w0_28 : Nat) (σ : ZT), f_X8_finish_J28 w0_28 σ = some out → ZW l G 1 X (ZQ G X (.returned none) out) σ 28 [] [.ref w0_28] := by
    intro w0_28 σ hf
    unfold f_X8_finish_J28 at hf
    refine z_iconst (q := 29) C (1 : Int32) dX8_finish_28 ki_1 rfl ?_
    refine z_goto (q := 33) C dX8_finish_29 (by decide) ?_
    exact j33_0 (1 : Int32) w0_28 σ hf
  refine z_aload_n (q := 1) (i := 0) C 0 dX8_finish_0 rfl rfl rfl ?_
  refine z_dup (q := 2) C dX8_finish_1 rfl rfl ?_
  refine z_getI (q := 5) C flX8_33 dX8_finish_2 hf rfl fun v1 hf => ?_
  refine z_iconst (q := 6) C (1 : Int32) dX8_finish_5 ki_1 rfl ?_
  refine z_iadd (q := 7) C dX8_finish_6 rfl ?_
  refine z_putI (q := 10) C puX8_33 dX8_finish_7 hf rfl fun σ hf => ?_
  refine z_aload_n (q := 11) (i := 0) C 0 dX8_finish_10 rfl rfl rfl ?_
  refine z_aload_n (q := 12) (i := 0) C 0 dX8_finish_11 rfl rfl rfl ?_
  refine z_getI (q := 15) C flX8_48 dX8_finish_12 hf rfl fun v2 hf => ?_
  refine z_ifne (q := 18) (tgt := 28) C dX8_finish_15 (by decide) rfl hf (fun c15 hf => ?_) (fun c15 hf => ?_)
  · refine z_lv [] rfl ?_
    exact j28_0 a0 σ hf
  · refine z_aload_n (q := 19) (i := 0) C 0 dX8_finish_18 rfl rfl rfl ?_
    refine z_getR (q := 22) C flX8_12 dX8_finish_19 hf rfl fun v3 hf => ?_
    refine z_callVi (q := 25) (As := []) C (fun o ho => m_X5_isDone _ _ ho) zk5 vvX8_90 cdX5_isDone pnX5 dX8_finish_22 rfl (by decide) (Nat.le_of_ble_eq_true rfl) hf rfl fun v4 σ hf => ?_
    refine z_ifeq (q := 28) (tgt := 32) C dX8_finish_25 (by decide) rfl hf (fun c25 hf => ?_) (fun c25 hf => ?_)
    · refine z_iconst (q := 33) C (0 : Int32) dX8_finish_32 ki_0 rfl ?_
      refine z_lv [] rfl ?_
      exact j33_0 (0 : Int32) a0 σ hf
    · refine z_lv [] rfl ?_
      exact j28_0 a0 σ hf

noncomputable def f_X8_draw (a0 : Nat) (σ : ZT) : Option (Int32 × ZT) :=
  (gI 8 801 a0 σ).bind fun v1 =>
  (zirem ((v1 * (2741 : Int32)) + (10007 : Int32)) (65536 : Int32)).bind fun v2 =>
  (pI 8 801 a0 v2 σ).bind fun σ =>
  (gI 8 801 a0 σ).bind fun v3 =>
  (zidiv v3 (8 : Int32)).bind fun v4 =>
  (zirem v4 (16 : Int32)).bind fun v5 =>
  some (v5, σ)
set_option maxHeartbeats 4000000 in
theorem m_X8_draw {l : Launch} {G : ZG} (a0 : Nat) (σ : ZT) {out : (Int32 × ZT)} (hf : f_X8_draw a0 σ = some out) : ZM l G yX8_draw cX8_draw 1 (some .int) [] 1 [.ref a0] σ (.returned (some (.int out.1))) out.2 := by
  refine ZM.of [(0, .ref a0)] rfl (Nat.le_of_ble_eq_true rfl) fun X (C : ZC G RX8 "draw" cX8_draw 1 (some .int) [] X 1) => ?_
  unfold f_X8_draw at hf
  refine z_aload_n (q := 1) (i := 0) C 0 dX8_draw_0 rfl rfl rfl ?_
  refine z_aload_n (q := 2) (i := 0) C 0 dX8_draw_1 rfl rfl rfl ?_
  refine z_getI (q := 5) C flX8_22 dX8_draw_2 hf rfl fun v1 hf => ?_
  refine z_sipush (q := 8) C (2741 : Int32) dX8_draw_5 ks_2741 rfl ?_
  refine z_imul (q := 9) C dX8_draw_8 rfl ?_
  refine z_sipush (q := 12) C (10007 : Int32) dX8_draw_9 ks_10007 rfl ?_
  refine z_iadd (q := 13) C dX8_draw_12 rfl ?_
  refine z_ldc (q := 15) C q1529 dX8_draw_13 rfl ?_
  refine z_irem (q := 16) C dX8_draw_15 hf rfl fun v2 hf => ?_
  refine z_putI (q := 19) C puX8_22 dX8_draw_16 hf rfl fun σ hf => ?_
  refine z_aload_n (q := 20) (i := 0) C 0 dX8_draw_19 rfl rfl rfl ?_
  refine z_getI (q := 23) C flX8_22 dX8_draw_20 hf rfl fun v3 hf => ?_
  refine z_bipush (q := 25) C (8 : Int32) dX8_draw_23 kb_8 rfl ?_
  refine z_idiv (q := 26) C dX8_draw_25 hf rfl fun v4 hf => ?_
  refine z_bipush (q := 28) C (16 : Int32) dX8_draw_26 kb_16 rfl ?_
  refine z_irem (q := 29) C dX8_draw_28 hf rfl fun v5 hf => ?_
  exact z_ireturn C rfl dX8_draw_29 (Option.some.inj hf)

noncomputable def f_X8_slips_J32_5 (a0_32 : Nat) (i1_32 : Int32) (i2_32 : Int32) (i3_32 : Int32) (i4_32 : Int32) (σ : ZT) : Option ((Int32 × Int32 × ZT) ⊕ (Int32 × ZT)) :=
  some (.inl (i3_32, (i4_32 + (1 : Int32)), σ))
noncomputable def f_X8_slips_L5 (c0_5 : Nat) (c1_5 : Int32) (c2_5 : Int32) (i_1 : Int32) (i_2 : Int32) (σ : ZT) : Option ((Int32 × Int32 × ZT) ⊕ (Int32 × ZT)) :=
  if i_2 < c1_5 then
  ((gI 8 809 c0_5 σ).bind fun v3 =>
  if v3 = 0 then
  (some (.inr (i_1, σ)))
  else
  (if 0 < c2_5 then
  (bnd2 (vc 8 c0_5 σ (f_X8_draw c0_5 σ)) fun v4 σ =>
  if v4 < c2_5 then
  (f_X8_slips_J32_5 c0_5 c1_5 c2_5 (1 : Int32) i_2 σ)
  else
  (f_X8_slips_J32_5 c0_5 c1_5 c2_5 i_1 i_2 σ))
  else
  (some (.inr (i_1, σ)))))
  else
  (some (.inr (i_1, σ)))
noncomputable def f_X8_slips_J38 (i3_38 : Int32) (σ : ZT) : Option (Int32 × ZT) :=
  (rz i3_38).bind fun z6 =>
  some (z6, σ)
noncomputable def f_X8_slips (a0 : Nat) (i1 : Int32) (i2 : Int32) (σ : ZT) : Option (Int32 × ZT) :=
  (loopC (fun s : (Int32 × Int32 × ZT) => f_X8_slips_L5 a0 i1 i2 s.1 s.2.1 s.2.2) ((0 : Int32), (0 : Int32), σ)).bind fun x => (match x with
  | (x5, σ) => f_X8_slips_J38 x5 σ)
set_option maxHeartbeats 4000000 in
theorem m_X8_slips {l : Launch} {G : ZG} (a0 : Nat) (i1 : Int32) (i2 : Int32) (σ : ZT) {out : (Int32 × ZT)} (hf : f_X8_slips a0 i1 i2 σ = some out) : ZM l G yX8_slips cX8_slips 5 (some .boolean) [] 2 [.ref a0, .int i1, .int i2] σ (.returned (some (.int out.1))) out.2 := by
  refine ZM.of [(0, .ref a0), (1, .int i1), (2, .int i2)] rfl (Nat.le_of_ble_eq_true rfl) fun X (C : ZC G RX8 "slips" cX8_slips 5 (some .boolean) [] X 2) => ?_
  unfold f_X8_slips at hf
  have j38_0 : ∀ (i3_38 : Int32) (σ : ZT), f_X8_slips_J38 i3_38 σ = some out → ZW l G 5 X (ZQ G X (.returned (some (.int out.1))) out.2) σ 38 [(3, .int i3_38)] [] := by
    intro i3_38 σ hf
    unfold f_X8_slips_J38 at hf
    refine z_iload_n (q := 39) (i := 3) C 0 dX8_slips_38 rfl rfl rfl ?_
    refine z_rz C hf fun hn hf => ?_
    exact z_zreturn C rfl hn dX8_slips_39 (Option.some.inj hf)
  refine z_iconst (q := 1) C (0 : Int32) dX8_slips_0 ki_0 rfl ?_
  refine z_istore_n (q := 2) (i := 3) (lv' := [(3, .int (0 : Int32)), (0, .ref a0), (1, .int i1), (2, .int i2)]) C dX8_slips_1 rfl (by decide) rfl rfl ?_
  refine z_iconst (q := 3) C (0 : Int32) dX8_slips_2 ki_0 rfl ?_
  refine z_istore (q := 5) (i := 4) (lv' := [(4, .int (0 : Int32)), (3, .int (0 : Int32)), (0, .ref a0), (1, .int i1), (2, .int i2)]) C dX8_slips_3 (by decide) rfl rfl ?_
  refine z_lv [2, 3, 4, 1, 0] rfl ?_
  obtain ⟨r1, hr1, hk1⟩ := Option.bind_eq_some_iff.mp hf
  refine loopC_ind (P := fun s => ZW l G 5 X (ZQ G X (.returned (some (.int out.1))) out.2) s.2.2 5 [(0, .ref a0), (1, .int i1), (2, .int i2), (3, .int s.1), (4, .int s.2.1)] []) (fun s x1 hf hx1 => ?_) hr1
  obtain ⟨i_1, i_2, σ⟩ := s
  unfold f_X8_slips_L5 at hf
  try dsimp only at hf
  try dsimp only
  have j32_1 : ∀ (i3_32 : Int32) (i4_32 : Int32) (σ : ZT), f_X8_slips_J32_5 a0 i1 i2 i3_32 i4_32 σ = some x1 → ZW l G 5 X (ZQ G X (.returned (some (.int out.1))) out.2) σ 32 [(0, .ref a0), (1, .int i1), (2, .int i2), (3, .int i3_32), (4, .int i4_32)] [] := by
    intro i3_32 i4_32 σ hf
    unfold f_X8_slips_J32_5 at hf
    refine z_iinc (q := 35) (i := 4) (lv' := [(4, .int (i4_32 + (1 : Int32))), (0, .ref a0), (1, .int i1), (2, .int i2), (3, .int i3_32)]) C 4 (i4_32 + (1 : Int32)) dX8_slips_32 rfl (kn_1 _) (by decide) rfl rfl ?_
    refine z_goto (q := 5) C dX8_slips_35 (by decide) ?_
    refine z_lv [1, 2, 3, 4, 0] rfl ?_
    have hc1 := zl_c hf hx1
    exact hc1
  refine z_iload (q := 7) (i := 4) C 4 dX8_slips_5 rfl rfl ?_
  refine z_iload_n (q := 8) (i := 1) C 1 dX8_slips_7 rfl rfl rfl ?_
  refine z_icmpge (q := 11) (tgt := 38) C dX8_slips_8 (by decide) rfl hf (fun c8 hf => ?_) (fun c8 hf => ?_)
  · have e1 := zl_x hf hx1
    have hf := hk1
    rw [← e1] at hf
    try dsimp only at hf
    refine z_lv [3] rfl ?_
    exact j38_0 i_1 σ hf
  · refine z_aload_n (q := 12) (i := 0) C 0 dX8_slips_11 rfl rfl rfl ?_
    refine z_getI (q := 15) C flX8_26 dX8_slips_12 hf rfl fun v3 hf => ?_
    refine z_ifeq (q := 18) (tgt := 38) C dX8_slips_15 (by decide) rfl hf (fun c15 hf => ?_) (fun c15 hf => ?_)
    · have e1 := zl_x hf hx1
      have hf := hk1
      rw [← e1] at hf
      try dsimp only at hf
      refine z_lv [3] rfl ?_
      exact j38_0 i_1 σ hf
    · refine z_iload_n (q := 19) (i := 2) C 2 dX8_slips_18 rfl rfl rfl ?_
      refine z_ifle (q := 22) (tgt := 38) C dX8_slips_19 (by decide) rfl hf (fun c19 hf => ?_) (fun c19 hf => ?_)
      · have e1 := zl_x hf hx1
        have hf := hk1
        rw [← e1] at hf
        try dsimp only at hf
        refine z_lv [3] rfl ?_
        exact j38_0 i_1 σ hf
      · refine z_aload_n (q := 23) (i := 0) C 0 dX8_slips_22 rfl rfl rfl ?_
        refine z_callVi (q := 26) (As := []) C (fun o ho => m_X8_draw _ _ ho) zk8 vvX8_52 cdX8_draw pnX8 dX8_slips_23 rfl (by decide) (Nat.le_of_ble_eq_true rfl) hf rfl fun v4 σ hf => ?_
        refine z_iload_n (q := 27) (i := 2) C 2 dX8_slips_26 rfl rfl rfl ?_
        refine z_icmpge (q := 30) (tgt := 32) C dX8_slips_27 (by decide) rfl hf (fun c27 hf => ?_) (fun c27 hf => ?_)
        · exact j32_1 i_1 i_2 σ hf
        · refine z_iconst (q := 31) C (1 : Int32) dX8_slips_30 ki_1 rfl ?_
          refine z_istore_n (q := 32) (i := 3) (lv' := [(3, .int (1 : Int32)), (0, .ref a0), (1, .int i1), (2, .int i2), (4, .int i_2)]) C dX8_slips_31 rfl (by decide) rfl rfl ?_
          refine z_lv [1, 2, 3, 0, 4] rfl ?_
          exact j32_1 (1 : Int32) i_2 σ hf

noncomputable def f_X8_move_J97 (a0_97 : Nat) (i1_97 : Int32) (i2_97 : Int32) (i3_97 : Int32) (i4_97 : Int32) (a5_97 : Nat) (w0_97 : Int32) (σ : ZT) : Option ZT :=
  (gI 8 806 a0_97 σ).bind fun v12 =>
  (gI 11 1107 a5_97 σ).bind fun v13 =>
  (pI 8 806 a0_97 (v12 + (v13 * w0_97)) σ).bind fun σ =>
  (gI 8 807 a0_97 σ).bind fun v14 =>
  (gI 11 1108 a5_97 σ).bind fun v15 =>
  (pI 8 807 a0_97 (v14 + v15) σ).bind fun σ =>
  (gI 11 1109 a5_97 σ).bind fun v16 =>
  bnd2 (vc 8 a0_97 σ (f_X8_slips a0_97 w0_97 v16 σ)) fun v17 σ =>
  if v17 = 0 then
  ((gR 8 800 a0_97 σ).bind fun v18 =>
  bnd2 (vc 5 v18 σ (f_X5_moves v18 i1_97 i2_97 i3_97 i4_97 σ)) fun v19 σ =>
  (vc 8 a0_97 σ (f_X8_finish a0_97 σ)).bind fun σ =>
  some σ)
  else
  ((gI 8 805 a0_97 σ).bind fun v21 =>
  (pI 8 805 a0_97 (v21 + (1 : Int32)) σ).bind fun σ =>
  some σ)
noncomputable def f_X8_move_J53 (a0_53 : Nat) (i1_53 : Int32) (i2_53 : Int32) (i3_53 : Int32) (i4_53 : Int32) (w0_53 : Int32) (w1_53 : Int32) (w2_53 : Nat) (σ : ZT) : Option ZT :=
  bnd2 (vc 5 w2_53 σ (f_X5_why w2_53 w1_53 w0_53 i4_53 σ)) fun v6 σ =>
  if 0 < v6 then
  ((gI 8 804 a0_53 σ).bind fun v11 =>
  (pI 8 804 a0_53 (v11 + (1 : Int32)) σ).bind fun σ =>
  some σ)
  else
  ((gR 8 800 a0_53 σ).bind fun v7 =>
  (gR 5 500 v7 σ).bind fun v8 =>
  (gR 6 606 v8 σ).bind fun v9 =>
  (ldR 6 v9 i4_53 σ).bind fun v10 =>
  if i1_53 = (1 : Int32) then
  (f_X8_move_J97 a0_53 i1_53 i2_53 i3_53 i4_53 v10 (2 : Int32) σ)
  else
  (f_X8_move_J97 a0_53 i1_53 i2_53 i3_53 i4_53 v10 (1 : Int32) σ))
noncomputable def f_X8_move_J37  (σ : ZT) : Option ZT :=
  some σ
noncomputable def f_X8_move (a0 : Nat) (i1 : Int32) (i2 : Int32) (i3 : Int32) (i4 : Int32) (σ : ZT) : Option ZT :=
  if (1 : Int32) < i1 then
  ((gR 8 800 a0 σ).bind fun v2 =>
  bnd2 (vc 5 v2 σ (f_X5_moves v2 i1 i2 i3 i4 σ)) fun v3 σ =>
  if v3 = 0 then
  ((gI 8 804 a0 σ).bind fun v4 =>
  (pI 8 804 a0 (v4 + (1 : Int32)) σ).bind fun σ =>
  f_X8_move_J37  σ)
  else
  ((vc 8 a0 σ (f_X8_finish a0 σ)).bind fun σ =>
  f_X8_move_J37  σ))
  else
  ((gR 8 800 a0 σ).bind fun v1 =>
  if i1 = (1 : Int32) then
  (f_X8_move_J53 a0 i1 i2 i3 i4 i3 i2 v1 σ)
  else
  (f_X8_move_J53 a0 i1 i2 i3 i4 (-1 : Int32) i2 v1 σ))
set_option maxHeartbeats 4000000 in
theorem m_X8_move {l : Launch} {G : ZG} (a0 : Nat) (i1 : Int32) (i2 : Int32) (i3 : Int32) (i4 : Int32) (σ : ZT) {out : ZT} (hf : f_X8_move a0 i1 i2 i3 i4 σ = some out) : ZM l G yX8_move cX8_move 7 none [] 6 [.ref a0, .int i1, .int i2, .int i3, .int i4] σ (.returned none) out := by
  refine ZM.of [(0, .ref a0), (1, .int i1), (2, .int i2), (3, .int i3), (4, .int i4)] rfl (Nat.le_of_ble_eq_true rfl) fun X (C : ZC G RX8 "move" cX8_move 7 none [] X 6) => ?_
  unfold f_X8_move at hf
  have j97_0 : ∀ (a0_97 : Nat) (i1_97 : Int32) (i2_97 : Int32) (i3_97 : Int32) (i4_97 : Int32) (a5_97 : Nat) (w0_97 : Int32) (σ : ZT), f_X8_move_J97 a0_97 i1_97 i2_97 i3_97 i4_97 a5_97 w0_97 σ = some out → ZW l G 7 X (ZQ G X (.returned none) out) σ 97 [(0, .ref a0_97), (1, .int i1_97), (2, .int i2_97), (3, .int i3_97), (4, .int i4_97), (5, .ref a5_97)] [.int w0_97] := by
    intro a0_97 i1_97 i2_97 i3_97 i4_97 a5_97 w0_97 σ hf
    unfold f_X8_move_J97 at hf
    refine z_istore (q := 99) (i := 6) (lv' := [(6, .int w0_97), (0, .ref a0_97), (1, .int i1_97), (2, .int i2_97), (3, .int i3_97), (4, .int i4_97), (5, .ref a5_97)]) C dX8_move_97 (by decide) rfl rfl ?_
    refine z_aload_n (q := 100) (i := 0) C 1 dX8_move_99 rfl rfl rfl ?_
    refine z_dup (q := 101) C dX8_move_100 rfl rfl ?_
    refine z_getI (q := 104) C flX8_42 dX8_move_101 hf rfl fun v12 hf => ?_
    refine z_aload (q := 106) (i := 5) C 6 dX8_move_104 rfl rfl ?_
    refine z_getI (q := 109) C flX8_77 dX8_move_106 hf rfl fun v13 hf => ?_
    refine z_iload (q := 111) (i := 6) C 0 dX8_move_109 rfl rfl ?_
    refine z_imul (q := 112) C dX8_move_111 rfl ?_
    refine z_iadd (q := 113) C dX8_move_112 rfl ?_
    refine z_putI (q := 116) C puX8_42 dX8_move_113 hf rfl fun σ hf => ?_
    refine z_aload_n (q := 117) (i := 0) C 1 dX8_move_116 rfl rfl rfl ?_
    refine z_dup (q := 118) C dX8_move_117 rfl rfl ?_
    refine z_getI (q := 121) C flX8_45 dX8_move_118 hf rfl fun v14 hf => ?_
    refine z_aload (q := 123) (i := 5) C 6 dX8_move_121 rfl rfl ?_
    refine z_getI (q := 126) C flX8_80 dX8_move_123 hf rfl fun v15 hf => ?_
    refine z_iadd (q := 127) C dX8_move_126 rfl ?_
    refine z_putI (q := 130) C puX8_45 dX8_move_127 hf rfl fun σ hf => ?_
    refine z_aload_n (q := 131) (i := 0) C 1 dX8_move_130 rfl rfl rfl ?_
    refine z_iload (q := 133) (i := 6) C 0 dX8_move_131 rfl rfl ?_
    refine z_aload (q := 135) (i := 5) C 6 dX8_move_133 rfl rfl ?_
    refine z_getI (q := 138) C flX8_83 dX8_move_135 hf rfl fun v16 hf => ?_
    refine z_callVi (q := 141) (As := [.int w0_97, .int v16]) C (fun o ho => m_X8_slips _ _ _ _ ho) zk8 vvX8_86 cdX8_slips pnX8 dX8_move_138 rfl (by decide) (Nat.le_of_ble_eq_true rfl) hf rfl fun v17 σ hf => ?_
    refine z_ifeq (q := 144) (tgt := 155) C dX8_move_141 (by decide) rfl hf (fun c141 hf => ?_) (fun c141 hf => ?_)
    · refine z_aload_n (q := 156) (i := 0) C 1 dX8_move_155 rfl rfl rfl ?_
      refine z_getR (q := 159) C flX8_12 dX8_move_156 hf rfl fun v18 hf => ?_
      refine z_iload_n (q := 160) (i := 1) C 2 dX8_move_159 rfl rfl rfl ?_
      refine z_iload_n (q := 161) (i := 2) C 3 dX8_move_160 rfl rfl rfl ?_
      refine z_iload_n (q := 162) (i := 3) C 4 dX8_move_161 rfl rfl rfl ?_
      refine z_iload (q := 164) (i := 4) C 5 dX8_move_162 rfl rfl ?_
      refine z_callVi (q := 167) (As := [.int i1_97, .int i2_97, .int i3_97, .int i4_97]) C (fun o ho => m_X5_moves _ _ _ _ _ _ ho) zk5 vvX8_56 cdX5_moves pnX5 dX8_move_164 rfl (by decide) (Nat.le_of_ble_eq_true rfl) hf rfl fun v19 σ hf => ?_
      refine z_pop (q := 168) C dX8_move_167 rfl rfl ?_
      refine z_aload_n (q := 169) (i := 0) C 1 dX8_move_168 rfl rfl rfl ?_
      refine z_callVv (q := 172) (As := []) C (fun o ho => m_X8_finish _ _ ho) zk8 vvX8_60 cdX8_finish pnX8 dX8_move_169 rfl (by decide) (Nat.le_of_ble_eq_true rfl) hf rfl fun σ hf => ?_
      exact z_return C rfl dX8_move_172 (Option.some.inj hf)
    · refine z_aload_n (q := 145) (i := 0) C 1 dX8_move_144 rfl rfl rfl ?_
      refine z_dup (q := 146) C dX8_move_145 rfl rfl ?_
      refine z_getI (q := 149) C flX8_39 dX8_move_146 hf rfl fun v21 hf => ?_
      refine z_iconst (q := 150) C (1 : Int32) dX8_move_149 ki_1 rfl ?_
      refine z_iadd (q := 151) C dX8_move_150 rfl ?_
      refine z_putI (q := 154) C puX8_39 dX8_move_151 hf rfl fun σ hf => ?_
      exact z_return C rfl dX8_move_154 (Option.some.inj hf)
  have j53_0 : ∀ (a0_53 : Nat) (i1_53 : Int32) (i2_53 : Int32) (i3_53 : Int32) (i4_53 : Int32) (w0_53 : Int32) (w1_53 : Int32) (w2_53 : Nat) (σ : ZT), f_X8_move_J53 a0_53 i1_53 i2_53 i3_53 i4_53 w0_53 w1_53 w2_53 σ = some out → ZW l G 7 X (ZQ G X (.returned none) out) σ 53 [(0, .ref a0_53), (1, .int i1_53), (2, .int i2_53), (3, .int i3_53), (4, .int i4_53)] [.int w0_53, .int w1_53, .ref w2_53] := by
    intro a0_53 i1_53 i2_53 i3_53 i4_53 w0_53 w1_53 w2_53 σ hf
    unfold f_X8_move_J53 at hf
    refine z_iload (q := 55) (i := 4) C 4 dX8_move_53 rfl rfl ?_
    refine z_callVi (q := 58) (As := [.int w1_53, .int w0_53, .int i4_53]) C (fun o ho => m_X5_why _ _ _ _ _ ho) zk5 vvX8_63 cdX5_why pnX5 dX8_move_55 rfl (by decide) (Nat.le_of_ble_eq_true rfl) hf rfl fun v6 σ hf => ?_
    refine z_ifle (q := 61) (tgt := 72) C dX8_move_58 (by decide) rfl hf (fun c58 hf => ?_) (fun c58 hf => ?_)
    · refine z_aload_n (q := 73) (i := 0) C 0 dX8_move_72 rfl rfl rfl ?_
      refine z_getR (q := 76) C flX8_12 dX8_move_73 hf rfl fun v7 hf => ?_
      refine z_getR (q := 79) C flX8_67 dX8_move_76 hf rfl fun v8 hf => ?_
      refine z_getR (q := 82) C flX8_71 dX8_move_79 hf rfl fun v9 hf => ?_
      refine z_iload (q := 84) (i := 4) C 4 dX8_move_82 rfl rfl ?_
      refine z_aaldR (q := 85) C 6 (by decide) (by decide) dX8_move_84 hf rfl fun v10 hf => ?_
      refine z_astore (q := 87) (i := 5) (lv' := [(5, .ref v10), (0, .ref a0_53), (1, .int i1_53), (2, .int i2_53), (3, .int i3_53), (4, .int i4_53)]) C dX8_move_85 (by decide) rfl rfl ?_
      refine z_iload_n (q := 88) (i := 1) C 2 dX8_move_87 rfl rfl rfl ?_
      refine z_iconst (q := 89) C (1 : Int32) dX8_move_88 ki_1 rfl ?_
      refine z_icmpne (q := 92) (tgt := 96) C dX8_move_89 (by decide) rfl hf (fun c89 hf => ?_) (fun c89 hf => ?_)
      · refine z_iconst (q := 97) C (1 : Int32) dX8_move_96 ki_1 rfl ?_
        refine z_lv [1, 2, 3, 4, 5, 0] rfl ?_
        exact j97_0 a0_53 i1_53 i2_53 i3_53 i4_53 v10 (1 : Int32) σ hf
      · refine z_iconst (q := 93) C (2 : Int32) dX8_move_92 ki_2 rfl ?_
        refine z_goto (q := 97) C dX8_move_93 (by decide) ?_
        refine z_lv [1, 2, 3, 4, 5, 0] rfl ?_
        exact j97_0 a0_53 i1_53 i2_53 i3_53 i4_53 v10 (2 : Int32) σ hf
    · refine z_aload_n (q := 62) (i := 0) C 0 dX8_move_61 rfl rfl rfl ?_
      refine z_dup (q := 63) C dX8_move_62 rfl rfl ?_
      refine z_getI (q := 66) C flX8_36 dX8_move_63 hf rfl fun v11 hf => ?_
      refine z_iconst (q := 67) C (1 : Int32) dX8_move_66 ki_1 rfl ?_
      refine z_iadd (q := 68) C dX8_move_67 rfl ?_
      refine z_putI (q := 71) C puX8_36 dX8_move_68 hf rfl fun σ hf => ?_
      exact z_return C rfl dX8_move_71 (Option.some.inj hf)
  have j37_0 : ∀  (σ : ZT), f_X8_move_J37  σ = some out → ZW l G 7 X (ZQ G X (.returned none) out) σ 37 [] [] := by
    intro  σ hf
    unfold f_X8_move_J37 at hf
    exact z_return C rfl dX8_move_37 (Option.some.inj hf)
  refine z_iload_n (q := 1) (i := 1) C 1 dX8_move_0 rfl rfl rfl ?_
  refine z_iconst (q := 2) C (1 : Int32) dX8_move_1 ki_1 rfl ?_
  refine z_icmple (q := 5) (tgt := 38) C dX8_move_2 (by decide) rfl hf (fun c2 hf => ?_) (fun c2 hf => ?_)
  · refine z_aload_n (q := 39) (i := 0) C 0 dX8_move_38 rfl rfl rfl ?_
    refine z_getR (q := 42) C flX8_12 dX8_move_39 hf rfl fun v1 hf => ?_
    refine z_iload_n (q := 43) (i := 2) C 2 dX8_move_42 rfl rfl rfl ?_
    refine z_iload_n (q := 44) (i := 1) C 1 dX8_move_43 rfl rfl rfl ?_
    refine z_iconst (q := 45) C (1 : Int32) dX8_move_44 ki_1 rfl ?_
    refine z_icmpne (q := 48) (tgt := 52) C dX8_move_45 (by decide) rfl hf (fun c45 hf => ?_) (fun c45 hf => ?_)
    · refine z_iconst (q := 53) C (-1 : Int32) dX8_move_52 ki_m1 rfl ?_
      exact j53_0 a0 i1 i2 i3 i4 (-1 : Int32) i2 v1 σ hf
    · refine z_iload_n (q := 49) (i := 3) C 3 dX8_move_48 rfl rfl rfl ?_
      refine z_goto (q := 53) C dX8_move_49 (by decide) ?_
      exact j53_0 a0 i1 i2 i3 i4 i3 i2 v1 σ hf
  · refine z_aload_n (q := 6) (i := 0) C 0 dX8_move_5 rfl rfl rfl ?_
    refine z_getR (q := 9) C flX8_12 dX8_move_6 hf rfl fun v2 hf => ?_
    refine z_iload_n (q := 10) (i := 1) C 1 dX8_move_9 rfl rfl rfl ?_
    refine z_iload_n (q := 11) (i := 2) C 2 dX8_move_10 rfl rfl rfl ?_
    refine z_iload_n (q := 12) (i := 3) C 3 dX8_move_11 rfl rfl rfl ?_
    refine z_iload (q := 14) (i := 4) C 4 dX8_move_12 rfl rfl ?_
    refine z_callVi (q := 17) (As := [.int i1, .int i2, .int i3, .int i4]) C (fun o ho => m_X5_moves _ _ _ _ _ _ ho) zk5 vvX8_56 cdX5_moves pnX5 dX8_move_14 rfl (by decide) (Nat.le_of_ble_eq_true rfl) hf rfl fun v3 σ hf => ?_
    refine z_ifeq (q := 20) (tgt := 27) C dX8_move_17 (by decide) rfl hf (fun c17 hf => ?_) (fun c17 hf => ?_)
    · refine z_aload_n (q := 28) (i := 0) C 0 dX8_move_27 rfl rfl rfl ?_
      refine z_dup (q := 29) C dX8_move_28 rfl rfl ?_
      refine z_getI (q := 32) C flX8_36 dX8_move_29 hf rfl fun v4 hf => ?_
      refine z_iconst (q := 33) C (1 : Int32) dX8_move_32 ki_1 rfl ?_
      refine z_iadd (q := 34) C dX8_move_33 rfl ?_
      refine z_putI (q := 37) C puX8_36 dX8_move_34 hf rfl fun σ hf => ?_
      refine z_lv [] rfl ?_
      exact j37_0  σ hf
    · refine z_aload_n (q := 21) (i := 0) C 0 dX8_move_20 rfl rfl rfl ?_
      refine z_callVv (q := 24) (As := []) C (fun o ho => m_X8_finish _ _ ho) zk8 vvX8_60 cdX8_finish pnX8 dX8_move_21 rfl (by decide) (Nat.le_of_ble_eq_true rfl) hf rfl fun σ hf => ?_
      refine z_goto (q := 37) C dX8_move_24 (by decide) ?_
      refine z_lv [] rfl ?_
      exact j37_0  σ hf

noncomputable def f_X18_does (a0 : Nat) (a1 : Nat) (σ : ZT) : Option ZT :=
  (gI 18 1800 a0 σ).bind fun v1 =>
  (gI 18 1801 a0 σ).bind fun v2 =>
  (gI 18 1802 a0 σ).bind fun v3 =>
  (gI 18 1803 a0 σ).bind fun v4 =>
  (vc 8 a1 σ (f_X8_move a1 v1 v2 v3 v4 σ)).bind fun σ =>
  some σ
set_option maxHeartbeats 4000000 in
theorem m_X18_does {l : Launch} {G : ZG} (a0 : Nat) (a1 : Nat) (σ : ZT) {out : ZT} (hf : f_X18_does a0 a1 σ = some out) : ZM l G yX18_does cX18_does 2 none [] 7 [.ref a0, .ref a1] σ (.returned none) out := by
  refine ZM.of [(0, .ref a0), (1, .ref a1)] rfl (Nat.le_of_ble_eq_true rfl) fun X (C : ZC G RX18 "does" cX18_does 2 none [] X 7) => ?_
  unfold f_X18_does at hf
  refine z_aload_n (q := 1) (i := 1) C 1 dX18_does_0 rfl rfl rfl ?_
  refine z_aload_n (q := 2) (i := 0) C 0 dX18_does_1 rfl rfl rfl ?_
  refine z_getI (q := 5) C flX18_9 dX18_does_2 hf rfl fun v1 hf => ?_
  refine z_aload_n (q := 6) (i := 0) C 0 dX18_does_5 rfl rfl rfl ?_
  refine z_getI (q := 9) C flX18_21 dX18_does_6 hf rfl fun v2 hf => ?_
  refine z_aload_n (q := 10) (i := 0) C 0 dX18_does_9 rfl rfl rfl ?_
  refine z_getI (q := 13) C flX18_27 dX18_does_10 hf rfl fun v3 hf => ?_
  refine z_aload_n (q := 14) (i := 0) C 0 dX18_does_13 rfl rfl rfl ?_
  refine z_getI (q := 17) C flX18_30 dX18_does_14 hf rfl fun v4 hf => ?_
  refine z_callVv (q := 20) (As := [.int v1, .int v2, .int v3, .int v4]) C (fun o ho => m_X8_move _ _ _ _ _ _ ho) zk8 vvX18_33 cdX8_move pnX8 dX18_does_17 rfl (by decide) (Nat.le_of_ble_eq_true rfl) hf rfl fun σ hf => ?_
  exact z_return C rfl dX18_does_20 (Option.some.inj hf)

noncomputable def f_X19_does (a0 : Nat) (a1 : Nat) (σ : ZT) : Option ZT :=
  (pZ 8 808 a1 (1 : Int32) σ).bind fun σ =>
  some σ
set_option maxHeartbeats 4000000 in
theorem m_X19_does {l : Launch} {G : ZG} (a0 : Nat) (a1 : Nat) (σ : ZT) {out : ZT} (hf : f_X19_does a0 a1 σ = some out) : ZM l G yX19_does cX19_does 2 none [] 1 [.ref a0, .ref a1] σ (.returned none) out := by
  refine ZM.of [(0, .ref a0), (1, .ref a1)] rfl (Nat.le_of_ble_eq_true rfl) fun X (C : ZC G RX19 "does" cX19_does 2 none [] X 1) => ?_
  unfold f_X19_does at hf
  refine z_aload_n (q := 1) (i := 1) C 1 dX19_does_0 rfl rfl rfl ?_
  refine z_iconst (q := 2) C (1 : Int32) dX19_does_1 ki_1 rfl ?_
  refine z_putZ (q := 5) C puX19_7 dX19_does_2 hf rfl fun σ hf => ?_
  exact z_return C rfl dX19_does_5 (Option.some.inj hf)

/-- what a step does: by its kind -/
noncomputable def vdoes (F : Nat → Nat → ZT → Option ZT) (a r : Nat) (σ : ZT) : Option ZT := if zK σ a = 17 then f_X16_does F a r σ else if zK σ a = 18 then f_X17_does F a r σ else if zK σ a = 19 then f_X18_does a r σ else if zK σ a = 20 then f_X19_does a r σ else none
noncomputable def f_X14_go (F : Nat → Nat → ZT → Option ZT) (a0 : Nat) (a1 : Nat) (σ : ZT) : Option ZT :=
  (gI 8 802 a1 σ).bind fun v1 =>
  if v1 = (400 : Int32) then
  ((pZ 8 808 a1 (1 : Int32) σ).bind fun σ =>
  some σ)
  else
  ((gI 8 802 a1 σ).bind fun v2 =>
  (pI 8 802 a1 (v2 + (1 : Int32)) σ).bind fun σ =>
  (vdoes F a0 a1 σ).bind fun σ =>
  some σ)
set_option maxHeartbeats 4000000 in
theorem m_X14_go {l : Launch} {G : ZG} {d0 : Nat} (F : Nat → Nat → ZT → Option ZT) (hF : ∀ (a : Nat) (p0 : Nat) (σ : ZT) (o : ZT), F a p0 σ = some o → ZM l G yX14_go cX14_go 2 none [] d0 [.ref a, .ref p0] σ (.returned none) o) (a0 : Nat) (a1 : Nat) (σ : ZT) {out : ZT} (hf : f_X14_go F a0 a1 σ = some out) : ZM l G yX14_go cX14_go 2 none [] (d0 + 12) [.ref a0, .ref a1] σ (.returned none) out := by
  refine ZM.of [(0, .ref a0), (1, .ref a1)] rfl (Nat.le_of_ble_eq_true rfl) fun X (C : ZC G RX14 "go" cX14_go 2 none [] X (d0 + 12)) => ?_
  unfold f_X14_go at hf
  refine z_aload_n (q := 1) (i := 1) C 1 dX14_go_0 rfl rfl rfl ?_
  refine z_getI (q := 4) C flX14_9 dX14_go_1 hf rfl fun v1 hf => ?_
  refine z_sipush (q := 7) C (400 : Int32) dX14_go_4 ks_400 rfl ?_
  refine z_icmpne (q := 10) (tgt := 16) C dX14_go_7 (by decide) rfl hf (fun c7 hf => ?_) (fun c7 hf => ?_)
  · refine z_aload_n (q := 17) (i := 1) C 1 dX14_go_16 rfl rfl rfl ?_
    refine z_dup (q := 18) C dX14_go_17 rfl rfl ?_
    refine z_getI (q := 21) C flX14_9 dX14_go_18 hf rfl fun v2 hf => ?_
    refine z_iconst (q := 22) C (1 : Int32) dX14_go_21 ki_1 rfl ?_
    refine z_iadd (q := 23) C dX14_go_22 rfl ?_
    refine z_putI (q := 26) C puX14_9 dX14_go_23 hf rfl fun σ hf => ?_
    refine z_aload_n (q := 27) (i := 0) C 0 dX14_go_26 rfl rfl rfl ?_
    refine z_aload_n (q := 28) (i := 1) C 1 dX14_go_27 rfl rfl rfl ?_
    obtain ⟨σ1, hg, hf⟩ := Option.bind_eq_some_iff.mp hf
    unfold vdoes at hg
    by_cases h16 : zK σ a0 = 17
    · rw [if_pos h16] at hg
      refine zcall_go (q := 31) (rest := []) C (m_X16_does F hF _ _ _ hg) (by omega) pnX16 cdX16_does dX14_go_28 (Nat.le_of_ble_eq_true rfl) (zinv_U (As := [.ref a1]) C zk16 vd16 h16 dX14_go_28 rfl) rfl ?_
      clear hg
      generalize σ1 = σ at hf ⊢
      exact z_return C rfl dX14_go_31 (Option.some.inj hf)
    rw [if_neg h16] at hg
    by_cases h17 : zK σ a0 = 18
    · rw [if_pos h17] at hg
      refine zcall_go (q := 31) (rest := []) C (m_X17_does F hF _ _ _ hg) (by omega) pnX17 cdX17_does dX14_go_28 (Nat.le_of_ble_eq_true rfl) (zinv_U (As := [.ref a1]) C zk17 vd17 h17 dX14_go_28 rfl) rfl ?_
      clear hg
      generalize σ1 = σ at hf ⊢
      exact z_return C rfl dX14_go_31 (Option.some.inj hf)
    rw [if_neg h17] at hg
    by_cases h18 : zK σ a0 = 19
    · rw [if_pos h18] at hg
      refine zcall_go (q := 31) (rest := []) C (m_X18_does _ _ _ hg) (by omega) pnX18 cdX18_does dX14_go_28 (Nat.le_of_ble_eq_true rfl) (zinv_U (As := [.ref a1]) C zk18 vd18 h18 dX14_go_28 rfl) rfl ?_
      clear hg
      generalize σ1 = σ at hf ⊢
      exact z_return C rfl dX14_go_31 (Option.some.inj hf)
    rw [if_neg h18] at hg
    by_cases h19 : zK σ a0 = 20
    · rw [if_pos h19] at hg
      refine zcall_go (q := 31) (rest := []) C (m_X19_does _ _ _ hg) (by omega) pnX19 cdX19_does dX14_go_28 (Nat.le_of_ble_eq_true rfl) (zinv_U (As := [.ref a1]) C zk19 vd19 h19 dX14_go_28 rfl) rfl ?_
      clear hg
      generalize σ1 = σ at hf ⊢
      exact z_return C rfl dX14_go_31 (Option.some.inj hf)
    rw [if_neg h19] at hg
    cases hg
  · refine z_aload_n (q := 11) (i := 1) C 1 dX14_go_10 rfl rfl rfl ?_
    refine z_iconst (q := 12) C (1 : Int32) dX14_go_11 ki_1 rfl ?_
    refine z_putZ (q := 15) C puX14_15 dX14_go_12 hf rfl fun σ hf => ?_
    exact z_return C rfl dX14_go_15 (Option.some.inj hf)
noncomputable def goN : Nat → Nat → Nat → ZT → Option ZT
  | 0 => fun _ _ _ => none
  | n + 1 => f_X14_go (goN n)
theorem goN_m {l : Launch} {G : ZG} (n : Nat) : ∀ (a r : Nat) (σ : ZT) (o : ZT), goN n a r σ = some o → ZM l G yX14_go cX14_go 2 none [] (12 * n) [.ref a, .ref r] σ (.returned none) o := by
  induction n with
  | zero => intro a r σ o h; cases h
  | succ n ih => intro a r σ o h; exact m_X14_go (goN n) ih a r σ h

noncomputable def f_X7_init (a0 : Nat) (σ : ZT) : Option ZT :=
  bnd2 (nwA 0 (120 : Int32) σ) fun v1 σ =>
  (pR 7 700 a0 (some v1) σ).bind fun σ =>
  bnd2 (nwA 0 (120 : Int32) σ) fun v2 σ =>
  (pR 7 701 a0 (some v2) σ).bind fun σ =>
  bnd2 (nwA 0 (120 : Int32) σ) fun v3 σ =>
  (pR 7 702 a0 (some v3) σ).bind fun σ =>
  bnd2 (nwA 0 (120 : Int32) σ) fun v4 σ =>
  (pR 7 703 a0 (some v4) σ).bind fun σ =>
  some σ
set_option maxHeartbeats 4000000 in
theorem m_X7_init {l : Launch} {G : ZG} (a0 : Nat) (σ : ZT) {out : ZT} (hf : f_X7_init a0 σ = some out) : ZM l G yX7_init cX7_init 1 none [] 2 [.ref a0] σ (.returned none) out := by
  refine ZM.of [(0, .ref a0)] rfl (Nat.le_of_ble_eq_true rfl) fun X (C : ZC G RX7 "<init>" cX7_init 1 none [] X 2) => ?_
  unfold f_X7_init at hf
  refine z_aload_n (q := 1) (i := 0) C 0 dX7_init_0 rfl rfl rfl ?_
  refine z_objInit (q := 4) C q409 dX7_init_1 rfl (by decide) (Nat.le_of_ble_eq_true rfl) ?_
  refine z_aload_n (q := 5) (i := 0) C 0 dX7_init_4 rfl rfl rfl ?_
  refine z_bipush (q := 7) C (120 : Int32) dX7_init_5 kb_120 rfl ?_
  refine z_newarr (q := 9) C 0 (by decide) rfl q367 dX7_init_7 hf rfl fun v1 σ hf => ?_
  refine z_putR (q := 12) C puX7_11 rfl dX7_init_9 hf rfl fun σ hf => ?_
  refine z_aload_n (q := 13) (i := 0) C 0 dX7_init_12 rfl rfl rfl ?_
  refine z_bipush (q := 15) C (120 : Int32) dX7_init_13 kb_120 rfl ?_
  refine z_newarr (q := 17) C 0 (by decide) rfl q367 dX7_init_15 hf rfl fun v2 σ hf => ?_
  refine z_putR (q := 20) C puX7_15 rfl dX7_init_17 hf rfl fun σ hf => ?_
  refine z_aload_n (q := 21) (i := 0) C 0 dX7_init_20 rfl rfl rfl ?_
  refine z_bipush (q := 23) C (120 : Int32) dX7_init_21 kb_120 rfl ?_
  refine z_newarr (q := 25) C 0 (by decide) rfl q367 dX7_init_23 hf rfl fun v3 σ hf => ?_
  refine z_putR (q := 28) C puX7_18 rfl dX7_init_25 hf rfl fun σ hf => ?_
  refine z_aload_n (q := 29) (i := 0) C 0 dX7_init_28 rfl rfl rfl ?_
  refine z_bipush (q := 31) C (120 : Int32) dX7_init_29 kb_120 rfl ?_
  refine z_newarr (q := 33) C 0 (by decide) rfl q367 dX7_init_31 hf rfl fun v4 σ hf => ?_
  refine z_putR (q := 36) C puX7_21 rfl dX7_init_33 hf rfl fun σ hf => ?_
  exact z_return C rfl dX7_init_36 (Option.some.inj hf)

noncomputable def f_X8_init (a0 : Nat) (σ : ZT) : Option ZT :=
  bnd2 (nwO 5 6 σ) fun v1 σ =>
  (f_X5_init v1 σ).bind fun σ =>
  (pR 8 800 a0 (some v1) σ).bind fun σ =>
  some σ
set_option maxHeartbeats 4000000 in
theorem m_X8_init {l : Launch} {G : ZG} (a0 : Nat) (σ : ZT) {out : ZT} (hf : f_X8_init a0 σ = some out) : ZM l G yX8_init cX8_init 1 none [] 4 [.ref a0] σ (.returned none) out := by
  refine ZM.of [(0, .ref a0)] rfl (Nat.le_of_ble_eq_true rfl) fun X (C : ZC G RX8 "<init>" cX8_init 1 none [] X 4) => ?_
  unfold f_X8_init at hf
  refine z_aload_n (q := 1) (i := 0) C 0 dX8_init_0 rfl rfl rfl ?_
  refine z_objInit (q := 4) C q439 dX8_init_1 rfl (by decide) (Nat.le_of_ble_eq_true rfl) ?_
  refine z_aload_n (q := 5) (i := 0) C 0 dX8_init_4 rfl rfl rfl ?_
  refine z_new (q := 8) C zk5 zty5 q440 q293 q151 dX8_init_5 hf rfl fun v1 σ hf => ?_
  refine z_dup (q := 9) C dX8_init_8 rfl rfl ?_
  refine z_callIv (q := 12) (As := []) C (fun o ho => m_X5_init _ _ ho) viX8_11 pnX5 dX8_init_9 rfl (by decide) (Nat.le_of_ble_eq_true rfl) hf rfl fun σ hf => ?_
  refine z_putR (q := 15) C puX8_12 rfl dX8_init_12 hf rfl fun σ hf => ?_
  exact z_return C rfl dX8_init_15 (Option.some.inj hf)

