set_option maxRecDepth 100000
noncomputable def f_X0_status (a0 : Nat) (σ : ZT) : Option (Int32 × ZT) :=
  (gI 0 7 a0 σ).bind fun v1 =>
  some (v1, σ)
set_option maxHeartbeats 4000000 in
theorem m_X0_status {l : Launch} {G : ZG} (a0 : Nat) (σ : ZT) {out : (Int32 × ZT)} (hf : f_X0_status a0 σ = some out) : ZM l G yX0_status cX0_status 1 (some .int) [] 1 [.ref a0] σ (.returned (some (.int out.1))) out.2 := by
  refine ZM.of [(0, .ref a0)] rfl (Nat.le_of_ble_eq_true rfl) fun X (C : ZC G RX0 "status" cX0_status 1 (some .int) [] X 1) => ?_
  unfold f_X0_status at hf
  refine z_aload_n (q := 1) (i := 0) C 0 dX0_status_0 rfl rfl rfl ?_
  refine z_getI (q := 4) C flX0_110 dX0_status_1 hf rfl fun v1 hf => ?_
  exact z_ireturn C rfl dX0_status_4 (Option.some.inj hf)

noncomputable def f_X0_top (a0 : Nat) (σ : ZT) : Option (Int64 × ZT) :=
  (gL 0 8 a0 σ).bind fun v1 =>
  some (v1, σ)
set_option maxHeartbeats 4000000 in
theorem m_X0_top {l : Launch} {G : ZG} (a0 : Nat) (σ : ZT) {out : (Int64 × ZT)} (hf : f_X0_top a0 σ = some out) : ZM l G yX0_top cX0_top 1 (some .long) [] 1 [.ref a0] σ (.returned (some (.long out.1))) out.2 := by
  refine ZM.of [(0, .ref a0)] rfl (Nat.le_of_ble_eq_true rfl) fun X (C : ZC G RX0 "top" cX0_top 1 (some .long) [] X 1) => ?_
  unfold f_X0_top at hf
  refine z_aload_n (q := 1) (i := 0) C 0 dX0_top_0 rfl rfl rfl ?_
  refine z_getL (q := 4) C flX0_113 dX0_top_1 hf rfl fun v1 hf => ?_
  exact z_lreturn C rfl dX0_top_4 (Option.some.inj hf)

noncomputable def f_X0_bottom (a0 : Nat) (σ : ZT) : Option (Int64 × ZT) :=
  (gL 0 9 a0 σ).bind fun v1 =>
  some (v1, σ)
set_option maxHeartbeats 4000000 in
theorem m_X0_bottom {l : Launch} {G : ZG} (a0 : Nat) (σ : ZT) {out : (Int64 × ZT)} (hf : f_X0_bottom a0 σ = some out) : ZM l G yX0_bottom cX0_bottom 1 (some .long) [] 1 [.ref a0] σ (.returned (some (.long out.1))) out.2 := by
  refine ZM.of [(0, .ref a0)] rfl (Nat.le_of_ble_eq_true rfl) fun X (C : ZC G RX0 "bottom" cX0_bottom 1 (some .long) [] X 1) => ?_
  unfold f_X0_bottom at hf
  refine z_aload_n (q := 1) (i := 0) C 0 dX0_bottom_0 rfl rfl rfl ?_
  refine z_getL (q := 4) C flX0_48 dX0_bottom_1 hf rfl fun v1 hf => ?_
  exact z_lreturn C rfl dX0_bottom_4 (Option.some.inj hf)

noncomputable def f_X0_want (a0 : Nat) (i1 : Int32) (i2 : Int32) (σ : ZT) : Option ((Nat × ZT) ⊕ ZT) :=
  if i1 = 0 then
  ((gR 0 6 a0 σ).bind fun v1 =>
  bnd2 (vc 3 v1 σ (f_X3_by v1 i2 σ)) fun v2 σ =>
  some (.inl (v2, σ)))
  else
  (some (.inr σ))
set_option maxHeartbeats 4000000 in
theorem m_X0_want {l : Launch} {G : ZG} (a0 : Nat) (i1 : Int32) (i2 : Int32) (σ : ZT) {out : ((Nat × ZT) ⊕ ZT)} (hf : f_X0_want a0 i1 i2 σ = some out) : ZM l G yX0_want cX0_want 3 none [] 2 [.ref a0, .int i1, .int i2] σ (zov out) (zsv out) := by
  refine ZM.of [(0, .ref a0), (1, .int i1), (2, .int i2)] rfl (Nat.le_of_ble_eq_true rfl) fun X (C : ZC G RX0 "want" cX0_want 3 none [] X 2) => ?_
  unfold f_X0_want at hf
  refine z_iload_n (q := 1) (i := 1) C 1 dX0_want_0 rfl rfl rfl ?_
  refine z_ifne (q := 4) (tgt := 13) C dX0_want_1 (by decide) rfl hf (fun c1 hf => ?_) (fun c1 hf => ?_)
  · cases hf
    exact z_return C rfl dX0_want_13 rfl
  · refine z_aload_n (q := 5) (i := 0) C 0 dX0_want_4 rfl rfl rfl ?_
    refine z_getR (q := 8) C flX0_44 dX0_want_5 hf rfl fun v1 hf => ?_
    refine z_iload_n (q := 9) (i := 2) C 2 dX0_want_8 rfl rfl rfl ?_
    refine z_callVr (q := 12) (As := [.int i2]) C (fun o ho => m_X3_by _ _ _ ho) zk3 vvX0_116 cdX3_by pnX3 dX0_want_9 rfl (by decide) (Nat.le_of_ble_eq_true rfl) hf rfl fun v2 σ hf => ?_
    cases hf
    exact z_athrow C dX0_want_12 (by decide) rfl

noncomputable def f_X0_no (a0 : Nat) (a1 : Nat) (σ : ZT) : Option (Int32 × ZT) :=
  (gI 3 306 a1 σ).bind fun v1 =>
  (pI 0 7 a0 v1 σ).bind fun σ =>
  some ((0 : Int32), σ)
set_option maxHeartbeats 4000000 in
theorem m_X0_no {l : Launch} {G : ZG} (a0 : Nat) (a1 : Nat) (σ : ZT) {out : (Int32 × ZT)} (hf : f_X0_no a0 a1 σ = some out) : ZM l G yX0_no cX0_no 2 (some .boolean) [] 1 [.ref a0, .ref a1] σ (.returned (some (.int out.1))) out.2 := by
  refine ZM.of [(0, .ref a0), (1, .ref a1)] rfl (Nat.le_of_ble_eq_true rfl) fun X (C : ZC G RX0 "no" cX0_no 2 (some .boolean) [] X 1) => ?_
  unfold f_X0_no at hf
  refine z_aload_n (q := 1) (i := 0) C 0 dX0_no_0 rfl rfl rfl ?_
  refine z_aload_n (q := 2) (i := 1) C 1 dX0_no_1 rfl rfl rfl ?_
  refine z_getI (q := 5) C flX0_120 dX0_no_2 hf rfl fun v1 hf => ?_
  refine z_putI (q := 8) C puX0_110 dX0_no_5 hf rfl fun σ hf => ?_
  refine z_iconst (q := 9) C (0 : Int32) dX0_no_8 ki_0 rfl ?_
  exact z_zreturn C rfl z_nb0 dX0_no_9 (Option.some.inj hf)

noncomputable def f_X0_on_J37 (a0_37 : Nat) (i1_37 : Int32) (w0_37 : Int32) (w1_37 : Nat) (σ : ZT) : Option ((Nat × ZT) ⊕ (Nat × ZT)) :=
  bndXv (vc 0 w1_37 σ (f_X0_want w1_37 w0_37 (2 : Int32) σ)) (fun xx σ => some (.inl (xx, σ))) fun σ =>
  (gR 0 0 a0_37 σ).bind fun v6 =>
  (ldR 5 v6 i1_37 σ).bind fun v7 =>
  (gR 1 100 v7 σ).bind fun v8 =>
  some (.inr (v8, σ))
noncomputable def f_X0_on_J15 (a0_15 : Nat) (i1_15 : Int32) (w0_15 : Int32) (w1_15 : Nat) (σ : ZT) : Option ((Nat × ZT) ⊕ (Nat × ZT)) :=
  bndXv (vc 0 w1_15 σ (f_X0_want w1_15 w0_15 (1 : Int32) σ)) (fun xx σ => some (.inl (xx, σ))) fun σ =>
  (gR 0 0 a0_15 σ).bind fun v2 =>
  (ldR 5 v2 i1_15 σ).bind fun v3 =>
  (gQ 1 100 v3 σ).bind fun v4 =>
  znl v4
  (f_X0_on_J37 a0_15 i1_15 (0 : Int32) a0_15 σ)
  (f_X0_on_J37 a0_15 i1_15 (1 : Int32) a0_15 σ)
noncomputable def f_X0_on_J14 (a0_14 : Nat) (i1_14 : Int32) (w0_14 : Nat) (σ : ZT) : Option ((Nat × ZT) ⊕ (Nat × ZT)) :=
  f_X0_on_J15 a0_14 i1_14 (0 : Int32) w0_14 σ
noncomputable def f_X0_on (a0 : Nat) (i1 : Int32) (σ : ZT) : Option ((Nat × ZT) ⊕ (Nat × ZT)) :=
  if i1 < 0 then
  (f_X0_on_J14 a0 i1 a0 σ)
  else
  (if i1 < (4 : Int32) then
  (f_X0_on_J15 a0 i1 (1 : Int32) a0 σ)
  else
  (f_X0_on_J14 a0 i1 a0 σ))
set_option maxHeartbeats 4000000 in
theorem m_X0_on {l : Launch} {G : ZG} (a0 : Nat) (i1 : Int32) (σ : ZT) {out : ((Nat × ZT) ⊕ (Nat × ZT))} (hf : f_X0_on a0 i1 σ = some out) : ZM l G yX0_on cX0_on 2 (some (.object "java/lang/Object")) [] 3 [.ref a0, .int i1] σ (zor out) (zsr out) := by
  refine ZM.of [(0, .ref a0), (1, .int i1)] rfl (Nat.le_of_ble_eq_true rfl) fun X (C : ZC G RX0 "on" cX0_on 2 (some (.object "java/lang/Object")) [] X 3) => ?_
  unfold f_X0_on at hf
  have j37_0 : ∀ (a0_37 : Nat) (i1_37 : Int32) (w0_37 : Int32) (w1_37 : Nat) (σ : ZT), f_X0_on_J37 a0_37 i1_37 w0_37 w1_37 σ = some out → ZW l G 2 X (ZQ G X (zor out) (zsr out)) σ 37 [(0, .ref a0_37), (1, .int i1_37)] [.int w0_37, .ref w1_37] := by
    intro a0_37 i1_37 w0_37 w1_37 σ hf
    unfold f_X0_on_J37 at hf
    refine z_iconst (q := 38) C (2 : Int32) dX0_on_37 ki_2 rfl ?_
    refine z_callXVv (q := 41) (As := [.int w0_37, .int (2 : Int32)]) C (fun o ho => m_X0_want _ _ _ _ ho) zk0 vvX0_135 cdX0_want pnX0 dX0_on_38 rfl (by decide) (Nat.le_of_ble_eq_true rfl) hf rfl (fun xx σ hf T locs ls hP hL h1 h2 hl X0 => ?_) fun σ hf => ?_
    · cases hf
      exact zthrown_out C (by decide) hP hL h1 h2 X0
    refine z_aload_n (q := 42) (i := 0) C 0 dX0_on_41 rfl rfl rfl ?_
    refine z_getR (q := 45) C flX0_20 dX0_on_42 hf rfl fun v6 hf => ?_
    refine z_iload_n (q := 46) (i := 1) C 1 dX0_on_45 rfl rfl rfl ?_
    refine z_aaldR (q := 47) C 5 (by decide) (by decide) dX0_on_46 hf rfl fun v7 hf => ?_
    refine z_getR (q := 50) C flX0_139 dX0_on_47 hf rfl fun v8 hf => ?_
    cases hf
    exact z_areturn C rfl dX0_on_50 rfl
  have j15_0 : ∀ (a0_15 : Nat) (i1_15 : Int32) (w0_15 : Int32) (w1_15 : Nat) (σ : ZT), f_X0_on_J15 a0_15 i1_15 w0_15 w1_15 σ = some out → ZW l G 2 X (ZQ G X (zor out) (zsr out)) σ 15 [(0, .ref a0_15), (1, .int i1_15)] [.int w0_15, .ref w1_15] := by
    intro a0_15 i1_15 w0_15 w1_15 σ hf
    unfold f_X0_on_J15 at hf
    refine z_iconst (q := 16) C (1 : Int32) dX0_on_15 ki_1 rfl ?_
    refine z_callXVv (q := 19) (As := [.int w0_15, .int (1 : Int32)]) C (fun o ho => m_X0_want _ _ _ _ ho) zk0 vvX0_135 cdX0_want pnX0 dX0_on_16 rfl (by decide) (Nat.le_of_ble_eq_true rfl) hf rfl (fun xx σ hf T locs ls hP hL h1 h2 hl X0 => ?_) fun σ hf => ?_
    · cases hf
      exact zthrown_out C (by decide) hP hL h1 h2 X0
    refine z_aload_n (q := 20) (i := 0) C 0 dX0_on_19 rfl rfl rfl ?_
    refine z_aload_n (q := 21) (i := 0) C 0 dX0_on_20 rfl rfl rfl ?_
    refine z_getR (q := 24) C flX0_20 dX0_on_21 hf rfl fun v2 hf => ?_
    refine z_iload_n (q := 25) (i := 1) C 1 dX0_on_24 rfl rfl rfl ?_
    refine z_aaldR (q := 26) C 5 (by decide) (by decide) dX0_on_25 hf rfl fun v3 hf => ?_
    refine z_getQ (q := 29) C flX0_139 dX0_on_26 hf rfl fun v4 hf => ?_
    refine z_ifnull (q := 32) (tgt := 36) C dX0_on_29 (by decide) rfl hf (fun c29 hf => ?_) (fun y29 c29 hf => ?_)
    · refine z_iconst (q := 37) C (0 : Int32) dX0_on_36 ki_0 rfl ?_
      exact j37_0 a0_15 i1_15 (0 : Int32) a0_15 σ hf
    · refine z_iconst (q := 33) C (1 : Int32) dX0_on_32 ki_1 rfl ?_
      refine z_goto (q := 37) C dX0_on_33 (by decide) ?_
      exact j37_0 a0_15 i1_15 (1 : Int32) a0_15 σ hf
  have j14_0 : ∀ (a0_14 : Nat) (i1_14 : Int32) (w0_14 : Nat) (σ : ZT), f_X0_on_J14 a0_14 i1_14 w0_14 σ = some out → ZW l G 2 X (ZQ G X (zor out) (zsr out)) σ 14 [(0, .ref a0_14), (1, .int i1_14)] [.ref w0_14] := by
    intro a0_14 i1_14 w0_14 σ hf
    unfold f_X0_on_J14 at hf
    refine z_iconst (q := 15) C (0 : Int32) dX0_on_14 ki_0 rfl ?_
    exact j15_0 a0_14 i1_14 (0 : Int32) w0_14 σ hf
  refine z_aload_n (q := 1) (i := 0) C 0 dX0_on_0 rfl rfl rfl ?_
  refine z_iload_n (q := 2) (i := 1) C 1 dX0_on_1 rfl rfl rfl ?_
  refine z_iflt (q := 5) (tgt := 14) C dX0_on_2 (by decide) rfl hf (fun c2 hf => ?_) (fun c2 hf => ?_)
  · exact j14_0 a0 i1 a0 σ hf
  · refine z_iload_n (q := 6) (i := 1) C 1 dX0_on_5 rfl rfl rfl ?_
    refine z_iconst (q := 7) C (4 : Int32) dX0_on_6 ki_4 rfl ?_
    refine z_icmpge (q := 10) (tgt := 14) C dX0_on_7 (by decide) rfl hf (fun c7 hf => ?_) (fun c7 hf => ?_)
    · exact j14_0 a0 i1 a0 σ hf
    · refine z_iconst (q := 11) C (1 : Int32) dX0_on_10 ki_1 rfl ?_
      refine z_goto (q := 15) C dX0_on_11 (by decide) ?_
      exact j15_0 a0 i1 (1 : Int32) a0 σ hf

noncomputable def f_X0_none (a0 : Nat) (a1 : Nat) (σ : ZT) : Option (Int32 × ZT) :=
  (gI 3 306 a1 σ).bind fun v1 =>
  (pI 0 7 a0 v1 σ).bind fun σ =>
  some ((-1 : Int32), σ)
set_option maxHeartbeats 4000000 in
theorem m_X0_none {l : Launch} {G : ZG} (a0 : Nat) (a1 : Nat) (σ : ZT) {out : (Int32 × ZT)} (hf : f_X0_none a0 a1 σ = some out) : ZM l G yX0_none cX0_none 2 (some .int) [] 1 [.ref a0, .ref a1] σ (.returned (some (.int out.1))) out.2 := by
  refine ZM.of [(0, .ref a0), (1, .ref a1)] rfl (Nat.le_of_ble_eq_true rfl) fun X (C : ZC G RX0 "none" cX0_none 2 (some .int) [] X 1) => ?_
  unfold f_X0_none at hf
  refine z_aload_n (q := 1) (i := 0) C 0 dX0_none_0 rfl rfl rfl ?_
  refine z_aload_n (q := 2) (i := 1) C 1 dX0_none_1 rfl rfl rfl ?_
  refine z_getI (q := 5) C flX0_120 dX0_none_2 hf rfl fun v1 hf => ?_
  refine z_putI (q := 8) C puX0_110 dX0_none_5 hf rfl fun σ hf => ?_
  refine z_iconst (q := 9) C (-1 : Int32) dX0_none_8 ki_m1 rfl ?_
  exact z_ireturn C rfl dX0_none_9 (Option.some.inj hf)

noncomputable def f_X0_lay_L3 (c0_3 : Nat) (c1_3 : Int32) (i_1 : Int32) (σ : ZT) : Option ((Int32 × ZT) ⊕ ZT) :=
  if i_1 < 0 then
  (some (.inr σ))
  else
  ((gR 0 1 c0_3 σ).bind fun v2 =>
  (gI 0 2 c0_3 σ).bind fun v3 =>
  (stB v2 v3 ((c1_3 >>> (i_1 &&& 31)).toInt8.toInt32) σ).bind fun σ =>
  (gI 0 2 c0_3 σ).bind fun v4 =>
  (pI 0 2 c0_3 (v4 + (1 : Int32)) σ).bind fun σ =>
  some (.inl ((i_1 + (-8 : Int32)), σ)))
noncomputable def f_X0_lay (a0 : Nat) (i1 : Int32) (σ : ZT) : Option ZT :=
  (loopC (fun s : (Int32 × ZT) => f_X0_lay_L3 a0 i1 s.1 s.2) ((24 : Int32), σ)).bind fun σ =>
  some σ
set_option maxHeartbeats 4000000 in
theorem m_X0_lay {l : Launch} {G : ZG} (a0 : Nat) (i1 : Int32) (σ : ZT) {out : ZT} (hf : f_X0_lay a0 i1 σ = some out) : ZM l G yX0_lay cX0_lay 3 none [] 1 [.ref a0, .int i1] σ (.returned none) out := by
  refine ZM.of [(0, .ref a0), (1, .int i1)] rfl (Nat.le_of_ble_eq_true rfl) fun X (C : ZC G RX0 "lay" cX0_lay 3 none [] X 1) => ?_
  unfold f_X0_lay at hf
  refine z_bipush (q := 2) C (24 : Int32) dX0_lay_0 kb_24 rfl ?_
  refine z_istore_n (q := 3) (i := 2) (lv' := [(2, .int (24 : Int32)), (0, .ref a0), (1, .int i1)]) C dX0_lay_2 rfl (by decide) rfl rfl ?_
  refine z_lv [1, 2, 0] rfl ?_
  obtain ⟨r1, hr1, hk1⟩ := Option.bind_eq_some_iff.mp hf
  refine loopC_ind (P := fun s => ZW l G 3 X (ZQ G X (.returned none) out) s.2 3 [(0, .ref a0), (1, .int i1), (2, .int s.1)] []) (fun s x1 hf hx1 => ?_) hr1
  obtain ⟨i_1, σ⟩ := s
  unfold f_X0_lay_L3 at hf
  try dsimp only at hf
  try dsimp only
  refine z_iload_n (q := 4) (i := 2) C 2 dX0_lay_3 rfl rfl rfl ?_
  refine z_iflt (q := 7) (tgt := 36) C dX0_lay_4 (by decide) rfl hf (fun c4 hf => ?_) (fun c4 hf => ?_)
  · have e1 := zl_x hf hx1
    have hf := hk1
    rw [← e1] at hf
    try dsimp only at hf
    exact z_return C rfl dX0_lay_36 (Option.some.inj hf)
  · refine z_aload_n (q := 8) (i := 0) C 0 dX0_lay_7 rfl rfl rfl ?_
    refine z_getR (q := 11) C flX0_24 dX0_lay_8 hf rfl fun v2 hf => ?_
    refine z_aload_n (q := 12) (i := 0) C 0 dX0_lay_11 rfl rfl rfl ?_
    refine z_getI (q := 15) C flX0_209 dX0_lay_12 hf rfl fun v3 hf => ?_
    refine z_iload_n (q := 16) (i := 1) C 1 dX0_lay_15 rfl rfl rfl ?_
    refine z_iload_n (q := 17) (i := 2) C 2 dX0_lay_16 rfl rfl rfl ?_
    refine z_ishr (q := 18) C dX0_lay_17 rfl ?_
    refine z_i2b (q := 19) C dX0_lay_18 rfl ?_
    refine z_bast (q := 20) C dX0_lay_19 hf rfl fun σ hf => ?_
    refine z_aload_n (q := 21) (i := 0) C 0 dX0_lay_20 rfl rfl rfl ?_
    refine z_dup (q := 22) C dX0_lay_21 rfl rfl ?_
    refine z_getI (q := 25) C flX0_209 dX0_lay_22 hf rfl fun v4 hf => ?_
    refine z_iconst (q := 26) C (1 : Int32) dX0_lay_25 ki_1 rfl ?_
    refine z_iadd (q := 27) C dX0_lay_26 rfl ?_
    refine z_putI (q := 30) C puX0_209 dX0_lay_27 hf rfl fun σ hf => ?_
    refine z_iinc (q := 33) (i := 2) (lv' := [(2, .int (i_1 + (-8 : Int32))), (0, .ref a0), (1, .int i1)]) C 2 (i_1 + (-8 : Int32)) dX0_lay_30 rfl (kn_m8 _) (by decide) rfl rfl ?_
    refine z_goto (q := 3) C dX0_lay_33 (by decide) ?_
    refine z_lv [1, 2, 0] rfl ?_
    have hc1 := zl_c hf hx1
    exact hc1

noncomputable def f_X0_feed (a0 : Nat) (i1 : Int32) (i2 : Int32) (i3 : Int32) (i4 : Int32) (i5 : Int32) (σ : ZT) : Option (Int32 × ZT) :=
  (gI 0 2 a0 σ).bind fun v1 =>
  if (900 : Int32) < (v1 + (20 : Int32)) then
  (some ((-1 : Int32), σ))
  else
  ((vc 0 a0 σ (f_X0_lay a0 i1 σ)).bind fun σ =>
  (vc 0 a0 σ (f_X0_lay a0 i2 σ)).bind fun σ =>
  (vc 0 a0 σ (f_X0_lay a0 i3 σ)).bind fun σ =>
  (vc 0 a0 σ (f_X0_lay a0 i4 σ)).bind fun σ =>
  (vc 0 a0 σ (f_X0_lay a0 i5 σ)).bind fun σ =>
  (gI 0 2 a0 σ).bind fun v7 =>
  some (v7, σ))
set_option maxHeartbeats 4000000 in
theorem m_X0_feed {l : Launch} {G : ZG} (a0 : Nat) (i1 : Int32) (i2 : Int32) (i3 : Int32) (i4 : Int32) (i5 : Int32) (σ : ZT) {out : (Int32 × ZT)} (hf : f_X0_feed a0 i1 i2 i3 i4 i5 σ = some out) : ZM l G yX0_feed cX0_feed 6 (some .int) [] 2 [.ref a0, .int i1, .int i2, .int i3, .int i4, .int i5] σ (.returned (some (.int out.1))) out.2 := by
  refine ZM.of [(0, .ref a0), (1, .int i1), (2, .int i2), (3, .int i3), (4, .int i4), (5, .int i5)] rfl (Nat.le_of_ble_eq_true rfl) fun X (C : ZC G RX0 "feed" cX0_feed 6 (some .int) [] X 2) => ?_
  unfold f_X0_feed at hf
  refine z_aload_n (q := 1) (i := 0) C 0 dX0_feed_0 rfl rfl rfl ?_
  refine z_getI (q := 4) C flX0_209 dX0_feed_1 hf rfl fun v1 hf => ?_
  refine z_bipush (q := 6) C (20 : Int32) dX0_feed_4 kb_20 rfl ?_
  refine z_iadd (q := 7) C dX0_feed_6 rfl ?_
  refine z_sipush (q := 10) C (900 : Int32) dX0_feed_7 ks_900 rfl ?_
  refine z_icmple (q := 13) (tgt := 15) C dX0_feed_10 (by decide) rfl hf (fun c10 hf => ?_) (fun c10 hf => ?_)
  · refine z_aload_n (q := 16) (i := 0) C 0 dX0_feed_15 rfl rfl rfl ?_
    refine z_iload_n (q := 17) (i := 1) C 1 dX0_feed_16 rfl rfl rfl ?_
    refine z_callVv (q := 20) (As := [.int i1]) C (fun o ho => m_X0_lay _ _ _ ho) zk0 vvX0_212 cdX0_lay pnX0 dX0_feed_17 rfl (by decide) (Nat.le_of_ble_eq_true rfl) hf rfl fun σ hf => ?_
    refine z_aload_n (q := 21) (i := 0) C 0 dX0_feed_20 rfl rfl rfl ?_
    refine z_iload_n (q := 22) (i := 2) C 2 dX0_feed_21 rfl rfl rfl ?_
    refine z_callVv (q := 25) (As := [.int i2]) C (fun o ho => m_X0_lay _ _ _ ho) zk0 vvX0_212 cdX0_lay pnX0 dX0_feed_22 rfl (by decide) (Nat.le_of_ble_eq_true rfl) hf rfl fun σ hf => ?_
    refine z_aload_n (q := 26) (i := 0) C 0 dX0_feed_25 rfl rfl rfl ?_
    refine z_iload_n (q := 27) (i := 3) C 3 dX0_feed_26 rfl rfl rfl ?_
    refine z_callVv (q := 30) (As := [.int i3]) C (fun o ho => m_X0_lay _ _ _ ho) zk0 vvX0_212 cdX0_lay pnX0 dX0_feed_27 rfl (by decide) (Nat.le_of_ble_eq_true rfl) hf rfl fun σ hf => ?_
    refine z_aload_n (q := 31) (i := 0) C 0 dX0_feed_30 rfl rfl rfl ?_
    refine z_iload (q := 33) (i := 4) C 4 dX0_feed_31 rfl rfl ?_
    refine z_callVv (q := 36) (As := [.int i4]) C (fun o ho => m_X0_lay _ _ _ ho) zk0 vvX0_212 cdX0_lay pnX0 dX0_feed_33 rfl (by decide) (Nat.le_of_ble_eq_true rfl) hf rfl fun σ hf => ?_
    refine z_aload_n (q := 37) (i := 0) C 0 dX0_feed_36 rfl rfl rfl ?_
    refine z_iload (q := 39) (i := 5) C 5 dX0_feed_37 rfl rfl ?_
    refine z_callVv (q := 42) (As := [.int i5]) C (fun o ho => m_X0_lay _ _ _ ho) zk0 vvX0_212 cdX0_lay pnX0 dX0_feed_39 rfl (by decide) (Nat.le_of_ble_eq_true rfl) hf rfl fun σ hf => ?_
    refine z_aload_n (q := 43) (i := 0) C 0 dX0_feed_42 rfl rfl rfl ?_
    refine z_getI (q := 46) C flX0_209 dX0_feed_43 hf rfl fun v7 hf => ?_
    exact z_ireturn C rfl dX0_feed_46 (Option.some.inj hf)
  · refine z_iconst (q := 14) C (-1 : Int32) dX0_feed_13 ki_m1 rfl ?_
    exact z_ireturn C rfl dX0_feed_14 (Option.some.inj hf)

noncomputable def f_X0_opens_J23 (a0_23 : Nat) (w0_23 : Int32) (w1_23 : Nat) (σ : ZT) : Option (Int32 × ZT) :=
  (pI 0 7 w1_23 w0_23 σ).bind fun σ =>
  (gI 0 7 a0_23 σ).bind fun v2 =>
  if 0 < v2 then
  (some ((0 : Int32), σ))
  else
  ((pI 0 2 a0_23 (0 : Int32) σ).bind fun σ =>
  (pI 0 3 a0_23 (0 : Int32) σ).bind fun σ =>
  (pI 0 4 a0_23 (-1 : Int32) σ).bind fun σ =>
  some ((1 : Int32), σ))
noncomputable def f_X0_opens_J18 (a0_18 : Nat) (w0_18 : Nat) (σ : ZT) : Option (Int32 × ZT) :=
  f_X0_opens_J23 a0_18 (1 : Int32) w0_18 σ
noncomputable def f_X0_opens (a0 : Nat) (i1 : Int32) (i2 : Int32) (σ : ZT) : Option (Int32 × ZT) :=
  if i1 < 0 then
  (f_X0_opens_J18 a0 a0 σ)
  else
  ((gI 0 2 a0 σ).bind fun v1 =>
  if v1 < i1 then
  (f_X0_opens_J18 a0 a0 σ)
  else
  (if i2 < i1 then
  (f_X0_opens_J18 a0 a0 σ)
  else
  (f_X0_opens_J23 a0 (0 : Int32) a0 σ)))
set_option maxHeartbeats 4000000 in
theorem m_X0_opens {l : Launch} {G : ZG} (a0 : Nat) (i1 : Int32) (i2 : Int32) (σ : ZT) {out : (Int32 × ZT)} (hf : f_X0_opens a0 i1 i2 σ = some out) : ZM l G yX0_opens cX0_opens 3 (some .boolean) [] 1 [.ref a0, .int i1, .int i2] σ (.returned (some (.int out.1))) out.2 := by
  refine ZM.of [(0, .ref a0), (1, .int i1), (2, .int i2)] rfl (Nat.le_of_ble_eq_true rfl) fun X (C : ZC G RX0 "opens" cX0_opens 3 (some .boolean) [] X 1) => ?_
  unfold f_X0_opens at hf
  have j23_0 : ∀ (a0_23 : Nat) (w0_23 : Int32) (w1_23 : Nat) (σ : ZT), f_X0_opens_J23 a0_23 w0_23 w1_23 σ = some out → ZW l G 3 X (ZQ G X (.returned (some (.int out.1))) out.2) σ 23 [(0, .ref a0_23)] [.int w0_23, .ref w1_23] := by
    intro a0_23 w0_23 w1_23 σ hf
    unfold f_X0_opens_J23 at hf
    refine z_putI (q := 26) C puX0_110 dX0_opens_23 hf rfl fun σ hf => ?_
    refine z_aload_n (q := 27) (i := 0) C 0 dX0_opens_26 rfl rfl rfl ?_
    refine z_getI (q := 30) C flX0_110 dX0_opens_27 hf rfl fun v2 hf => ?_
    refine z_ifle (q := 33) (tgt := 35) C dX0_opens_30 (by decide) rfl hf (fun c30 hf => ?_) (fun c30 hf => ?_)
    · refine z_aload_n (q := 36) (i := 0) C 0 dX0_opens_35 rfl rfl rfl ?_
      refine z_iconst (q := 37) C (0 : Int32) dX0_opens_36 ki_0 rfl ?_
      refine z_putI (q := 40) C puX0_209 dX0_opens_37 hf rfl fun σ hf => ?_
      refine z_aload_n (q := 41) (i := 0) C 0 dX0_opens_40 rfl rfl rfl ?_
      refine z_iconst (q := 42) C (0 : Int32) dX0_opens_41 ki_0 rfl ?_
      refine z_putI (q := 45) C puX0_27 dX0_opens_42 hf rfl fun σ hf => ?_
      refine z_aload_n (q := 46) (i := 0) C 0 dX0_opens_45 rfl rfl rfl ?_
      refine z_iconst (q := 47) C (-1 : Int32) dX0_opens_46 ki_m1 rfl ?_
      refine z_putI (q := 50) C puX0_31 dX0_opens_47 hf rfl fun σ hf => ?_
      refine z_iconst (q := 51) C (1 : Int32) dX0_opens_50 ki_1 rfl ?_
      exact z_zreturn C rfl z_nb1 dX0_opens_51 (Option.some.inj hf)
    · refine z_iconst (q := 34) C (0 : Int32) dX0_opens_33 ki_0 rfl ?_
      exact z_zreturn C rfl z_nb0 dX0_opens_34 (Option.some.inj hf)
  have j18_0 : ∀ (a0_18 : Nat) (w0_18 : Nat) (σ : ZT), f_X0_opens_J18 a0_18 w0_18 σ = some out → ZW l G 3 X (ZQ G X (.returned (some (.int out.1))) out.2) σ 18 [(0, .ref a0_18)] [.ref w0_18] := by
    intro a0_18 w0_18 σ hf
    unfold f_X0_opens_J18 at hf
    refine z_iconst (q := 19) C (1 : Int32) dX0_opens_18 ki_1 rfl ?_
    refine z_goto (q := 23) C dX0_opens_19 (by decide) ?_
    exact j23_0 a0_18 (1 : Int32) w0_18 σ hf
  refine z_aload_n (q := 1) (i := 0) C 0 dX0_opens_0 rfl rfl rfl ?_
  refine z_iload_n (q := 2) (i := 1) C 1 dX0_opens_1 rfl rfl rfl ?_
  refine z_iflt (q := 5) (tgt := 18) C dX0_opens_2 (by decide) rfl hf (fun c2 hf => ?_) (fun c2 hf => ?_)
  · refine z_lv [0] rfl ?_
    exact j18_0 a0 a0 σ hf
  · refine z_iload_n (q := 6) (i := 1) C 1 dX0_opens_5 rfl rfl rfl ?_
    refine z_aload_n (q := 7) (i := 0) C 0 dX0_opens_6 rfl rfl rfl ?_
    refine z_getI (q := 10) C flX0_209 dX0_opens_7 hf rfl fun v1 hf => ?_
    refine z_icmpgt (q := 13) (tgt := 18) C dX0_opens_10 (by decide) rfl hf (fun c10 hf => ?_) (fun c10 hf => ?_)
    · refine z_lv [0] rfl ?_
      exact j18_0 a0 a0 σ hf
    · refine z_iload_n (q := 14) (i := 1) C 1 dX0_opens_13 rfl rfl rfl ?_
      refine z_iload_n (q := 15) (i := 2) C 2 dX0_opens_14 rfl rfl rfl ?_
      refine z_icmple (q := 18) (tgt := 22) C dX0_opens_15 (by decide) rfl hf (fun c15 hf => ?_) (fun c15 hf => ?_)
      · refine z_iconst (q := 23) C (0 : Int32) dX0_opens_22 ki_0 rfl ?_
        refine z_lv [0] rfl ?_
        exact j23_0 a0 (0 : Int32) a0 σ hf
      · refine z_lv [0] rfl ?_
        exact j18_0 a0 a0 σ hf

noncomputable def f_X0_faulty (a0 : Nat) (a1 : Nat) (σ : ZT) : Option (Int32 × ZT) :=
  (gI 2 206 a1 σ).bind fun v1 =>
  (pI 0 3 a0 v1 σ).bind fun σ =>
  (gI 2 207 a1 σ).bind fun v2 =>
  (pI 0 4 a0 v2 σ).bind fun σ =>
  (pI 0 7 a0 (9 : Int32) σ).bind fun σ =>
  some ((-1 : Int32), σ)
set_option maxHeartbeats 4000000 in
theorem m_X0_faulty {l : Launch} {G : ZG} (a0 : Nat) (a1 : Nat) (σ : ZT) {out : (Int32 × ZT)} (hf : f_X0_faulty a0 a1 σ = some out) : ZM l G yX0_faulty cX0_faulty 2 (some .int) [] 1 [.ref a0, .ref a1] σ (.returned (some (.int out.1))) out.2 := by
  refine ZM.of [(0, .ref a0), (1, .ref a1)] rfl (Nat.le_of_ble_eq_true rfl) fun X (C : ZC G RX0 "faulty" cX0_faulty 2 (some .int) [] X 1) => ?_
  unfold f_X0_faulty at hf
  refine z_aload_n (q := 1) (i := 0) C 0 dX0_faulty_0 rfl rfl rfl ?_
  refine z_aload_n (q := 2) (i := 1) C 1 dX0_faulty_1 rfl rfl rfl ?_
  refine z_getI (q := 5) C flX0_216 dX0_faulty_2 hf rfl fun v1 hf => ?_
  refine z_putI (q := 8) C puX0_27 dX0_faulty_5 hf rfl fun σ hf => ?_
  refine z_aload_n (q := 9) (i := 0) C 0 dX0_faulty_8 rfl rfl rfl ?_
  refine z_aload_n (q := 10) (i := 1) C 1 dX0_faulty_9 rfl rfl rfl ?_
  refine z_getI (q := 13) C flX0_219 dX0_faulty_10 hf rfl fun v2 hf => ?_
  refine z_putI (q := 16) C puX0_31 dX0_faulty_13 hf rfl fun σ hf => ?_
  refine z_aload_n (q := 17) (i := 0) C 0 dX0_faulty_16 rfl rfl rfl ?_
  refine z_bipush (q := 19) C (9 : Int32) dX0_faulty_17 kb_9 rfl ?_
  refine z_putI (q := 22) C puX0_110 dX0_faulty_19 hf rfl fun σ hf => ?_
  refine z_iconst (q := 23) C (-1 : Int32) dX0_faulty_22 ki_m1 rfl ?_
  exact z_ireturn C rfl dX0_faulty_23 (Option.some.inj hf)

noncomputable def f_X0_town_2 (a0 : Nat) (σ : ZT) : Option (Nat × ZT) :=
  (gR 0 10 a0 σ).bind fun v1 =>
  (gR 4 400 v1 σ).bind fun v2 =>
  (gR 5 500 v2 σ).bind fun v3 =>
  some (v3, σ)
set_option maxHeartbeats 4000000 in
theorem m_X0_town_2 {l : Launch} {G : ZG} (a0 : Nat) (σ : ZT) {out : (Nat × ZT)} (hf : f_X0_town_2 a0 σ = some out) : ZM l G yX0_town_2 cX0_town_2 1 (some (.object "SillBridges$Town")) [] 1 [.ref a0] σ (.returned (some (.ref out.1))) out.2 := by
  refine ZM.of [(0, .ref a0)] rfl (Nat.le_of_ble_eq_true rfl) fun X (C : ZC G RX0 "town" cX0_town_2 1 (some (.object "SillBridges$Town")) [] X 1) => ?_
  unfold f_X0_town_2 at hf
  refine z_aload_n (q := 1) (i := 0) C 0 dX0_town_2_0 rfl rfl rfl ?_
  refine z_getR (q := 4) C flX0_55 dX0_town_2_1 hf rfl fun v1 hf => ?_
  refine z_getR (q := 7) C flX0_183 dX0_town_2_4 hf rfl fun v2 hf => ?_
  refine z_getR (q := 10) C flX0_184 dX0_town_2_7 hf rfl fun v3 hf => ?_
  exact z_areturn C rfl dX0_town_2_10 (Option.some.inj hf)

noncomputable def f_X0_fault_J24 (w0_24 : Int32) (σ : ZT) : Option (Int32 × ZT) :=
  some (w0_24, σ)
noncomputable def f_X0_fault (a0 : Nat) (i1 : Int32) (σ : ZT) : Option (Int32 × ZT) :=
  if i1 = 0 then
  ((gI 0 3 a0 σ).bind fun v2 =>
  f_X0_fault_J24 v2 σ)
  else
  (if i1 = (1 : Int32) then
  ((gI 0 4 a0 σ).bind fun v1 =>
  f_X0_fault_J24 v1 σ)
  else
  (f_X0_fault_J24 (-1 : Int32) σ))
set_option maxHeartbeats 4000000 in
theorem m_X0_fault {l : Launch} {G : ZG} (a0 : Nat) (i1 : Int32) (σ : ZT) {out : (Int32 × ZT)} (hf : f_X0_fault a0 i1 σ = some out) : ZM l G yX0_fault cX0_fault 2 (some .int) [] 1 [.ref a0, .int i1] σ (.returned (some (.int out.1))) out.2 := by
  refine ZM.of [(0, .ref a0), (1, .int i1)] rfl (Nat.le_of_ble_eq_true rfl) fun X (C : ZC G RX0 "fault" cX0_fault 2 (some .int) [] X 1) => ?_
  unfold f_X0_fault at hf
  have j24_0 : ∀ (w0_24 : Int32) (σ : ZT), f_X0_fault_J24 w0_24 σ = some out → ZW l G 2 X (ZQ G X (.returned (some (.int out.1))) out.2) σ 24 [] [.int w0_24] := by
    intro w0_24 σ hf
    unfold f_X0_fault_J24 at hf
    exact z_ireturn C rfl dX0_fault_24 (Option.some.inj hf)
  refine z_iload_n (q := 1) (i := 1) C 1 dX0_fault_0 rfl rfl rfl ?_
  refine z_ifne (q := 4) (tgt := 11) C dX0_fault_1 (by decide) rfl hf (fun c1 hf => ?_) (fun c1 hf => ?_)
  · refine z_iload_n (q := 12) (i := 1) C 1 dX0_fault_11 rfl rfl rfl ?_
    refine z_iconst (q := 13) C (1 : Int32) dX0_fault_12 ki_1 rfl ?_
    refine z_icmpne (q := 16) (tgt := 23) C dX0_fault_13 (by decide) rfl hf (fun c13 hf => ?_) (fun c13 hf => ?_)
    · refine z_iconst (q := 24) C (-1 : Int32) dX0_fault_23 ki_m1 rfl ?_
      refine z_lv [] rfl ?_
      exact j24_0 (-1 : Int32) σ hf
    · refine z_aload_n (q := 17) (i := 0) C 0 dX0_fault_16 rfl rfl rfl ?_
      refine z_getI (q := 20) C flX0_31 dX0_fault_17 hf rfl fun v1 hf => ?_
      refine z_goto (q := 24) C dX0_fault_20 (by decide) ?_
      refine z_lv [] rfl ?_
      exact j24_0 v1 σ hf
  · refine z_aload_n (q := 5) (i := 0) C 0 dX0_fault_4 rfl rfl rfl ?_
    refine z_getI (q := 8) C flX0_27 dX0_fault_5 hf rfl fun v2 hf => ?_
    refine z_goto (q := 24) C dX0_fault_8 (by decide) ?_
    refine z_lv [] rfl ?_
    exact j24_0 v2 σ hf

noncomputable def f_X0_isIn_J18 (w0_18 : Int32) (σ : ZT) : Option (Int32 × ZT) :=
  (rz w0_18).bind fun z1 =>
  some (z1, σ)
noncomputable def f_X0_isIn_J17  (σ : ZT) : Option (Int32 × ZT) :=
  f_X0_isIn_J18 (0 : Int32) σ
noncomputable def f_X0_isIn (l0 : Int64) (l2 : Int64) (l4 : Int64) (σ : ZT) : Option (Int32 × ZT) :=
  if (lg_cmp l0 l2) < 0 then
  (f_X0_isIn_J17  σ)
  else
  (if 0 < (lg_cmp l0 l4) then
  (f_X0_isIn_J17  σ)
  else
  (f_X0_isIn_J18 (1 : Int32) σ))
set_option maxHeartbeats 4000000 in
theorem m_X0_isIn {l : Launch} {G : ZG} (l0 : Int64) (l2 : Int64) (l4 : Int64) (σ : ZT) {out : (Int32 × ZT)} (hf : f_X0_isIn l0 l2 l4 σ = some out) : ZM l G yX0_isIn cX0_isIn 6 (some .boolean) [] 1 [.long l0, .long l2, .long l4] σ (.returned (some (.int out.1))) out.2 := by
  refine ZM.of [(0, .long l0), (2, .long l2), (4, .long l4)] rfl (Nat.le_of_ble_eq_true rfl) fun X (C : ZC G RX0 "isIn" cX0_isIn 6 (some .boolean) [] X 1) => ?_
  unfold f_X0_isIn at hf
  have j18_0 : ∀ (w0_18 : Int32) (σ : ZT), f_X0_isIn_J18 w0_18 σ = some out → ZW l G 6 X (ZQ G X (.returned (some (.int out.1))) out.2) σ 18 [] [.int w0_18] := by
    intro w0_18 σ hf
    unfold f_X0_isIn_J18 at hf
    refine z_rz C hf fun hn hf => ?_
    exact z_zreturn C rfl hn dX0_isIn_18 (Option.some.inj hf)
  have j17_0 : ∀  (σ : ZT), f_X0_isIn_J17  σ = some out → ZW l G 6 X (ZQ G X (.returned (some (.int out.1))) out.2) σ 17 [] [] := by
    intro  σ hf
    unfold f_X0_isIn_J17 at hf
    refine z_iconst (q := 18) C (0 : Int32) dX0_isIn_17 ki_0 rfl ?_
    exact j18_0 (0 : Int32) σ hf
  refine z_lload_n (q := 1) (i := 0) C 0 dX0_isIn_0 rfl rfl rfl ?_
  refine z_lload_n (q := 2) (i := 2) C 1 dX0_isIn_1 rfl rfl rfl ?_
  refine z_lcmp (q := 3) C dX0_isIn_2 rfl ?_
  refine z_iflt (q := 6) (tgt := 17) C dX0_isIn_3 (by decide) rfl hf (fun c3 hf => ?_) (fun c3 hf => ?_)
  · refine z_lv [] rfl ?_
    exact j17_0  σ hf
  · refine z_lload_n (q := 7) (i := 0) C 0 dX0_isIn_6 rfl rfl rfl ?_
    refine z_lload (q := 9) (i := 4) C 2 dX0_isIn_7 rfl rfl ?_
    refine z_lcmp (q := 10) C dX0_isIn_9 rfl ?_
    refine z_ifgt (q := 13) (tgt := 17) C dX0_isIn_10 (by decide) rfl hf (fun c10 hf => ?_) (fun c10 hf => ?_)
    · refine z_lv [] rfl ?_
      exact j17_0  σ hf
    · refine z_iconst (q := 14) C (1 : Int32) dX0_isIn_13 ki_1 rfl ?_
      refine z_goto (q := 18) C dX0_isIn_14 (by decide) ?_
      refine z_lv [] rfl ?_
      exact j18_0 (1 : Int32) σ hf

noncomputable def f_X0_told_J106 (w0_106 : Int32) (σ : ZT) : Option (Int32 × ZT) :=
  some (w0_106, σ)
noncomputable def f_X0_told_J18 (a0_18 : Nat) (i1_18 : Int32) (w0_18 : Int32) (w1_18 : Nat) (σ : ZT) : Option (Int32 × ZT) :=
  (pI 0 7 w1_18 w0_18 σ).bind fun σ =>
  if i1_18 = (0 : Int32) then
  (bnd2 (vc 0 a0_18 σ (f_X0_town_2 a0_18 σ)) fun v2 σ =>
  (gI 6 600 v2 σ).bind fun v3 =>
  some (v3, σ))
  else if i1_18 = (1 : Int32) then
  (bnd2 (vc 0 a0_18 σ (f_X0_town_2 a0_18 σ)) fun v4 σ =>
  (gI 6 601 v4 σ).bind fun v5 =>
  some (v5, σ))
  else if i1_18 = (2 : Int32) then
  (bnd2 (vc 0 a0_18 σ (f_X0_town_2 a0_18 σ)) fun v6 σ =>
  (gI 6 602 v6 σ).bind fun v7 =>
  some (v7, σ))
  else if i1_18 = (3 : Int32) then
  (bnd2 (vc 0 a0_18 σ (f_X0_town_2 a0_18 σ)) fun v8 σ =>
  (gI 6 603 v8 σ).bind fun v9 =>
  some (v9, σ))
  else if i1_18 = (4 : Int32) then
  ((gR 0 10 a0_18 σ).bind fun v10 =>
  (gR 4 400 v10 σ).bind fun v11 =>
  bnd2 (vc 5 v11 σ (f_X5_isDone v11 σ)) fun v12 σ =>
  if v12 = 0 then
  (f_X0_told_J106 (0 : Int32) σ)
  else
  (f_X0_told_J106 (1 : Int32) σ))
  else (some ((-1 : Int32), σ))
noncomputable def f_X0_told (a0 : Nat) (i1 : Int32) (σ : ZT) : Option (Int32 × ZT) :=
  bnd2 (f_X0_isIn (i1.toInt64) (0 : Int64) (4 : Int64) σ) fun v1 σ =>
  if v1 = 0 then
  (f_X0_told_J18 a0 i1 (1 : Int32) a0 σ)
  else
  (f_X0_told_J18 a0 i1 (0 : Int32) a0 σ)
set_option maxHeartbeats 4000000 in
theorem m_X0_told {l : Launch} {G : ZG} (a0 : Nat) (i1 : Int32) (σ : ZT) {out : (Int32 × ZT)} (hf : f_X0_told a0 i1 σ = some out) : ZM l G yX0_told cX0_told 2 (some .int) [] 2 [.ref a0, .int i1] σ (.returned (some (.int out.1))) out.2 := by
  refine ZM.of [(0, .ref a0), (1, .int i1)] rfl (Nat.le_of_ble_eq_true rfl) fun X (C : ZC G RX0 "told" cX0_told 2 (some .int) [] X 2) => ?_
  unfold f_X0_told at hf
  have j106_0 : ∀ (w0_106 : Int32) (σ : ZT), f_X0_told_J106 w0_106 σ = some out → ZW l G 2 X (ZQ G X (.returned (some (.int out.1))) out.2) σ 106 [] [.int w0_106] := by
    intro w0_106 σ hf
    unfold f_X0_told_J106 at hf
    exact z_ireturn C rfl dX0_told_106 (Option.some.inj hf)
  have j18_0 : ∀ (a0_18 : Nat) (i1_18 : Int32) (w0_18 : Int32) (w1_18 : Nat) (σ : ZT), f_X0_told_J18 a0_18 i1_18 w0_18 w1_18 σ = some out → ZW l G 2 X (ZQ G X (.returned (some (.int out.1))) out.2) σ 18 [(0, .ref a0_18), (1, .int i1_18)] [.int w0_18, .ref w1_18] := by
    intro a0_18 i1_18 w0_18 w1_18 σ hf
    unfold f_X0_told_J18 at hf
    refine z_putI (q := 21) C puX0_110 dX0_told_18 hf rfl fun σ hf => ?_
    refine z_iload_n (q := 22) (i := 1) C 1 dX0_told_21 rfl rfl rfl ?_
    by_cases c22_0 : i1_18 = (0 : Int32)
    · rw [if_pos c22_0] at hf
      refine z_tableIn (tgt := 56) C 0 dX0_told_22 (by rw [c22_0]; rfl) (by decide) (by decide) rfl (by decide) ?_
      refine z_aload_n (q := 57) (i := 0) C 0 dX0_told_56 rfl rfl rfl ?_
      refine z_callVr (q := 60) (As := []) C (fun o ho => m_X0_town_2 _ _ ho) zk0 vvX0_188 cdX0_town_2 pnX0 dX0_told_57 rfl (by decide) (Nat.le_of_ble_eq_true rfl) hf rfl fun v2 σ hf => ?_
      refine z_getI (q := 63) C flX0_191 dX0_told_60 hf rfl fun v3 hf => ?_
      exact z_ireturn C rfl dX0_told_63 (Option.some.inj hf)
    rw [if_neg c22_0] at hf
    by_cases c22_1 : i1_18 = (1 : Int32)
    · rw [if_pos c22_1] at hf
      refine z_tableIn (tgt := 64) C 1 dX0_told_22 (by rw [c22_1]; rfl) (by decide) (by decide) rfl (by decide) ?_
      refine z_aload_n (q := 65) (i := 0) C 0 dX0_told_64 rfl rfl rfl ?_
      refine z_callVr (q := 68) (As := []) C (fun o ho => m_X0_town_2 _ _ ho) zk0 vvX0_188 cdX0_town_2 pnX0 dX0_told_65 rfl (by decide) (Nat.le_of_ble_eq_true rfl) hf rfl fun v4 σ hf => ?_
      refine z_getI (q := 71) C flX0_200 dX0_told_68 hf rfl fun v5 hf => ?_
      exact z_ireturn C rfl dX0_told_71 (Option.some.inj hf)
    rw [if_neg c22_1] at hf
    by_cases c22_2 : i1_18 = (2 : Int32)
    · rw [if_pos c22_2] at hf
      refine z_tableIn (tgt := 72) C 2 dX0_told_22 (by rw [c22_2]; rfl) (by decide) (by decide) rfl (by decide) ?_
      refine z_aload_n (q := 73) (i := 0) C 0 dX0_told_72 rfl rfl rfl ?_
      refine z_callVr (q := 76) (As := []) C (fun o ho => m_X0_town_2 _ _ ho) zk0 vvX0_188 cdX0_town_2 pnX0 dX0_told_73 rfl (by decide) (Nat.le_of_ble_eq_true rfl) hf rfl fun v6 σ hf => ?_
      refine z_getI (q := 79) C flX0_203 dX0_told_76 hf rfl fun v7 hf => ?_
      exact z_ireturn C rfl dX0_told_79 (Option.some.inj hf)
    rw [if_neg c22_2] at hf
    by_cases c22_3 : i1_18 = (3 : Int32)
    · rw [if_pos c22_3] at hf
      refine z_tableIn (tgt := 80) C 3 dX0_told_22 (by rw [c22_3]; rfl) (by decide) (by decide) rfl (by decide) ?_
      refine z_aload_n (q := 81) (i := 0) C 0 dX0_told_80 rfl rfl rfl ?_
      refine z_callVr (q := 84) (As := []) C (fun o ho => m_X0_town_2 _ _ ho) zk0 vvX0_188 cdX0_town_2 pnX0 dX0_told_81 rfl (by decide) (Nat.le_of_ble_eq_true rfl) hf rfl fun v8 σ hf => ?_
      refine z_getI (q := 87) C flX0_206 dX0_told_84 hf rfl fun v9 hf => ?_
      exact z_ireturn C rfl dX0_told_87 (Option.some.inj hf)
    rw [if_neg c22_3] at hf
    by_cases c22_4 : i1_18 = (4 : Int32)
    · rw [if_pos c22_4] at hf
      refine z_tableIn (tgt := 88) C 4 dX0_told_22 (by rw [c22_4]; rfl) (by decide) (by decide) rfl (by decide) ?_
      refine z_aload_n (q := 89) (i := 0) C 0 dX0_told_88 rfl rfl rfl ?_
      refine z_getR (q := 92) C flX0_55 dX0_told_89 hf rfl fun v10 hf => ?_
      refine z_getR (q := 95) C flX0_183 dX0_told_92 hf rfl fun v11 hf => ?_
      refine z_callVi (q := 98) (As := []) C (fun o ho => m_X5_isDone _ _ ho) zk5 vvX0_258 cdX5_isDone pnX5 dX0_told_95 rfl (by decide) (Nat.le_of_ble_eq_true rfl) hf rfl fun v12 σ hf => ?_
      refine z_ifeq (q := 101) (tgt := 105) C dX0_told_98 (by decide) rfl hf (fun c98 hf => ?_) (fun c98 hf => ?_)
      · refine z_iconst (q := 106) C (0 : Int32) dX0_told_105 ki_0 rfl ?_
        refine z_lv [] rfl ?_
        exact j106_0 (0 : Int32) σ hf
      · refine z_iconst (q := 102) C (1 : Int32) dX0_told_101 ki_1 rfl ?_
        refine z_goto (q := 106) C dX0_told_102 (by decide) ?_
        refine z_lv [] rfl ?_
        exact j106_0 (1 : Int32) σ hf
    rw [if_neg c22_4] at hf
    refine z_tableOut (tgt := 107) C dX0_told_22 (by have n0 := lv_neT c22_0 (a := 0) rfl; have n1 := lv_neT c22_1 (a := 1) rfl; have n2 := lv_neT c22_2 (a := 2) rfl; have n3 := lv_neT c22_3 (a := 3) rfl; have n4 := lv_neT c22_4 (a := 4) rfl; omega) (by decide) ?_
    refine z_iconst (q := 108) C (-1 : Int32) dX0_told_107 ki_m1 rfl ?_
    exact z_ireturn C rfl dX0_told_108 (Option.some.inj hf)
  refine z_aload_n (q := 1) (i := 0) C 0 dX0_told_0 rfl rfl rfl ?_
  refine z_iload_n (q := 2) (i := 1) C 1 dX0_told_1 rfl rfl rfl ?_
  refine z_i2l (q := 3) C dX0_told_2 rfl ?_
  refine z_lconst (q := 4) C (0 : Int64) dX0_told_3 rfl rfl ?_
  refine z_ldc2 (q := 7) C q1187 dX0_told_4 rfl ?_
  refine z_callSi (q := 10) (As := [.long (i1.toInt64), .long (0 : Int64), .long (4 : Int64)]) C (fun o ho => m_X0_isIn _ _ _ _ ho) vsX0_196 cdX0_isIn pnX0 dX0_told_7 rfl (by decide) (Nat.le_of_ble_eq_true rfl) hf rfl fun v1 σ hf => ?_
  refine z_ifeq (q := 13) (tgt := 17) C dX0_told_10 (by decide) rfl hf (fun c10 hf => ?_) (fun c10 hf => ?_)
  · refine z_iconst (q := 18) C (1 : Int32) dX0_told_17 ki_1 rfl ?_
    exact j18_0 a0 i1 (1 : Int32) a0 σ hf
  · refine z_iconst (q := 14) C (0 : Int32) dX0_told_13 ki_0 rfl ?_
    refine z_goto (q := 18) C dX0_told_14 (by decide) ?_
    exact j18_0 a0 i1 (0 : Int32) a0 σ hf

noncomputable def f_X0_isBridge (a0 : Nat) (i1 : Int32) (σ : ZT) : Option (Int32 × ZT) :=
  bnd2 (vc 0 a0 σ (f_X0_town_2 a0 σ)) fun v1 σ =>
  (gI 6 601 v1 σ).bind fun v2 =>
  bnd2 (f_X0_isIn (i1.toInt64) (0 : Int64) ((v2 - (1 : Int32)).toInt64) σ) fun v3 σ =>
  (rz v3).bind fun z4 =>
  some (z4, σ)
set_option maxHeartbeats 4000000 in
theorem m_X0_isBridge {l : Launch} {G : ZG} (a0 : Nat) (i1 : Int32) (σ : ZT) {out : (Int32 × ZT)} (hf : f_X0_isBridge a0 i1 σ = some out) : ZM l G yX0_isBridge cX0_isBridge 2 (some .boolean) [] 2 [.ref a0, .int i1] σ (.returned (some (.int out.1))) out.2 := by
  refine ZM.of [(0, .ref a0), (1, .int i1)] rfl (Nat.le_of_ble_eq_true rfl) fun X (C : ZC G RX0 "isBridge" cX0_isBridge 2 (some .boolean) [] X 2) => ?_
  unfold f_X0_isBridge at hf
  refine z_iload_n (q := 1) (i := 1) C 1 dX0_isBridge_0 rfl rfl rfl ?_
  refine z_i2l (q := 2) C dX0_isBridge_1 rfl ?_
  refine z_lconst (q := 3) C (0 : Int64) dX0_isBridge_2 rfl rfl ?_
  refine z_aload_n (q := 4) (i := 0) C 0 dX0_isBridge_3 rfl rfl rfl ?_
  refine z_callVr (q := 7) (As := []) C (fun o ho => m_X0_town_2 _ _ ho) zk0 vvX0_188 cdX0_town_2 pnX0 dX0_isBridge_4 rfl (by decide) (Nat.le_of_ble_eq_true rfl) hf rfl fun v1 σ hf => ?_
  refine z_getI (q := 10) C flX0_200 dX0_isBridge_7 hf rfl fun v2 hf => ?_
  refine z_iconst (q := 11) C (1 : Int32) dX0_isBridge_10 ki_1 rfl ?_
  refine z_isub (q := 12) C dX0_isBridge_11 rfl ?_
  refine z_i2l (q := 13) C dX0_isBridge_12 rfl ?_
  refine z_callSi (q := 16) (As := [.long (i1.toInt64), .long (0 : Int64), .long ((v2 - (1 : Int32)).toInt64)]) C (fun o ho => m_X0_isIn _ _ _ _ ho) vsX0_196 cdX0_isIn pnX0 dX0_isBridge_13 rfl (by decide) (Nat.le_of_ble_eq_true rfl) hf rfl fun v3 σ hf => ?_
  refine z_rz C hf fun hn hf => ?_
  exact z_zreturn C rfl hn dX0_isBridge_16 (Option.some.inj hf)

noncomputable def f_X0_bridge_J26 (a0_26 : Nat) (i1_26 : Int32) (i2_26 : Int32) (w0_26 : Int32) (w1_26 : Nat) (σ : ZT) : Option (Int32 × ZT) :=
  (pI 0 7 w1_26 w0_26 σ).bind fun σ =>
  (gI 0 7 a0_26 σ).bind fun v3 =>
  if 0 < v3 then
  (some ((-1 : Int32), σ))
  else
  (bnd2 (vc 0 a0_26 σ (f_X0_town_2 a0_26 σ)) fun v4 σ =>
  (gR 6 606 v4 σ).bind fun v5 =>
  (ldR 6 v5 i1_26 σ).bind fun v6 =>
  if i2_26 = (0 : Int32) then
  ((gI 11 1101 v6 σ).bind fun v7 =>
  some (v7, σ))
  else if i2_26 = (1 : Int32) then
  ((gI 11 1102 v6 σ).bind fun v8 =>
  some (v8, σ))
  else if i2_26 = (2 : Int32) then
  ((gI 11 1103 v6 σ).bind fun v9 =>
  some (v9, σ))
  else if i2_26 = (3 : Int32) then
  ((gI 11 1104 v6 σ).bind fun v10 =>
  some (v10, σ))
  else if i2_26 = (4 : Int32) then
  ((gI 11 1105 v6 σ).bind fun v11 =>
  some (v11, σ))
  else if i2_26 = (5 : Int32) then
  ((gI 11 1106 v6 σ).bind fun v12 =>
  some (v12, σ))
  else if i2_26 = (6 : Int32) then
  ((gI 11 1107 v6 σ).bind fun v13 =>
  some (v13, σ))
  else if i2_26 = (7 : Int32) then
  ((gI 11 1108 v6 σ).bind fun v14 =>
  some (v14, σ))
  else if i2_26 = (8 : Int32) then
  ((gI 11 1109 v6 σ).bind fun v15 =>
  some (v15, σ))
  else (bnd2 (vc 11 v6 σ (f_X11_pull v6 σ)) fun v16 σ =>
  some (v16, σ)))
noncomputable def f_X0_bridge_J25 (a0_25 : Nat) (i1_25 : Int32) (i2_25 : Int32) (w0_25 : Nat) (σ : ZT) : Option (Int32 × ZT) :=
  f_X0_bridge_J26 a0_25 i1_25 i2_25 (1 : Int32) w0_25 σ
noncomputable def f_X0_bridge (a0 : Nat) (i1 : Int32) (i2 : Int32) (σ : ZT) : Option (Int32 × ZT) :=
  bnd2 (vc 0 a0 σ (f_X0_isBridge a0 i1 σ)) fun v1 σ =>
  if v1 = 0 then
  (f_X0_bridge_J25 a0 i1 i2 a0 σ)
  else
  (bnd2 (f_X0_isIn (i2.toInt64) (0 : Int64) (9 : Int64) σ) fun v2 σ =>
  if v2 = 0 then
  (f_X0_bridge_J25 a0 i1 i2 a0 σ)
  else
  (f_X0_bridge_J26 a0 i1 i2 (0 : Int32) a0 σ))
set_option maxHeartbeats 4000000 in
theorem m_X0_bridge {l : Launch} {G : ZG} (a0 : Nat) (i1 : Int32) (i2 : Int32) (σ : ZT) {out : (Int32 × ZT)} (hf : f_X0_bridge a0 i1 i2 σ = some out) : ZM l G yX0_bridge cX0_bridge 4 (some .int) [] 3 [.ref a0, .int i1, .int i2] σ (.returned (some (.int out.1))) out.2 := by
  refine ZM.of [(0, .ref a0), (1, .int i1), (2, .int i2)] rfl (Nat.le_of_ble_eq_true rfl) fun X (C : ZC G RX0 "bridge" cX0_bridge 4 (some .int) [] X 3) => ?_
  unfold f_X0_bridge at hf
  have j26_0 : ∀ (a0_26 : Nat) (i1_26 : Int32) (i2_26 : Int32) (w0_26 : Int32) (w1_26 : Nat) (σ : ZT), f_X0_bridge_J26 a0_26 i1_26 i2_26 w0_26 w1_26 σ = some out → ZW l G 4 X (ZQ G X (.returned (some (.int out.1))) out.2) σ 26 [(0, .ref a0_26), (1, .int i1_26), (2, .int i2_26)] [.int w0_26, .ref w1_26] := by
    intro a0_26 i1_26 i2_26 w0_26 w1_26 σ hf
    unfold f_X0_bridge_J26 at hf
    refine z_putI (q := 29) C puX0_110 dX0_bridge_26 hf rfl fun σ hf => ?_
    refine z_aload_n (q := 30) (i := 0) C 0 dX0_bridge_29 rfl rfl rfl ?_
    refine z_getI (q := 33) C flX0_110 dX0_bridge_30 hf rfl fun v3 hf => ?_
    refine z_ifle (q := 36) (tgt := 38) C dX0_bridge_33 (by decide) rfl hf (fun c33 hf => ?_) (fun c33 hf => ?_)
    · refine z_aload_n (q := 39) (i := 0) C 0 dX0_bridge_38 rfl rfl rfl ?_
      refine z_callVr (q := 42) (As := []) C (fun o ho => m_X0_town_2 _ _ ho) zk0 vvX0_188 cdX0_town_2 pnX0 dX0_bridge_39 rfl (by decide) (Nat.le_of_ble_eq_true rfl) hf rfl fun v4 σ hf => ?_
      refine z_getR (q := 45) C flX0_268 dX0_bridge_42 hf rfl fun v5 hf => ?_
      refine z_iload_n (q := 46) (i := 1) C 1 dX0_bridge_45 rfl rfl rfl ?_
      refine z_aaldR (q := 47) C 6 (by decide) (by decide) dX0_bridge_46 hf rfl fun v6 hf => ?_
      refine z_astore_n (q := 48) (i := 3) (lv' := [(3, .ref v6), (0, .ref a0_26), (1, .int i1_26), (2, .int i2_26)]) C dX0_bridge_47 rfl (by decide) rfl rfl ?_
      refine z_iload_n (q := 49) (i := 2) C 3 dX0_bridge_48 rfl rfl rfl ?_
      by_cases c49_0 : i2_26 = (0 : Int32)
      · rw [if_pos c49_0] at hf
        refine z_tableIn (tgt := 100) C 0 dX0_bridge_49 (by rw [c49_0]; rfl) (by decide) (by decide) rfl (by decide) ?_
        refine z_aload_n (q := 101) (i := 3) C 0 dX0_bridge_100 rfl rfl rfl ?_
        refine z_getI (q := 104) C flX0_272 dX0_bridge_101 hf rfl fun v7 hf => ?_
        exact z_ireturn C rfl dX0_bridge_104 (Option.some.inj hf)
      rw [if_neg c49_0] at hf
      by_cases c49_1 : i2_26 = (1 : Int32)
      · rw [if_pos c49_1] at hf
        refine z_tableIn (tgt := 105) C 1 dX0_bridge_49 (by rw [c49_1]; rfl) (by decide) (by decide) rfl (by decide) ?_
        refine z_aload_n (q := 106) (i := 3) C 0 dX0_bridge_105 rfl rfl rfl ?_
        refine z_getI (q := 109) C flX0_277 dX0_bridge_106 hf rfl fun v8 hf => ?_
        exact z_ireturn C rfl dX0_bridge_109 (Option.some.inj hf)
      rw [if_neg c49_1] at hf
      by_cases c49_2 : i2_26 = (2 : Int32)
      · rw [if_pos c49_2] at hf
        refine z_tableIn (tgt := 110) C 2 dX0_bridge_49 (by rw [c49_2]; rfl) (by decide) (by decide) rfl (by decide) ?_
        refine z_aload_n (q := 111) (i := 3) C 0 dX0_bridge_110 rfl rfl rfl ?_
        refine z_getI (q := 114) C flX0_280 dX0_bridge_111 hf rfl fun v9 hf => ?_
        exact z_ireturn C rfl dX0_bridge_114 (Option.some.inj hf)
      rw [if_neg c49_2] at hf
      by_cases c49_3 : i2_26 = (3 : Int32)
      · rw [if_pos c49_3] at hf
        refine z_tableIn (tgt := 115) C 3 dX0_bridge_49 (by rw [c49_3]; rfl) (by decide) (by decide) rfl (by decide) ?_
        refine z_aload_n (q := 116) (i := 3) C 0 dX0_bridge_115 rfl rfl rfl ?_
        refine z_getI (q := 119) C flX0_283 dX0_bridge_116 hf rfl fun v10 hf => ?_
        exact z_ireturn C rfl dX0_bridge_119 (Option.some.inj hf)
      rw [if_neg c49_3] at hf
      by_cases c49_4 : i2_26 = (4 : Int32)
      · rw [if_pos c49_4] at hf
        refine z_tableIn (tgt := 120) C 4 dX0_bridge_49 (by rw [c49_4]; rfl) (by decide) (by decide) rfl (by decide) ?_
        refine z_aload_n (q := 121) (i := 3) C 0 dX0_bridge_120 rfl rfl rfl ?_
        refine z_getI (q := 124) C flX0_286 dX0_bridge_121 hf rfl fun v11 hf => ?_
        exact z_ireturn C rfl dX0_bridge_124 (Option.some.inj hf)
      rw [if_neg c49_4] at hf
      by_cases c49_5 : i2_26 = (5 : Int32)
      · rw [if_pos c49_5] at hf
        refine z_tableIn (tgt := 125) C 5 dX0_bridge_49 (by rw [c49_5]; rfl) (by decide) (by decide) rfl (by decide) ?_
        refine z_aload_n (q := 126) (i := 3) C 0 dX0_bridge_125 rfl rfl rfl ?_
        refine z_getI (q := 129) C flX0_288 dX0_bridge_126 hf rfl fun v12 hf => ?_
        exact z_ireturn C rfl dX0_bridge_129 (Option.some.inj hf)
      rw [if_neg c49_5] at hf
      by_cases c49_6 : i2_26 = (6 : Int32)
      · rw [if_pos c49_6] at hf
        refine z_tableIn (tgt := 130) C 6 dX0_bridge_49 (by rw [c49_6]; rfl) (by decide) (by decide) rfl (by decide) ?_
        refine z_aload_n (q := 131) (i := 3) C 0 dX0_bridge_130 rfl rfl rfl ?_
        refine z_getI (q := 134) C flX0_291 dX0_bridge_131 hf rfl fun v13 hf => ?_
        exact z_ireturn C rfl dX0_bridge_134 (Option.some.inj hf)
      rw [if_neg c49_6] at hf
      by_cases c49_7 : i2_26 = (7 : Int32)
      · rw [if_pos c49_7] at hf
        refine z_tableIn (tgt := 135) C 7 dX0_bridge_49 (by rw [c49_7]; rfl) (by decide) (by decide) rfl (by decide) ?_
        refine z_aload_n (q := 136) (i := 3) C 0 dX0_bridge_135 rfl rfl rfl ?_
        refine z_getI (q := 139) C flX0_294 dX0_bridge_136 hf rfl fun v14 hf => ?_
        exact z_ireturn C rfl dX0_bridge_139 (Option.some.inj hf)
      rw [if_neg c49_7] at hf
      by_cases c49_8 : i2_26 = (8 : Int32)
      · rw [if_pos c49_8] at hf
        refine z_tableIn (tgt := 140) C 8 dX0_bridge_49 (by rw [c49_8]; rfl) (by decide) (by decide) rfl (by decide) ?_
        refine z_aload_n (q := 141) (i := 3) C 0 dX0_bridge_140 rfl rfl rfl ?_
        refine z_getI (q := 144) C flX0_297 dX0_bridge_141 hf rfl fun v15 hf => ?_
        exact z_ireturn C rfl dX0_bridge_144 (Option.some.inj hf)
      rw [if_neg c49_8] at hf
      refine z_tableOut (tgt := 145) C dX0_bridge_49 (by have n0 := lv_neT c49_0 (a := 0) rfl; have n1 := lv_neT c49_1 (a := 1) rfl; have n2 := lv_neT c49_2 (a := 2) rfl; have n3 := lv_neT c49_3 (a := 3) rfl; have n4 := lv_neT c49_4 (a := 4) rfl; have n5 := lv_neT c49_5 (a := 5) rfl; have n6 := lv_neT c49_6 (a := 6) rfl; have n7 := lv_neT c49_7 (a := 7) rfl; have n8 := lv_neT c49_8 (a := 8) rfl; omega) (by decide) ?_
      refine z_aload_n (q := 146) (i := 3) C 0 dX0_bridge_145 rfl rfl rfl ?_
      refine z_callVi (q := 149) (As := []) C (fun o ho => m_X11_pull _ _ ho) zk11 vvX0_300 cdX11_pull pnX11 dX0_bridge_146 rfl (by decide) (Nat.le_of_ble_eq_true rfl) hf rfl fun v16 σ hf => ?_
      exact z_ireturn C rfl dX0_bridge_149 (Option.some.inj hf)
    · refine z_iconst (q := 37) C (-1 : Int32) dX0_bridge_36 ki_m1 rfl ?_
      exact z_ireturn C rfl dX0_bridge_37 (Option.some.inj hf)
  have j25_0 : ∀ (a0_25 : Nat) (i1_25 : Int32) (i2_25 : Int32) (w0_25 : Nat) (σ : ZT), f_X0_bridge_J25 a0_25 i1_25 i2_25 w0_25 σ = some out → ZW l G 4 X (ZQ G X (.returned (some (.int out.1))) out.2) σ 25 [(0, .ref a0_25), (1, .int i1_25), (2, .int i2_25)] [.ref w0_25] := by
    intro a0_25 i1_25 i2_25 w0_25 σ hf
    unfold f_X0_bridge_J25 at hf
    refine z_iconst (q := 26) C (1 : Int32) dX0_bridge_25 ki_1 rfl ?_
    exact j26_0 a0_25 i1_25 i2_25 (1 : Int32) w0_25 σ hf
  refine z_aload_n (q := 1) (i := 0) C 0 dX0_bridge_0 rfl rfl rfl ?_
  refine z_aload_n (q := 2) (i := 0) C 0 dX0_bridge_1 rfl rfl rfl ?_
  refine z_iload_n (q := 3) (i := 1) C 1 dX0_bridge_2 rfl rfl rfl ?_
  refine z_callVi (q := 6) (As := [.int i1]) C (fun o ho => m_X0_isBridge _ _ _ ho) zk0 vvX0_262 cdX0_isBridge pnX0 dX0_bridge_3 rfl (by decide) (Nat.le_of_ble_eq_true rfl) hf rfl fun v1 σ hf => ?_
  refine z_ifeq (q := 9) (tgt := 25) C dX0_bridge_6 (by decide) rfl hf (fun c6 hf => ?_) (fun c6 hf => ?_)
  · exact j25_0 a0 i1 i2 a0 σ hf
  · refine z_iload_n (q := 10) (i := 2) C 2 dX0_bridge_9 rfl rfl rfl ?_
    refine z_i2l (q := 11) C dX0_bridge_10 rfl ?_
    refine z_lconst (q := 12) C (0 : Int64) dX0_bridge_11 rfl rfl ?_
    refine z_ldc2 (q := 15) C q1203 dX0_bridge_12 rfl ?_
    refine z_callSi (q := 18) (As := [.long (i2.toInt64), .long (0 : Int64), .long (9 : Int64)]) C (fun o ho => m_X0_isIn _ _ _ _ ho) vsX0_196 cdX0_isIn pnX0 dX0_bridge_15 rfl (by decide) (Nat.le_of_ble_eq_true rfl) hf rfl fun v2 σ hf => ?_
    refine z_ifeq (q := 21) (tgt := 25) C dX0_bridge_18 (by decide) rfl hf (fun c18 hf => ?_) (fun c18 hf => ?_)
    · exact j25_0 a0 i1 i2 a0 σ hf
    · refine z_iconst (q := 22) C (0 : Int32) dX0_bridge_21 ki_0 rfl ?_
      refine z_goto (q := 26) C dX0_bridge_22 (by decide) ?_
      exact j26_0 a0 i1 i2 (0 : Int32) a0 σ hf

noncomputable def f_X0_isPerson (a0 : Nat) (i1 : Int32) (σ : ZT) : Option (Int32 × ZT) :=
  bnd2 (vc 0 a0 σ (f_X0_town_2 a0 σ)) fun v1 σ =>
  (gI 6 602 v1 σ).bind fun v2 =>
  bnd2 (f_X0_isIn (i1.toInt64) (0 : Int64) ((v2 - (1 : Int32)).toInt64) σ) fun v3 σ =>
  (rz v3).bind fun z4 =>
  some (z4, σ)
set_option maxHeartbeats 4000000 in
theorem m_X0_isPerson {l : Launch} {G : ZG} (a0 : Nat) (i1 : Int32) (σ : ZT) {out : (Int32 × ZT)} (hf : f_X0_isPerson a0 i1 σ = some out) : ZM l G yX0_isPerson cX0_isPerson 2 (some .boolean) [] 2 [.ref a0, .int i1] σ (.returned (some (.int out.1))) out.2 := by
  refine ZM.of [(0, .ref a0), (1, .int i1)] rfl (Nat.le_of_ble_eq_true rfl) fun X (C : ZC G RX0 "isPerson" cX0_isPerson 2 (some .boolean) [] X 2) => ?_
  unfold f_X0_isPerson at hf
  refine z_iload_n (q := 1) (i := 1) C 1 dX0_isPerson_0 rfl rfl rfl ?_
  refine z_i2l (q := 2) C dX0_isPerson_1 rfl ?_
  refine z_lconst (q := 3) C (0 : Int64) dX0_isPerson_2 rfl rfl ?_
  refine z_aload_n (q := 4) (i := 0) C 0 dX0_isPerson_3 rfl rfl rfl ?_
  refine z_callVr (q := 7) (As := []) C (fun o ho => m_X0_town_2 _ _ ho) zk0 vvX0_188 cdX0_town_2 pnX0 dX0_isPerson_4 rfl (by decide) (Nat.le_of_ble_eq_true rfl) hf rfl fun v1 σ hf => ?_
  refine z_getI (q := 10) C flX0_203 dX0_isPerson_7 hf rfl fun v2 hf => ?_
  refine z_iconst (q := 11) C (1 : Int32) dX0_isPerson_10 ki_1 rfl ?_
  refine z_isub (q := 12) C dX0_isPerson_11 rfl ?_
  refine z_i2l (q := 13) C dX0_isPerson_12 rfl ?_
  refine z_callSi (q := 16) (As := [.long (i1.toInt64), .long (0 : Int64), .long ((v2 - (1 : Int32)).toInt64)]) C (fun o ho => m_X0_isIn _ _ _ _ ho) vsX0_196 cdX0_isIn pnX0 dX0_isPerson_13 rfl (by decide) (Nat.le_of_ble_eq_true rfl) hf rfl fun v3 σ hf => ?_
  refine z_rz C hf fun hn hf => ?_
  exact z_zreturn C rfl hn dX0_isPerson_16 (Option.some.inj hf)

noncomputable def f_X0_answer_J11 (i1_11 : Int32) (w0_11 : Int32) (w1_11 : Nat) (σ : ZT) : Option (Int32 × ZT) :=
  (pI 0 7 w1_11 w0_11 σ).bind fun σ =>
  some (i1_11, σ)
noncomputable def f_X0_answer (a0 : Nat) (i1 : Int32) (σ : ZT) : Option (Int32 × ZT) :=
  if i1 < 0 then
  (f_X0_answer_J11 i1 (6 : Int32) a0 σ)
  else
  (f_X0_answer_J11 i1 (0 : Int32) a0 σ)
set_option maxHeartbeats 4000000 in
theorem m_X0_answer {l : Launch} {G : ZG} (a0 : Nat) (i1 : Int32) (σ : ZT) {out : (Int32 × ZT)} (hf : f_X0_answer a0 i1 σ = some out) : ZM l G yX0_answer cX0_answer 2 (some .int) [] 1 [.ref a0, .int i1] σ (.returned (some (.int out.1))) out.2 := by
  refine ZM.of [(0, .ref a0), (1, .int i1)] rfl (Nat.le_of_ble_eq_true rfl) fun X (C : ZC G RX0 "answer" cX0_answer 2 (some .int) [] X 1) => ?_
  unfold f_X0_answer at hf
  have j11_0 : ∀ (i1_11 : Int32) (w0_11 : Int32) (w1_11 : Nat) (σ : ZT), f_X0_answer_J11 i1_11 w0_11 w1_11 σ = some out → ZW l G 2 X (ZQ G X (.returned (some (.int out.1))) out.2) σ 11 [(1, .int i1_11)] [.int w0_11, .ref w1_11] := by
    intro i1_11 w0_11 w1_11 σ hf
    unfold f_X0_answer_J11 at hf
    refine z_putI (q := 14) C puX0_110 dX0_answer_11 hf rfl fun σ hf => ?_
    refine z_iload_n (q := 15) (i := 1) C 0 dX0_answer_14 rfl rfl rfl ?_
    exact z_ireturn C rfl dX0_answer_15 (Option.some.inj hf)
  refine z_aload_n (q := 1) (i := 0) C 0 dX0_answer_0 rfl rfl rfl ?_
  refine z_iload_n (q := 2) (i := 1) C 1 dX0_answer_1 rfl rfl rfl ?_
  refine z_ifge (q := 5) (tgt := 10) C dX0_answer_2 (by decide) rfl hf (fun c2 hf => ?_) (fun c2 hf => ?_)
  · refine z_iconst (q := 11) C (0 : Int32) dX0_answer_10 ki_0 rfl ?_
    refine z_lv [1] rfl ?_
    exact j11_0 i1 (0 : Int32) a0 σ hf
  · refine z_bipush (q := 7) C (6 : Int32) dX0_answer_5 kb_6 rfl ?_
    refine z_goto (q := 11) C dX0_answer_7 (by decide) ?_
    refine z_lv [1] rfl ?_
    exact j11_0 i1 (6 : Int32) a0 σ hf

noncomputable def f_X0_person_J99 (w0_99 : Int32) (σ : ZT) : Option (Int32 × ZT) :=
  some (w0_99, σ)
noncomputable def f_X0_person_J26 (a0_26 : Nat) (i1_26 : Int32) (i2_26 : Int32) (w0_26 : Int32) (w1_26 : Nat) (σ : ZT) : Option (Int32 × ZT) :=
  (pI 0 7 w1_26 w0_26 σ).bind fun σ =>
  (gI 0 7 a0_26 σ).bind fun v3 =>
  if 0 < v3 then
  (some ((-1 : Int32), σ))
  else
  (bnd2 (vc 0 a0_26 σ (f_X0_town_2 a0_26 σ)) fun v4 σ =>
  (gR 6 607 v4 σ).bind fun v5 =>
  (ldR 7 v5 i1_26 σ).bind fun v6 =>
  if i2_26 = 0 then
  ((gI 12 1201 v6 σ).bind fun v11 =>
  f_X0_person_J99 v11 σ)
  else
  (if i2_26 = (1 : Int32) then
  ((gI 12 1203 v6 σ).bind fun v9 =>
  bnd2 (vc 0 a0_26 σ (f_X0_answer a0_26 v9 σ)) fun v10 σ =>
  f_X0_person_J99 v10 σ)
  else
  (if i2_26 = (2 : Int32) then
  ((gI 12 1204 v6 σ).bind fun v8 =>
  f_X0_person_J99 v8 σ)
  else
  ((gI 12 1205 v6 σ).bind fun v7 =>
  if v7 = 0 then
  (f_X0_person_J99 (0 : Int32) σ)
  else
  (f_X0_person_J99 (1 : Int32) σ)))))
noncomputable def f_X0_person_J25 (a0_25 : Nat) (i1_25 : Int32) (i2_25 : Int32) (w0_25 : Nat) (σ : ZT) : Option (Int32 × ZT) :=
  f_X0_person_J26 a0_25 i1_25 i2_25 (1 : Int32) w0_25 σ
noncomputable def f_X0_person (a0 : Nat) (i1 : Int32) (i2 : Int32) (σ : ZT) : Option (Int32 × ZT) :=
  bnd2 (vc 0 a0 σ (f_X0_isPerson a0 i1 σ)) fun v1 σ =>
  if v1 = 0 then
  (f_X0_person_J25 a0 i1 i2 a0 σ)
  else
  (bnd2 (f_X0_isIn (i2.toInt64) (0 : Int64) (3 : Int64) σ) fun v2 σ =>
  if v2 = 0 then
  (f_X0_person_J25 a0 i1 i2 a0 σ)
  else
  (f_X0_person_J26 a0 i1 i2 (0 : Int32) a0 σ))
set_option maxHeartbeats 4000000 in
theorem m_X0_person {l : Launch} {G : ZG} (a0 : Nat) (i1 : Int32) (i2 : Int32) (σ : ZT) {out : (Int32 × ZT)} (hf : f_X0_person a0 i1 i2 σ = some out) : ZM l G yX0_person cX0_person 4 (some .int) [] 3 [.ref a0, .int i1, .int i2] σ (.returned (some (.int out.1))) out.2 := by
  refine ZM.of [(0, .ref a0), (1, .int i1), (2, .int i2)] rfl (Nat.le_of_ble_eq_true rfl) fun X (C : ZC G RX0 "person" cX0_person 4 (some .int) [] X 3) => ?_
  unfold f_X0_person at hf
  have j99_0 : ∀ (w0_99 : Int32) (σ : ZT), f_X0_person_J99 w0_99 σ = some out → ZW l G 4 X (ZQ G X (.returned (some (.int out.1))) out.2) σ 99 [] [.int w0_99] := by
    intro w0_99 σ hf
    unfold f_X0_person_J99 at hf
    exact z_ireturn C rfl dX0_person_99 (Option.some.inj hf)
  have j26_0 : ∀ (a0_26 : Nat) (i1_26 : Int32) (i2_26 : Int32) (w0_26 : Int32) (w1_26 : Nat) (σ : ZT), f_X0_person_J26 a0_26 i1_26 i2_26 w0_26 w1_26 σ = some out → ZW l G 4 X (ZQ G X (.returned (some (.int out.1))) out.2) σ 26 [(0, .ref a0_26), (1, .int i1_26), (2, .int i2_26)] [.int w0_26, .ref w1_26] := by
    intro a0_26 i1_26 i2_26 w0_26 w1_26 σ hf
    unfold f_X0_person_J26 at hf
    refine z_putI (q := 29) C puX0_110 dX0_person_26 hf rfl fun σ hf => ?_
    refine z_aload_n (q := 30) (i := 0) C 0 dX0_person_29 rfl rfl rfl ?_
    refine z_getI (q := 33) C flX0_110 dX0_person_30 hf rfl fun v3 hf => ?_
    refine z_ifle (q := 36) (tgt := 38) C dX0_person_33 (by decide) rfl hf (fun c33 hf => ?_) (fun c33 hf => ?_)
    · refine z_aload_n (q := 39) (i := 0) C 0 dX0_person_38 rfl rfl rfl ?_
      refine z_callVr (q := 42) (As := []) C (fun o ho => m_X0_town_2 _ _ ho) zk0 vvX0_188 cdX0_town_2 pnX0 dX0_person_39 rfl (by decide) (Nat.le_of_ble_eq_true rfl) hf rfl fun v4 σ hf => ?_
      refine z_getR (q := 45) C flX0_309 dX0_person_42 hf rfl fun v5 hf => ?_
      refine z_iload_n (q := 46) (i := 1) C 1 dX0_person_45 rfl rfl rfl ?_
      refine z_aaldR (q := 47) C 7 (by decide) (by decide) dX0_person_46 hf rfl fun v6 hf => ?_
      refine z_astore_n (q := 48) (i := 3) (lv' := [(3, .ref v6), (0, .ref a0_26), (1, .int i1_26), (2, .int i2_26)]) C dX0_person_47 rfl (by decide) rfl rfl ?_
      refine z_iload_n (q := 49) (i := 2) C 3 dX0_person_48 rfl rfl rfl ?_
      refine z_ifne (q := 52) (tgt := 59) C dX0_person_49 (by decide) rfl hf (fun c49 hf => ?_) (fun c49 hf => ?_)
      · refine z_iload_n (q := 60) (i := 2) C 3 dX0_person_59 rfl rfl rfl ?_
        refine z_iconst (q := 61) C (1 : Int32) dX0_person_60 ki_1 rfl ?_
        refine z_icmpne (q := 64) (tgt := 75) C dX0_person_61 (by decide) rfl hf (fun c61 hf => ?_) (fun c61 hf => ?_)
        · refine z_iload_n (q := 76) (i := 2) C 3 dX0_person_75 rfl rfl rfl ?_
          refine z_iconst (q := 77) C (2 : Int32) dX0_person_76 ki_2 rfl ?_
          refine z_icmpne (q := 80) (tgt := 87) C dX0_person_77 (by decide) rfl hf (fun c77 hf => ?_) (fun c77 hf => ?_)
          · refine z_aload_n (q := 88) (i := 3) C 0 dX0_person_87 rfl rfl rfl ?_
            refine z_getI (q := 91) C flX0_328 dX0_person_88 hf rfl fun v7 hf => ?_
            refine z_ifeq (q := 94) (tgt := 98) C dX0_person_91 (by decide) rfl hf (fun c91 hf => ?_) (fun c91 hf => ?_)
            · refine z_iconst (q := 99) C (0 : Int32) dX0_person_98 ki_0 rfl ?_
              refine z_lv [] rfl ?_
              exact j99_0 (0 : Int32) σ hf
            · refine z_iconst (q := 95) C (1 : Int32) dX0_person_94 ki_1 rfl ?_
              refine z_goto (q := 99) C dX0_person_95 (by decide) ?_
              refine z_lv [] rfl ?_
              exact j99_0 (1 : Int32) σ hf
          · refine z_aload_n (q := 81) (i := 3) C 0 dX0_person_80 rfl rfl rfl ?_
            refine z_getI (q := 84) C flX0_325 dX0_person_81 hf rfl fun v8 hf => ?_
            refine z_goto (q := 99) C dX0_person_84 (by decide) ?_
            refine z_lv [] rfl ?_
            exact j99_0 v8 σ hf
        · refine z_aload_n (q := 65) (i := 0) C 1 dX0_person_64 rfl rfl rfl ?_
          refine z_aload_n (q := 66) (i := 3) C 0 dX0_person_65 rfl rfl rfl ?_
          refine z_getI (q := 69) C flX0_318 dX0_person_66 hf rfl fun v9 hf => ?_
          refine z_callVi (q := 72) (As := [.int v9]) C (fun o ho => m_X0_answer _ _ _ ho) zk0 vvX0_321 cdX0_answer pnX0 dX0_person_69 rfl (by decide) (Nat.le_of_ble_eq_true rfl) hf rfl fun v10 σ hf => ?_
          refine z_goto (q := 99) C dX0_person_72 (by decide) ?_
          refine z_lv [] rfl ?_
          exact j99_0 v10 σ hf
      · refine z_aload_n (q := 53) (i := 3) C 0 dX0_person_52 rfl rfl rfl ?_
        refine z_getI (q := 56) C flX0_313 dX0_person_53 hf rfl fun v11 hf => ?_
        refine z_goto (q := 99) C dX0_person_56 (by decide) ?_
        refine z_lv [] rfl ?_
        exact j99_0 v11 σ hf
    · refine z_iconst (q := 37) C (-1 : Int32) dX0_person_36 ki_m1 rfl ?_
      exact z_ireturn C rfl dX0_person_37 (Option.some.inj hf)
  have j25_0 : ∀ (a0_25 : Nat) (i1_25 : Int32) (i2_25 : Int32) (w0_25 : Nat) (σ : ZT), f_X0_person_J25 a0_25 i1_25 i2_25 w0_25 σ = some out → ZW l G 4 X (ZQ G X (.returned (some (.int out.1))) out.2) σ 25 [(0, .ref a0_25), (1, .int i1_25), (2, .int i2_25)] [.ref w0_25] := by
    intro a0_25 i1_25 i2_25 w0_25 σ hf
    unfold f_X0_person_J25 at hf
    refine z_iconst (q := 26) C (1 : Int32) dX0_person_25 ki_1 rfl ?_
    exact j26_0 a0_25 i1_25 i2_25 (1 : Int32) w0_25 σ hf
  refine z_aload_n (q := 1) (i := 0) C 0 dX0_person_0 rfl rfl rfl ?_
  refine z_aload_n (q := 2) (i := 0) C 0 dX0_person_1 rfl rfl rfl ?_
  refine z_iload_n (q := 3) (i := 1) C 1 dX0_person_2 rfl rfl rfl ?_
  refine z_callVi (q := 6) (As := [.int i1]) C (fun o ho => m_X0_isPerson _ _ _ ho) zk0 vvX0_304 cdX0_isPerson pnX0 dX0_person_3 rfl (by decide) (Nat.le_of_ble_eq_true rfl) hf rfl fun v1 σ hf => ?_
  refine z_ifeq (q := 9) (tgt := 25) C dX0_person_6 (by decide) rfl hf (fun c6 hf => ?_) (fun c6 hf => ?_)
  · exact j25_0 a0 i1 i2 a0 σ hf
  · refine z_iload_n (q := 10) (i := 2) C 2 dX0_person_9 rfl rfl rfl ?_
    refine z_i2l (q := 11) C dX0_person_10 rfl ?_
    refine z_lconst (q := 12) C (0 : Int64) dX0_person_11 rfl rfl ?_
    refine z_ldc2 (q := 15) C q1216 dX0_person_12 rfl ?_
    refine z_callSi (q := 18) (As := [.long (i2.toInt64), .long (0 : Int64), .long (3 : Int64)]) C (fun o ho => m_X0_isIn _ _ _ _ ho) vsX0_196 cdX0_isIn pnX0 dX0_person_15 rfl (by decide) (Nat.le_of_ble_eq_true rfl) hf rfl fun v2 σ hf => ?_
    refine z_ifeq (q := 21) (tgt := 25) C dX0_person_18 (by decide) rfl hf (fun c18 hf => ?_) (fun c18 hf => ?_)
    · exact j25_0 a0 i1 i2 a0 σ hf
    · refine z_iconst (q := 22) C (0 : Int32) dX0_person_21 ki_0 rfl ?_
      refine z_goto (q := 26) C dX0_person_22 (by decide) ?_
      exact j26_0 a0 i1 i2 (0 : Int32) a0 σ hf

noncomputable def f_X0_isPlace (a0 : Nat) (i1 : Int32) (σ : ZT) : Option (Int32 × ZT) :=
  bnd2 (vc 0 a0 σ (f_X0_town_2 a0 σ)) fun v1 σ =>
  (gI 6 600 v1 σ).bind fun v2 =>
  bnd2 (f_X0_isIn (i1.toInt64) (0 : Int64) ((v2 - (1 : Int32)).toInt64) σ) fun v3 σ =>
  (rz v3).bind fun z4 =>
  some (z4, σ)
set_option maxHeartbeats 4000000 in
theorem m_X0_isPlace {l : Launch} {G : ZG} (a0 : Nat) (i1 : Int32) (σ : ZT) {out : (Int32 × ZT)} (hf : f_X0_isPlace a0 i1 σ = some out) : ZM l G yX0_isPlace cX0_isPlace 2 (some .boolean) [] 2 [.ref a0, .int i1] σ (.returned (some (.int out.1))) out.2 := by
  refine ZM.of [(0, .ref a0), (1, .int i1)] rfl (Nat.le_of_ble_eq_true rfl) fun X (C : ZC G RX0 "isPlace" cX0_isPlace 2 (some .boolean) [] X 2) => ?_
  unfold f_X0_isPlace at hf
  refine z_iload_n (q := 1) (i := 1) C 1 dX0_isPlace_0 rfl rfl rfl ?_
  refine z_i2l (q := 2) C dX0_isPlace_1 rfl ?_
  refine z_lconst (q := 3) C (0 : Int64) dX0_isPlace_2 rfl rfl ?_
  refine z_aload_n (q := 4) (i := 0) C 0 dX0_isPlace_3 rfl rfl rfl ?_
  refine z_callVr (q := 7) (As := []) C (fun o ho => m_X0_town_2 _ _ ho) zk0 vvX0_188 cdX0_town_2 pnX0 dX0_isPlace_4 rfl (by decide) (Nat.le_of_ble_eq_true rfl) hf rfl fun v1 σ hf => ?_
  refine z_getI (q := 10) C flX0_191 dX0_isPlace_7 hf rfl fun v2 hf => ?_
  refine z_iconst (q := 11) C (1 : Int32) dX0_isPlace_10 ki_1 rfl ?_
  refine z_isub (q := 12) C dX0_isPlace_11 rfl ?_
  refine z_i2l (q := 13) C dX0_isPlace_12 rfl ?_
  refine z_callSi (q := 16) (As := [.long (i1.toInt64), .long (0 : Int64), .long ((v2 - (1 : Int32)).toInt64)]) C (fun o ho => m_X0_isIn _ _ _ _ ho) vsX0_196 cdX0_isIn pnX0 dX0_isPlace_13 rfl (by decide) (Nat.le_of_ble_eq_true rfl) hf rfl fun v3 σ hf => ?_
  refine z_rz C hf fun hn hf => ?_
  exact z_zreturn C rfl hn dX0_isPlace_16 (Option.some.inj hf)

noncomputable def f_X0_stones_J37 (w0_37 : Int32) (σ : ZT) : Option (Int32 × ZT) :=
  some (w0_37, σ)
noncomputable def f_X0_stones_J14 (a0_14 : Nat) (i1_14 : Int32) (w0_14 : Int32) (w1_14 : Nat) (σ : ZT) : Option (Int32 × ZT) :=
  (pI 0 7 w1_14 w0_14 σ).bind fun σ =>
  (gI 0 7 a0_14 σ).bind fun v2 =>
  if 0 < v2 then
  (f_X0_stones_J37 (-1 : Int32) σ)
  else
  (bnd2 (vc 0 a0_14 σ (f_X0_town_2 a0_14 σ)) fun v3 σ =>
  (gR 6 605 v3 σ).bind fun v4 =>
  (ldI 0 v4 i1_14 σ).bind fun v5 =>
  f_X0_stones_J37 v5 σ)
noncomputable def f_X0_stones (a0 : Nat) (i1 : Int32) (σ : ZT) : Option (Int32 × ZT) :=
  bnd2 (vc 0 a0 σ (f_X0_isPlace a0 i1 σ)) fun v1 σ =>
  if v1 = 0 then
  (f_X0_stones_J14 a0 i1 (1 : Int32) a0 σ)
  else
  (f_X0_stones_J14 a0 i1 (0 : Int32) a0 σ)
set_option maxHeartbeats 4000000 in
theorem m_X0_stones {l : Launch} {G : ZG} (a0 : Nat) (i1 : Int32) (σ : ZT) {out : (Int32 × ZT)} (hf : f_X0_stones a0 i1 σ = some out) : ZM l G yX0_stones cX0_stones 2 (some .int) [] 3 [.ref a0, .int i1] σ (.returned (some (.int out.1))) out.2 := by
  refine ZM.of [(0, .ref a0), (1, .int i1)] rfl (Nat.le_of_ble_eq_true rfl) fun X (C : ZC G RX0 "stones" cX0_stones 2 (some .int) [] X 3) => ?_
  unfold f_X0_stones at hf
  have j37_0 : ∀ (w0_37 : Int32) (σ : ZT), f_X0_stones_J37 w0_37 σ = some out → ZW l G 2 X (ZQ G X (.returned (some (.int out.1))) out.2) σ 37 [] [.int w0_37] := by
    intro w0_37 σ hf
    unfold f_X0_stones_J37 at hf
    exact z_ireturn C rfl dX0_stones_37 (Option.some.inj hf)
  have j14_0 : ∀ (a0_14 : Nat) (i1_14 : Int32) (w0_14 : Int32) (w1_14 : Nat) (σ : ZT), f_X0_stones_J14 a0_14 i1_14 w0_14 w1_14 σ = some out → ZW l G 2 X (ZQ G X (.returned (some (.int out.1))) out.2) σ 14 [(0, .ref a0_14), (1, .int i1_14)] [.int w0_14, .ref w1_14] := by
    intro a0_14 i1_14 w0_14 w1_14 σ hf
    unfold f_X0_stones_J14 at hf
    refine z_putI (q := 17) C puX0_110 dX0_stones_14 hf rfl fun σ hf => ?_
    refine z_aload_n (q := 18) (i := 0) C 0 dX0_stones_17 rfl rfl rfl ?_
    refine z_getI (q := 21) C flX0_110 dX0_stones_18 hf rfl fun v2 hf => ?_
    refine z_ifle (q := 24) (tgt := 28) C dX0_stones_21 (by decide) rfl hf (fun c21 hf => ?_) (fun c21 hf => ?_)
    · refine z_aload_n (q := 29) (i := 0) C 0 dX0_stones_28 rfl rfl rfl ?_
      refine z_callVr (q := 32) (As := []) C (fun o ho => m_X0_town_2 _ _ ho) zk0 vvX0_188 cdX0_town_2 pnX0 dX0_stones_29 rfl (by decide) (Nat.le_of_ble_eq_true rfl) hf rfl fun v3 σ hf => ?_
      refine z_getR (q := 35) C flX0_335 dX0_stones_32 hf rfl fun v4 hf => ?_
      refine z_iload_n (q := 36) (i := 1) C 1 dX0_stones_35 rfl rfl rfl ?_
      refine z_iald (q := 37) C dX0_stones_36 hf rfl fun v5 hf => ?_
      refine z_lv [] rfl ?_
      exact j37_0 v5 σ hf
    · refine z_iconst (q := 25) C (-1 : Int32) dX0_stones_24 ki_m1 rfl ?_
      refine z_goto (q := 37) C dX0_stones_25 (by decide) ?_
      refine z_lv [] rfl ?_
      exact j37_0 (-1 : Int32) σ hf
  refine z_aload_n (q := 1) (i := 0) C 0 dX0_stones_0 rfl rfl rfl ?_
  refine z_aload_n (q := 2) (i := 0) C 0 dX0_stones_1 rfl rfl rfl ?_
  refine z_iload_n (q := 3) (i := 1) C 1 dX0_stones_2 rfl rfl rfl ?_
  refine z_callVi (q := 6) (As := [.int i1]) C (fun o ho => m_X0_isPlace _ _ _ ho) zk0 vvX0_332 cdX0_isPlace pnX0 dX0_stones_3 rfl (by decide) (Nat.le_of_ble_eq_true rfl) hf rfl fun v1 σ hf => ?_
  refine z_ifeq (q := 9) (tgt := 13) C dX0_stones_6 (by decide) rfl hf (fun c6 hf => ?_) (fun c6 hf => ?_)
  · refine z_iconst (q := 14) C (1 : Int32) dX0_stones_13 ki_1 rfl ?_
    exact j14_0 a0 i1 (1 : Int32) a0 σ hf
  · refine z_iconst (q := 10) C (0 : Int32) dX0_stones_9 ki_0 rfl ?_
    refine z_goto (q := 14) C dX0_stones_10 (by decide) ?_
    exact j14_0 a0 i1 (0 : Int32) a0 σ hf

noncomputable def f_X0_at_J40 (w0_40 : Int32) (σ : ZT) : Option (Int32 × ZT) :=
  some (w0_40, σ)
noncomputable def f_X0_at_J14 (a0_14 : Nat) (i1_14 : Int32) (w0_14 : Int32) (w1_14 : Nat) (σ : ZT) : Option (Int32 × ZT) :=
  (pI 0 7 w1_14 w0_14 σ).bind fun σ =>
  (gI 0 7 a0_14 σ).bind fun v2 =>
  if 0 < v2 then
  (f_X0_at_J40 (-1 : Int32) σ)
  else
  ((gR 0 10 a0_14 σ).bind fun v3 =>
  (gR 4 400 v3 σ).bind fun v4 =>
  (gR 5 501 v4 σ).bind fun v5 =>
  (ldI 0 v5 i1_14 σ).bind fun v6 =>
  f_X0_at_J40 v6 σ)
noncomputable def f_X0_at (a0 : Nat) (i1 : Int32) (σ : ZT) : Option (Int32 × ZT) :=
  bnd2 (vc 0 a0 σ (f_X0_isPerson a0 i1 σ)) fun v1 σ =>
  if v1 = 0 then
  (f_X0_at_J14 a0 i1 (1 : Int32) a0 σ)
  else
  (f_X0_at_J14 a0 i1 (0 : Int32) a0 σ)
set_option maxHeartbeats 4000000 in
theorem m_X0_at {l : Launch} {G : ZG} (a0 : Nat) (i1 : Int32) (σ : ZT) {out : (Int32 × ZT)} (hf : f_X0_at a0 i1 σ = some out) : ZM l G yX0_at cX0_at 2 (some .int) [] 3 [.ref a0, .int i1] σ (.returned (some (.int out.1))) out.2 := by
  refine ZM.of [(0, .ref a0), (1, .int i1)] rfl (Nat.le_of_ble_eq_true rfl) fun X (C : ZC G RX0 "at" cX0_at 2 (some .int) [] X 3) => ?_
  unfold f_X0_at at hf
  have j40_0 : ∀ (w0_40 : Int32) (σ : ZT), f_X0_at_J40 w0_40 σ = some out → ZW l G 2 X (ZQ G X (.returned (some (.int out.1))) out.2) σ 40 [] [.int w0_40] := by
    intro w0_40 σ hf
    unfold f_X0_at_J40 at hf
    exact z_ireturn C rfl dX0_at_40 (Option.some.inj hf)
  have j14_0 : ∀ (a0_14 : Nat) (i1_14 : Int32) (w0_14 : Int32) (w1_14 : Nat) (σ : ZT), f_X0_at_J14 a0_14 i1_14 w0_14 w1_14 σ = some out → ZW l G 2 X (ZQ G X (.returned (some (.int out.1))) out.2) σ 14 [(0, .ref a0_14), (1, .int i1_14)] [.int w0_14, .ref w1_14] := by
    intro a0_14 i1_14 w0_14 w1_14 σ hf
    unfold f_X0_at_J14 at hf
    refine z_putI (q := 17) C puX0_110 dX0_at_14 hf rfl fun σ hf => ?_
    refine z_aload_n (q := 18) (i := 0) C 0 dX0_at_17 rfl rfl rfl ?_
    refine z_getI (q := 21) C flX0_110 dX0_at_18 hf rfl fun v2 hf => ?_
    refine z_ifle (q := 24) (tgt := 28) C dX0_at_21 (by decide) rfl hf (fun c21 hf => ?_) (fun c21 hf => ?_)
    · refine z_aload_n (q := 29) (i := 0) C 0 dX0_at_28 rfl rfl rfl ?_
      refine z_getR (q := 32) C flX0_55 dX0_at_29 hf rfl fun v3 hf => ?_
      refine z_getR (q := 35) C flX0_183 dX0_at_32 hf rfl fun v4 hf => ?_
      refine z_getR (q := 38) C flX0_338 dX0_at_35 hf rfl fun v5 hf => ?_
      refine z_iload_n (q := 39) (i := 1) C 1 dX0_at_38 rfl rfl rfl ?_
      refine z_iald (q := 40) C dX0_at_39 hf rfl fun v6 hf => ?_
      refine z_lv [] rfl ?_
      exact j40_0 v6 σ hf
    · refine z_iconst (q := 25) C (-1 : Int32) dX0_at_24 ki_m1 rfl ?_
      refine z_goto (q := 40) C dX0_at_25 (by decide) ?_
      refine z_lv [] rfl ?_
      exact j40_0 (-1 : Int32) σ hf
  refine z_aload_n (q := 1) (i := 0) C 0 dX0_at_0 rfl rfl rfl ?_
  refine z_aload_n (q := 2) (i := 0) C 0 dX0_at_1 rfl rfl rfl ?_
  refine z_iload_n (q := 3) (i := 1) C 1 dX0_at_2 rfl rfl rfl ?_
  refine z_callVi (q := 6) (As := [.int i1]) C (fun o ho => m_X0_isPerson _ _ _ ho) zk0 vvX0_304 cdX0_isPerson pnX0 dX0_at_3 rfl (by decide) (Nat.le_of_ble_eq_true rfl) hf rfl fun v1 σ hf => ?_
  refine z_ifeq (q := 9) (tgt := 13) C dX0_at_6 (by decide) rfl hf (fun c6 hf => ?_) (fun c6 hf => ?_)
  · refine z_iconst (q := 14) C (1 : Int32) dX0_at_13 ki_1 rfl ?_
    exact j14_0 a0 i1 (1 : Int32) a0 σ hf
  · refine z_iconst (q := 10) C (0 : Int32) dX0_at_9 ki_0 rfl ?_
    refine z_goto (q := 14) C dX0_at_10 (by decide) ?_
    exact j14_0 a0 i1 (0 : Int32) a0 σ hf

noncomputable def f_X0_carries_J43 (w0_43 : Int32) (σ : ZT) : Option (Int32 × ZT) :=
  some (w0_43, σ)
noncomputable def f_X0_carries_J14 (a0_14 : Nat) (i1_14 : Int32) (w0_14 : Int32) (w1_14 : Nat) (σ : ZT) : Option (Int32 × ZT) :=
  (pI 0 7 w1_14 w0_14 σ).bind fun σ =>
  (gI 0 7 a0_14 σ).bind fun v2 =>
  if 0 < v2 then
  (f_X0_carries_J43 (-1 : Int32) σ)
  else
  ((gR 0 10 a0_14 σ).bind fun v3 =>
  (gR 4 400 v3 σ).bind fun v4 =>
  bnd2 (vc 5 v4 σ (f_X5_carried v4 i1_14 σ)) fun v5 σ =>
  bnd2 (vc 0 a0_14 σ (f_X0_answer a0_14 v5 σ)) fun v6 σ =>
  f_X0_carries_J43 v6 σ)
noncomputable def f_X0_carries (a0 : Nat) (i1 : Int32) (σ : ZT) : Option (Int32 × ZT) :=
  bnd2 (vc 0 a0 σ (f_X0_isPerson a0 i1 σ)) fun v1 σ =>
  if v1 = 0 then
  (f_X0_carries_J14 a0 i1 (1 : Int32) a0 σ)
  else
  (f_X0_carries_J14 a0 i1 (0 : Int32) a0 σ)
set_option maxHeartbeats 4000000 in
theorem m_X0_carries {l : Launch} {G : ZG} (a0 : Nat) (i1 : Int32) (σ : ZT) {out : (Int32 × ZT)} (hf : f_X0_carries a0 i1 σ = some out) : ZM l G yX0_carries cX0_carries 2 (some .int) [] 3 [.ref a0, .int i1] σ (.returned (some (.int out.1))) out.2 := by
  refine ZM.of [(0, .ref a0), (1, .int i1)] rfl (Nat.le_of_ble_eq_true rfl) fun X (C : ZC G RX0 "carries" cX0_carries 2 (some .int) [] X 3) => ?_
  unfold f_X0_carries at hf
  have j43_0 : ∀ (w0_43 : Int32) (σ : ZT), f_X0_carries_J43 w0_43 σ = some out → ZW l G 2 X (ZQ G X (.returned (some (.int out.1))) out.2) σ 43 [] [.int w0_43] := by
    intro w0_43 σ hf
    unfold f_X0_carries_J43 at hf
    exact z_ireturn C rfl dX0_carries_43 (Option.some.inj hf)
  have j14_0 : ∀ (a0_14 : Nat) (i1_14 : Int32) (w0_14 : Int32) (w1_14 : Nat) (σ : ZT), f_X0_carries_J14 a0_14 i1_14 w0_14 w1_14 σ = some out → ZW l G 2 X (ZQ G X (.returned (some (.int out.1))) out.2) σ 14 [(0, .ref a0_14), (1, .int i1_14)] [.int w0_14, .ref w1_14] := by
    intro a0_14 i1_14 w0_14 w1_14 σ hf
    unfold f_X0_carries_J14 at hf
    refine z_putI (q := 17) C puX0_110 dX0_carries_14 hf rfl fun σ hf => ?_
    refine z_aload_n (q := 18) (i := 0) C 0 dX0_carries_17 rfl rfl rfl ?_
    refine z_getI (q := 21) C flX0_110 dX0_carries_18 hf rfl fun v2 hf => ?_
    refine z_ifle (q := 24) (tgt := 28) C dX0_carries_21 (by decide) rfl hf (fun c21 hf => ?_) (fun c21 hf => ?_)
    · refine z_aload_n (q := 29) (i := 0) C 0 dX0_carries_28 rfl rfl rfl ?_
      refine z_aload_n (q := 30) (i := 0) C 0 dX0_carries_29 rfl rfl rfl ?_
      refine z_getR (q := 33) C flX0_55 dX0_carries_30 hf rfl fun v3 hf => ?_
      refine z_getR (q := 36) C flX0_183 dX0_carries_33 hf rfl fun v4 hf => ?_
      refine z_iload_n (q := 37) (i := 1) C 1 dX0_carries_36 rfl rfl rfl ?_
      refine z_callVi (q := 40) (As := [.int i1_14]) C (fun o ho => m_X5_carried _ _ _ ho) zk5 vvX0_341 cdX5_carried pnX5 dX0_carries_37 rfl (by decide) (Nat.le_of_ble_eq_true rfl) hf rfl fun v5 σ hf => ?_
      refine z_callVi (q := 43) (As := [.int v5]) C (fun o ho => m_X0_answer _ _ _ ho) zk0 vvX0_321 cdX0_answer pnX0 dX0_carries_40 rfl (by decide) (Nat.le_of_ble_eq_true rfl) hf rfl fun v6 σ hf => ?_
      refine z_lv [] rfl ?_
      exact j43_0 v6 σ hf
    · refine z_iconst (q := 25) C (-1 : Int32) dX0_carries_24 ki_m1 rfl ?_
      refine z_goto (q := 43) C dX0_carries_25 (by decide) ?_
      refine z_lv [] rfl ?_
      exact j43_0 (-1 : Int32) σ hf
  refine z_aload_n (q := 1) (i := 0) C 0 dX0_carries_0 rfl rfl rfl ?_
  refine z_aload_n (q := 2) (i := 0) C 0 dX0_carries_1 rfl rfl rfl ?_
  refine z_iload_n (q := 3) (i := 1) C 1 dX0_carries_2 rfl rfl rfl ?_
  refine z_callVi (q := 6) (As := [.int i1]) C (fun o ho => m_X0_isPerson _ _ _ ho) zk0 vvX0_304 cdX0_isPerson pnX0 dX0_carries_3 rfl (by decide) (Nat.le_of_ble_eq_true rfl) hf rfl fun v1 σ hf => ?_
  refine z_ifeq (q := 9) (tgt := 13) C dX0_carries_6 (by decide) rfl hf (fun c6 hf => ?_) (fun c6 hf => ?_)
  · refine z_iconst (q := 14) C (1 : Int32) dX0_carries_13 ki_1 rfl ?_
    exact j14_0 a0 i1 (1 : Int32) a0 σ hf
  · refine z_iconst (q := 10) C (0 : Int32) dX0_carries_9 ki_0 rfl ?_
    refine z_goto (q := 14) C dX0_carries_10 (by decide) ?_
    exact j14_0 a0 i1 (0 : Int32) a0 σ hf

noncomputable def f_X0_isLoad (a0 : Nat) (i1 : Int32) (σ : ZT) : Option (Int32 × ZT) :=
  bnd2 (vc 0 a0 σ (f_X0_town_2 a0 σ)) fun v1 σ =>
  (gI 6 603 v1 σ).bind fun v2 =>
  bnd2 (f_X0_isIn (i1.toInt64) (0 : Int64) ((v2 - (1 : Int32)).toInt64) σ) fun v3 σ =>
  (rz v3).bind fun z4 =>
  some (z4, σ)
set_option maxHeartbeats 4000000 in
theorem m_X0_isLoad {l : Launch} {G : ZG} (a0 : Nat) (i1 : Int32) (σ : ZT) {out : (Int32 × ZT)} (hf : f_X0_isLoad a0 i1 σ = some out) : ZM l G yX0_isLoad cX0_isLoad 2 (some .boolean) [] 2 [.ref a0, .int i1] σ (.returned (some (.int out.1))) out.2 := by
  refine ZM.of [(0, .ref a0), (1, .int i1)] rfl (Nat.le_of_ble_eq_true rfl) fun X (C : ZC G RX0 "isLoad" cX0_isLoad 2 (some .boolean) [] X 2) => ?_
  unfold f_X0_isLoad at hf
  refine z_iload_n (q := 1) (i := 1) C 1 dX0_isLoad_0 rfl rfl rfl ?_
  refine z_i2l (q := 2) C dX0_isLoad_1 rfl ?_
  refine z_lconst (q := 3) C (0 : Int64) dX0_isLoad_2 rfl rfl ?_
  refine z_aload_n (q := 4) (i := 0) C 0 dX0_isLoad_3 rfl rfl rfl ?_
  refine z_callVr (q := 7) (As := []) C (fun o ho => m_X0_town_2 _ _ ho) zk0 vvX0_188 cdX0_town_2 pnX0 dX0_isLoad_4 rfl (by decide) (Nat.le_of_ble_eq_true rfl) hf rfl fun v1 σ hf => ?_
  refine z_getI (q := 10) C flX0_206 dX0_isLoad_7 hf rfl fun v2 hf => ?_
  refine z_iconst (q := 11) C (1 : Int32) dX0_isLoad_10 ki_1 rfl ?_
  refine z_isub (q := 12) C dX0_isLoad_11 rfl ?_
  refine z_i2l (q := 13) C dX0_isLoad_12 rfl ?_
  refine z_callSi (q := 16) (As := [.long (i1.toInt64), .long (0 : Int64), .long ((v2 - (1 : Int32)).toInt64)]) C (fun o ho => m_X0_isIn _ _ _ _ ho) vsX0_196 cdX0_isIn pnX0 dX0_isLoad_13 rfl (by decide) (Nat.le_of_ble_eq_true rfl) hf rfl fun v3 σ hf => ?_
  refine z_rz C hf fun hn hf => ?_
  exact z_zreturn C rfl hn dX0_isLoad_16 (Option.some.inj hf)

noncomputable def f_X0_load_J68 (w0_68 : Int32) (σ : ZT) : Option (Int32 × ZT) :=
  some (w0_68, σ)
noncomputable def f_X0_load_J24 (a0_24 : Nat) (i1_24 : Int32) (i2_24 : Int32) (w0_24 : Int32) (w1_24 : Nat) (σ : ZT) : Option (Int32 × ZT) :=
  (pI 0 7 w1_24 w0_24 σ).bind fun σ =>
  (gI 0 7 a0_24 σ).bind fun v3 =>
  if 0 < v3 then
  (f_X0_load_J68 (-1 : Int32) σ)
  else
  (if i2_24 = 0 then
  (bnd2 (vc 0 a0_24 σ (f_X0_town_2 a0_24 σ)) fun v7 σ =>
  (gR 6 608 v7 σ).bind fun v8 =>
  (ldR 8 v8 i1_24 σ).bind fun v9 =>
  (gI 13 1301 v9 σ).bind fun v10 =>
  f_X0_load_J68 v10 σ)
  else
  ((gR 0 10 a0_24 σ).bind fun v4 =>
  (gR 4 400 v4 σ).bind fun v5 =>
  bnd2 (vc 5 v5 σ (f_X5_placeOf v5 i1_24 σ)) fun v6 σ =>
  f_X0_load_J68 v6 σ))
noncomputable def f_X0_load_J23 (a0_23 : Nat) (i1_23 : Int32) (i2_23 : Int32) (w0_23 : Nat) (σ : ZT) : Option (Int32 × ZT) :=
  f_X0_load_J24 a0_23 i1_23 i2_23 (1 : Int32) w0_23 σ
noncomputable def f_X0_load (a0 : Nat) (i1 : Int32) (i2 : Int32) (σ : ZT) : Option (Int32 × ZT) :=
  bnd2 (vc 0 a0 σ (f_X0_isLoad a0 i1 σ)) fun v1 σ =>
  if v1 = 0 then
  (f_X0_load_J23 a0 i1 i2 a0 σ)
  else
  (bnd2 (f_X0_isIn (i2.toInt64) (0 : Int64) (1 : Int64) σ) fun v2 σ =>
  if v2 = 0 then
  (f_X0_load_J23 a0 i1 i2 a0 σ)
  else
  (f_X0_load_J24 a0 i1 i2 (0 : Int32) a0 σ))
set_option maxHeartbeats 4000000 in
theorem m_X0_load {l : Launch} {G : ZG} (a0 : Nat) (i1 : Int32) (i2 : Int32) (σ : ZT) {out : (Int32 × ZT)} (hf : f_X0_load a0 i1 i2 σ = some out) : ZM l G yX0_load cX0_load 3 (some .int) [] 3 [.ref a0, .int i1, .int i2] σ (.returned (some (.int out.1))) out.2 := by
  refine ZM.of [(0, .ref a0), (1, .int i1), (2, .int i2)] rfl (Nat.le_of_ble_eq_true rfl) fun X (C : ZC G RX0 "load" cX0_load 3 (some .int) [] X 3) => ?_
  unfold f_X0_load at hf
  have j68_0 : ∀ (w0_68 : Int32) (σ : ZT), f_X0_load_J68 w0_68 σ = some out → ZW l G 3 X (ZQ G X (.returned (some (.int out.1))) out.2) σ 68 [] [.int w0_68] := by
    intro w0_68 σ hf
    unfold f_X0_load_J68 at hf
    exact z_ireturn C rfl dX0_load_68 (Option.some.inj hf)
  have j24_0 : ∀ (a0_24 : Nat) (i1_24 : Int32) (i2_24 : Int32) (w0_24 : Int32) (w1_24 : Nat) (σ : ZT), f_X0_load_J24 a0_24 i1_24 i2_24 w0_24 w1_24 σ = some out → ZW l G 3 X (ZQ G X (.returned (some (.int out.1))) out.2) σ 24 [(0, .ref a0_24), (1, .int i1_24), (2, .int i2_24)] [.int w0_24, .ref w1_24] := by
    intro a0_24 i1_24 i2_24 w0_24 w1_24 σ hf
    unfold f_X0_load_J24 at hf
    refine z_putI (q := 27) C puX0_110 dX0_load_24 hf rfl fun σ hf => ?_
    refine z_aload_n (q := 28) (i := 0) C 0 dX0_load_27 rfl rfl rfl ?_
    refine z_getI (q := 31) C flX0_110 dX0_load_28 hf rfl fun v3 hf => ?_
    refine z_ifle (q := 34) (tgt := 38) C dX0_load_31 (by decide) rfl hf (fun c31 hf => ?_) (fun c31 hf => ?_)
    · refine z_iload_n (q := 39) (i := 2) C 2 dX0_load_38 rfl rfl rfl ?_
      refine z_ifne (q := 42) (tgt := 57) C dX0_load_39 (by decide) rfl hf (fun c39 hf => ?_) (fun c39 hf => ?_)
      · refine z_aload_n (q := 58) (i := 0) C 0 dX0_load_57 rfl rfl rfl ?_
        refine z_getR (q := 61) C flX0_55 dX0_load_58 hf rfl fun v4 hf => ?_
        refine z_getR (q := 64) C flX0_183 dX0_load_61 hf rfl fun v5 hf => ?_
        refine z_iload_n (q := 65) (i := 1) C 1 dX0_load_64 rfl rfl rfl ?_
        refine z_callVi (q := 68) (As := [.int i1_24]) C (fun o ho => m_X5_placeOf _ _ _ ho) zk5 vvX0_354 cdX5_placeOf pnX5 dX0_load_65 rfl (by decide) (Nat.le_of_ble_eq_true rfl) hf rfl fun v6 σ hf => ?_
        refine z_lv [] rfl ?_
        exact j68_0 v6 σ hf
      · refine z_aload_n (q := 43) (i := 0) C 0 dX0_load_42 rfl rfl rfl ?_
        refine z_callVr (q := 46) (As := []) C (fun o ho => m_X0_town_2 _ _ ho) zk0 vvX0_188 cdX0_town_2 pnX0 dX0_load_43 rfl (by decide) (Nat.le_of_ble_eq_true rfl) hf rfl fun v7 σ hf => ?_
        refine z_getR (q := 49) C flX0_347 dX0_load_46 hf rfl fun v8 hf => ?_
        refine z_iload_n (q := 50) (i := 1) C 1 dX0_load_49 rfl rfl rfl ?_
        refine z_aaldR (q := 51) C 8 (by decide) (by decide) dX0_load_50 hf rfl fun v9 hf => ?_
        refine z_getI (q := 54) C flX0_351 dX0_load_51 hf rfl fun v10 hf => ?_
        refine z_goto (q := 68) C dX0_load_54 (by decide) ?_
        refine z_lv [] rfl ?_
        exact j68_0 v10 σ hf
    · refine z_iconst (q := 35) C (-1 : Int32) dX0_load_34 ki_m1 rfl ?_
      refine z_goto (q := 68) C dX0_load_35 (by decide) ?_
      refine z_lv [] rfl ?_
      exact j68_0 (-1 : Int32) σ hf
  have j23_0 : ∀ (a0_23 : Nat) (i1_23 : Int32) (i2_23 : Int32) (w0_23 : Nat) (σ : ZT), f_X0_load_J23 a0_23 i1_23 i2_23 w0_23 σ = some out → ZW l G 3 X (ZQ G X (.returned (some (.int out.1))) out.2) σ 23 [(0, .ref a0_23), (1, .int i1_23), (2, .int i2_23)] [.ref w0_23] := by
    intro a0_23 i1_23 i2_23 w0_23 σ hf
    unfold f_X0_load_J23 at hf
    refine z_iconst (q := 24) C (1 : Int32) dX0_load_23 ki_1 rfl ?_
    exact j24_0 a0_23 i1_23 i2_23 (1 : Int32) w0_23 σ hf
  refine z_aload_n (q := 1) (i := 0) C 0 dX0_load_0 rfl rfl rfl ?_
  refine z_aload_n (q := 2) (i := 0) C 0 dX0_load_1 rfl rfl rfl ?_
  refine z_iload_n (q := 3) (i := 1) C 1 dX0_load_2 rfl rfl rfl ?_
  refine z_callVi (q := 6) (As := [.int i1]) C (fun o ho => m_X0_isLoad _ _ _ ho) zk0 vvX0_344 cdX0_isLoad pnX0 dX0_load_3 rfl (by decide) (Nat.le_of_ble_eq_true rfl) hf rfl fun v1 σ hf => ?_
  refine z_ifeq (q := 9) (tgt := 23) C dX0_load_6 (by decide) rfl hf (fun c6 hf => ?_) (fun c6 hf => ?_)
  · exact j23_0 a0 i1 i2 a0 σ hf
  · refine z_iload_n (q := 10) (i := 2) C 2 dX0_load_9 rfl rfl rfl ?_
    refine z_i2l (q := 11) C dX0_load_10 rfl ?_
    refine z_lconst (q := 12) C (0 : Int64) dX0_load_11 rfl rfl ?_
    refine z_lconst (q := 13) C (1 : Int64) dX0_load_12 rfl rfl ?_
    refine z_callSi (q := 16) (As := [.long (i2.toInt64), .long (0 : Int64), .long (1 : Int64)]) C (fun o ho => m_X0_isIn _ _ _ _ ho) vsX0_196 cdX0_isIn pnX0 dX0_load_13 rfl (by decide) (Nat.le_of_ble_eq_true rfl) hf rfl fun v2 σ hf => ?_
    refine z_ifeq (q := 19) (tgt := 23) C dX0_load_16 (by decide) rfl hf (fun c16 hf => ?_) (fun c16 hf => ?_)
    · exact j23_0 a0 i1 i2 a0 σ hf
    · refine z_iconst (q := 20) C (0 : Int32) dX0_load_19 ki_0 rfl ?_
      refine z_goto (q := 24) C dX0_load_20 (by decide) ?_
      exact j24_0 a0 i1 i2 (0 : Int32) a0 σ hf

noncomputable def f_X0_weight_J39 (w0_39 : Int32) (σ : ZT) : Option (Int32 × ZT) :=
  some (w0_39, σ)
noncomputable def f_X0_weight_J14 (a0_14 : Nat) (i1_14 : Int32) (w0_14 : Int32) (w1_14 : Nat) (σ : ZT) : Option (Int32 × ZT) :=
  (pI 0 7 w1_14 w0_14 σ).bind fun σ =>
  (gI 0 7 a0_14 σ).bind fun v2 =>
  if 0 < v2 then
  (f_X0_weight_J39 (-1 : Int32) σ)
  else
  ((gR 0 10 a0_14 σ).bind fun v3 =>
  (gR 4 400 v3 σ).bind fun v4 =>
  bnd2 (vc 5 v4 σ (f_X5_weight v4 i1_14 σ)) fun v5 σ =>
  f_X0_weight_J39 v5 σ)
noncomputable def f_X0_weight (a0 : Nat) (i1 : Int32) (σ : ZT) : Option (Int32 × ZT) :=
  bnd2 (vc 0 a0 σ (f_X0_isPlace a0 i1 σ)) fun v1 σ =>
  if v1 = 0 then
  (f_X0_weight_J14 a0 i1 (1 : Int32) a0 σ)
  else
  (f_X0_weight_J14 a0 i1 (0 : Int32) a0 σ)
set_option maxHeartbeats 4000000 in
theorem m_X0_weight {l : Launch} {G : ZG} (a0 : Nat) (i1 : Int32) (σ : ZT) {out : (Int32 × ZT)} (hf : f_X0_weight a0 i1 σ = some out) : ZM l G yX0_weight cX0_weight 2 (some .int) [] 3 [.ref a0, .int i1] σ (.returned (some (.int out.1))) out.2 := by
  refine ZM.of [(0, .ref a0), (1, .int i1)] rfl (Nat.le_of_ble_eq_true rfl) fun X (C : ZC G RX0 "weight" cX0_weight 2 (some .int) [] X 3) => ?_
  unfold f_X0_weight at hf
  have j39_0 : ∀ (w0_39 : Int32) (σ : ZT), f_X0_weight_J39 w0_39 σ = some out → ZW l G 2 X (ZQ G X (.returned (some (.int out.1))) out.2) σ 39 [] [.int w0_39] := by
    intro w0_39 σ hf
    unfold f_X0_weight_J39 at hf
    exact z_ireturn C rfl dX0_weight_39 (Option.some.inj hf)
  have j14_0 : ∀ (a0_14 : Nat) (i1_14 : Int32) (w0_14 : Int32) (w1_14 : Nat) (σ : ZT), f_X0_weight_J14 a0_14 i1_14 w0_14 w1_14 σ = some out → ZW l G 2 X (ZQ G X (.returned (some (.int out.1))) out.2) σ 14 [(0, .ref a0_14), (1, .int i1_14)] [.int w0_14, .ref w1_14] := by
    intro a0_14 i1_14 w0_14 w1_14 σ hf
    unfold f_X0_weight_J14 at hf
    refine z_putI (q := 17) C puX0_110 dX0_weight_14 hf rfl fun σ hf => ?_
    refine z_aload_n (q := 18) (i := 0) C 0 dX0_weight_17 rfl rfl rfl ?_
    refine z_getI (q := 21) C flX0_110 dX0_weight_18 hf rfl fun v2 hf => ?_
    refine z_ifle (q := 24) (tgt := 28) C dX0_weight_21 (by decide) rfl hf (fun c21 hf => ?_) (fun c21 hf => ?_)
    · refine z_aload_n (q := 29) (i := 0) C 0 dX0_weight_28 rfl rfl rfl ?_
      refine z_getR (q := 32) C flX0_55 dX0_weight_29 hf rfl fun v3 hf => ?_
      refine z_getR (q := 35) C flX0_183 dX0_weight_32 hf rfl fun v4 hf => ?_
      refine z_iload_n (q := 36) (i := 1) C 1 dX0_weight_35 rfl rfl rfl ?_
      refine z_callVi (q := 39) (As := [.int i1_14]) C (fun o ho => m_X5_weight _ _ _ ho) zk5 vvX0_357 cdX5_weight pnX5 dX0_weight_36 rfl (by decide) (Nat.le_of_ble_eq_true rfl) hf rfl fun v5 σ hf => ?_
      refine z_lv [] rfl ?_
      exact j39_0 v5 σ hf
    · refine z_iconst (q := 25) C (-1 : Int32) dX0_weight_24 ki_m1 rfl ?_
      refine z_goto (q := 39) C dX0_weight_25 (by decide) ?_
      refine z_lv [] rfl ?_
      exact j39_0 (-1 : Int32) σ hf
  refine z_aload_n (q := 1) (i := 0) C 0 dX0_weight_0 rfl rfl rfl ?_
  refine z_aload_n (q := 2) (i := 0) C 0 dX0_weight_1 rfl rfl rfl ?_
  refine z_iload_n (q := 3) (i := 1) C 1 dX0_weight_2 rfl rfl rfl ?_
  refine z_callVi (q := 6) (As := [.int i1]) C (fun o ho => m_X0_isPlace _ _ _ ho) zk0 vvX0_332 cdX0_isPlace pnX0 dX0_weight_3 rfl (by decide) (Nat.le_of_ble_eq_true rfl) hf rfl fun v1 σ hf => ?_
  refine z_ifeq (q := 9) (tgt := 13) C dX0_weight_6 (by decide) rfl hf (fun c6 hf => ?_) (fun c6 hf => ?_)
  · refine z_iconst (q := 14) C (1 : Int32) dX0_weight_13 ki_1 rfl ?_
    exact j14_0 a0 i1 (1 : Int32) a0 σ hf
  · refine z_iconst (q := 10) C (0 : Int32) dX0_weight_9 ki_0 rfl ?_
    refine z_goto (q := 14) C dX0_weight_10 (by decide) ?_
    exact j14_0 a0 i1 (0 : Int32) a0 σ hf

noncomputable def f_X0_hangs_J47 (w0_47 : Int32) (σ : ZT) : Option (Int32 × ZT) :=
  some (w0_47, σ)
noncomputable def f_X0_hangs_J14 (a0_14 : Nat) (i1_14 : Int32) (w0_14 : Int32) (w1_14 : Nat) (σ : ZT) : Option (Int32 × ZT) :=
  (pI 0 7 w1_14 w0_14 σ).bind fun σ =>
  (gI 0 7 a0_14 σ).bind fun v2 =>
  if 0 < v2 then
  (f_X0_hangs_J47 (-1 : Int32) σ)
  else
  ((gR 0 10 a0_14 σ).bind fun v3 =>
  (gR 4 400 v3 σ).bind fun v4 =>
  bnd2 (vc 5 v4 σ (f_X5_hangs v4 i1_14 σ)) fun v5 σ =>
  if v5 = 0 then
  (f_X0_hangs_J47 (0 : Int32) σ)
  else
  (f_X0_hangs_J47 (1 : Int32) σ))
noncomputable def f_X0_hangs (a0 : Nat) (i1 : Int32) (σ : ZT) : Option (Int32 × ZT) :=
  bnd2 (vc 0 a0 σ (f_X0_isBridge a0 i1 σ)) fun v1 σ =>
  if v1 = 0 then
  (f_X0_hangs_J14 a0 i1 (1 : Int32) a0 σ)
  else
  (f_X0_hangs_J14 a0 i1 (0 : Int32) a0 σ)
set_option maxHeartbeats 4000000 in
theorem m_X0_hangs {l : Launch} {G : ZG} (a0 : Nat) (i1 : Int32) (σ : ZT) {out : (Int32 × ZT)} (hf : f_X0_hangs a0 i1 σ = some out) : ZM l G yX0_hangs cX0_hangs 2 (some .int) [] 5 [.ref a0, .int i1] σ (.returned (some (.int out.1))) out.2 := by
  refine ZM.of [(0, .ref a0), (1, .int i1)] rfl (Nat.le_of_ble_eq_true rfl) fun X (C : ZC G RX0 "hangs" cX0_hangs 2 (some .int) [] X 5) => ?_
  unfold f_X0_hangs at hf
  have j47_0 : ∀ (w0_47 : Int32) (σ : ZT), f_X0_hangs_J47 w0_47 σ = some out → ZW l G 2 X (ZQ G X (.returned (some (.int out.1))) out.2) σ 47 [] [.int w0_47] := by
    intro w0_47 σ hf
    unfold f_X0_hangs_J47 at hf
    exact z_ireturn C rfl dX0_hangs_47 (Option.some.inj hf)
  have j14_0 : ∀ (a0_14 : Nat) (i1_14 : Int32) (w0_14 : Int32) (w1_14 : Nat) (σ : ZT), f_X0_hangs_J14 a0_14 i1_14 w0_14 w1_14 σ = some out → ZW l G 2 X (ZQ G X (.returned (some (.int out.1))) out.2) σ 14 [(0, .ref a0_14), (1, .int i1_14)] [.int w0_14, .ref w1_14] := by
    intro a0_14 i1_14 w0_14 w1_14 σ hf
    unfold f_X0_hangs_J14 at hf
    refine z_putI (q := 17) C puX0_110 dX0_hangs_14 hf rfl fun σ hf => ?_
    refine z_aload_n (q := 18) (i := 0) C 0 dX0_hangs_17 rfl rfl rfl ?_
    refine z_getI (q := 21) C flX0_110 dX0_hangs_18 hf rfl fun v2 hf => ?_
    refine z_ifle (q := 24) (tgt := 28) C dX0_hangs_21 (by decide) rfl hf (fun c21 hf => ?_) (fun c21 hf => ?_)
    · refine z_aload_n (q := 29) (i := 0) C 0 dX0_hangs_28 rfl rfl rfl ?_
      refine z_getR (q := 32) C flX0_55 dX0_hangs_29 hf rfl fun v3 hf => ?_
      refine z_getR (q := 35) C flX0_183 dX0_hangs_32 hf rfl fun v4 hf => ?_
      refine z_iload_n (q := 36) (i := 1) C 1 dX0_hangs_35 rfl rfl rfl ?_
      refine z_callVi (q := 39) (As := [.int i1_14]) C (fun o ho => m_X5_hangs _ _ _ ho) zk5 vvX0_359 cdX5_hangs pnX5 dX0_hangs_36 rfl (by decide) (Nat.le_of_ble_eq_true rfl) hf rfl fun v5 σ hf => ?_
      refine z_ifeq (q := 42) (tgt := 46) C dX0_hangs_39 (by decide) rfl hf (fun c39 hf => ?_) (fun c39 hf => ?_)
      · refine z_iconst (q := 47) C (0 : Int32) dX0_hangs_46 ki_0 rfl ?_
        refine z_lv [] rfl ?_
        exact j47_0 (0 : Int32) σ hf
      · refine z_iconst (q := 43) C (1 : Int32) dX0_hangs_42 ki_1 rfl ?_
        refine z_goto (q := 47) C dX0_hangs_43 (by decide) ?_
        refine z_lv [] rfl ?_
        exact j47_0 (1 : Int32) σ hf
    · refine z_iconst (q := 25) C (-1 : Int32) dX0_hangs_24 ki_m1 rfl ?_
      refine z_goto (q := 47) C dX0_hangs_25 (by decide) ?_
      refine z_lv [] rfl ?_
      exact j47_0 (-1 : Int32) σ hf
  refine z_aload_n (q := 1) (i := 0) C 0 dX0_hangs_0 rfl rfl rfl ?_
  refine z_aload_n (q := 2) (i := 0) C 0 dX0_hangs_1 rfl rfl rfl ?_
  refine z_iload_n (q := 3) (i := 1) C 1 dX0_hangs_2 rfl rfl rfl ?_
  refine z_callVi (q := 6) (As := [.int i1]) C (fun o ho => m_X0_isBridge _ _ _ ho) zk0 vvX0_262 cdX0_isBridge pnX0 dX0_hangs_3 rfl (by decide) (Nat.le_of_ble_eq_true rfl) hf rfl fun v1 σ hf => ?_
  refine z_ifeq (q := 9) (tgt := 13) C dX0_hangs_6 (by decide) rfl hf (fun c6 hf => ?_) (fun c6 hf => ?_)
  · refine z_iconst (q := 14) C (1 : Int32) dX0_hangs_13 ki_1 rfl ?_
    exact j14_0 a0 i1 (1 : Int32) a0 σ hf
  · refine z_iconst (q := 10) C (0 : Int32) dX0_hangs_9 ki_0 rfl ?_
    refine z_goto (q := 14) C dX0_hangs_10 (by decide) ?_
    exact j14_0 a0 i1 (0 : Int32) a0 σ hf

noncomputable def f_X0_put_2_J57 (w0_57 : Int32) (σ : ZT) : Option (Int32 × ZT) :=
  (rz w0_57).bind fun z8 =>
  some (z8, σ)
noncomputable def f_X0_put_2_J45 (a0_45 : Nat) (σ : ZT) : Option (Int32 × ZT) :=
  (gI 0 7 a0_45 σ).bind fun v7 =>
  if v7 = 0 then
  (f_X0_put_2_J57 (1 : Int32) σ)
  else
  (f_X0_put_2_J57 (0 : Int32) σ)
noncomputable def f_X0_put_2_J22 (a0_22 : Nat) (i1_22 : Int32) (i2_22 : Int32) (w0_22 : Int32) (w1_22 : Nat) (σ : ZT) : Option (Int32 × ZT) :=
  (pI 0 7 w1_22 w0_22 σ).bind fun σ =>
  (gI 0 7 a0_22 σ).bind fun v3 =>
  if v3 = 0 then
  ((gR 0 10 a0_22 σ).bind fun v4 =>
  (gR 4 400 v4 σ).bind fun v5 =>
  (gR 5 501 v5 σ).bind fun v6 =>
  (stI v6 i1_22 i2_22 σ).bind fun σ =>
  f_X0_put_2_J45 a0_22 σ)
  else
  (f_X0_put_2_J45 a0_22 σ)
noncomputable def f_X0_put_2_J21 (a0_21 : Nat) (i1_21 : Int32) (i2_21 : Int32) (w0_21 : Nat) (σ : ZT) : Option (Int32 × ZT) :=
  f_X0_put_2_J22 a0_21 i1_21 i2_21 (1 : Int32) w0_21 σ
noncomputable def f_X0_put_2 (a0 : Nat) (i1 : Int32) (i2 : Int32) (σ : ZT) : Option (Int32 × ZT) :=
  bnd2 (vc 0 a0 σ (f_X0_isPerson a0 i1 σ)) fun v1 σ =>
  if v1 = 0 then
  (f_X0_put_2_J21 a0 i1 i2 a0 σ)
  else
  (bnd2 (vc 0 a0 σ (f_X0_isPlace a0 i2 σ)) fun v2 σ =>
  if v2 = 0 then
  (f_X0_put_2_J21 a0 i1 i2 a0 σ)
  else
  (f_X0_put_2_J22 a0 i1 i2 (0 : Int32) a0 σ))
set_option maxHeartbeats 4000000 in
theorem m_X0_put_2 {l : Launch} {G : ZG} (a0 : Nat) (i1 : Int32) (i2 : Int32) (σ : ZT) {out : (Int32 × ZT)} (hf : f_X0_put_2 a0 i1 i2 σ = some out) : ZM l G yX0_put_2 cX0_put_2 3 (some .boolean) [] 3 [.ref a0, .int i1, .int i2] σ (.returned (some (.int out.1))) out.2 := by
  refine ZM.of [(0, .ref a0), (1, .int i1), (2, .int i2)] rfl (Nat.le_of_ble_eq_true rfl) fun X (C : ZC G RX0 "put" cX0_put_2 3 (some .boolean) [] X 3) => ?_
  unfold f_X0_put_2 at hf
  have j57_0 : ∀ (w0_57 : Int32) (σ : ZT), f_X0_put_2_J57 w0_57 σ = some out → ZW l G 3 X (ZQ G X (.returned (some (.int out.1))) out.2) σ 57 [] [.int w0_57] := by
    intro w0_57 σ hf
    unfold f_X0_put_2_J57 at hf
    refine z_rz C hf fun hn hf => ?_
    exact z_zreturn C rfl hn dX0_put_2_57 (Option.some.inj hf)
  have j45_0 : ∀ (a0_45 : Nat) (σ : ZT), f_X0_put_2_J45 a0_45 σ = some out → ZW l G 3 X (ZQ G X (.returned (some (.int out.1))) out.2) σ 45 [(0, .ref a0_45)] [] := by
    intro a0_45 σ hf
    unfold f_X0_put_2_J45 at hf
    refine z_aload_n (q := 46) (i := 0) C 0 dX0_put_2_45 rfl rfl rfl ?_
    refine z_getI (q := 49) C flX0_110 dX0_put_2_46 hf rfl fun v7 hf => ?_
    refine z_ifne (q := 52) (tgt := 56) C dX0_put_2_49 (by decide) rfl hf (fun c49 hf => ?_) (fun c49 hf => ?_)
    · refine z_iconst (q := 57) C (0 : Int32) dX0_put_2_56 ki_0 rfl ?_
      refine z_lv [] rfl ?_
      exact j57_0 (0 : Int32) σ hf
    · refine z_iconst (q := 53) C (1 : Int32) dX0_put_2_52 ki_1 rfl ?_
      refine z_goto (q := 57) C dX0_put_2_53 (by decide) ?_
      refine z_lv [] rfl ?_
      exact j57_0 (1 : Int32) σ hf
  have j22_0 : ∀ (a0_22 : Nat) (i1_22 : Int32) (i2_22 : Int32) (w0_22 : Int32) (w1_22 : Nat) (σ : ZT), f_X0_put_2_J22 a0_22 i1_22 i2_22 w0_22 w1_22 σ = some out → ZW l G 3 X (ZQ G X (.returned (some (.int out.1))) out.2) σ 22 [(0, .ref a0_22), (1, .int i1_22), (2, .int i2_22)] [.int w0_22, .ref w1_22] := by
    intro a0_22 i1_22 i2_22 w0_22 w1_22 σ hf
    unfold f_X0_put_2_J22 at hf
    refine z_putI (q := 25) C puX0_110 dX0_put_2_22 hf rfl fun σ hf => ?_
    refine z_aload_n (q := 26) (i := 0) C 0 dX0_put_2_25 rfl rfl rfl ?_
    refine z_getI (q := 29) C flX0_110 dX0_put_2_26 hf rfl fun v3 hf => ?_
    refine z_ifne (q := 32) (tgt := 45) C dX0_put_2_29 (by decide) rfl hf (fun c29 hf => ?_) (fun c29 hf => ?_)
    · refine z_lv [0] rfl ?_
      exact j45_0 a0_22 σ hf
    · refine z_aload_n (q := 33) (i := 0) C 0 dX0_put_2_32 rfl rfl rfl ?_
      refine z_getR (q := 36) C flX0_55 dX0_put_2_33 hf rfl fun v4 hf => ?_
      refine z_getR (q := 39) C flX0_183 dX0_put_2_36 hf rfl fun v5 hf => ?_
      refine z_getR (q := 42) C flX0_338 dX0_put_2_39 hf rfl fun v6 hf => ?_
      refine z_iload_n (q := 43) (i := 1) C 1 dX0_put_2_42 rfl rfl rfl ?_
      refine z_iload_n (q := 44) (i := 2) C 2 dX0_put_2_43 rfl rfl rfl ?_
      refine z_iast (q := 45) C dX0_put_2_44 hf rfl fun σ hf => ?_
      refine z_lv [0] rfl ?_
      exact j45_0 a0_22 σ hf
  have j21_0 : ∀ (a0_21 : Nat) (i1_21 : Int32) (i2_21 : Int32) (w0_21 : Nat) (σ : ZT), f_X0_put_2_J21 a0_21 i1_21 i2_21 w0_21 σ = some out → ZW l G 3 X (ZQ G X (.returned (some (.int out.1))) out.2) σ 21 [(0, .ref a0_21), (1, .int i1_21), (2, .int i2_21)] [.ref w0_21] := by
    intro a0_21 i1_21 i2_21 w0_21 σ hf
    unfold f_X0_put_2_J21 at hf
    refine z_iconst (q := 22) C (1 : Int32) dX0_put_2_21 ki_1 rfl ?_
    exact j22_0 a0_21 i1_21 i2_21 (1 : Int32) w0_21 σ hf
  refine z_aload_n (q := 1) (i := 0) C 0 dX0_put_2_0 rfl rfl rfl ?_
  refine z_aload_n (q := 2) (i := 0) C 0 dX0_put_2_1 rfl rfl rfl ?_
  refine z_iload_n (q := 3) (i := 1) C 1 dX0_put_2_2 rfl rfl rfl ?_
  refine z_callVi (q := 6) (As := [.int i1]) C (fun o ho => m_X0_isPerson _ _ _ ho) zk0 vvX0_304 cdX0_isPerson pnX0 dX0_put_2_3 rfl (by decide) (Nat.le_of_ble_eq_true rfl) hf rfl fun v1 σ hf => ?_
  refine z_ifeq (q := 9) (tgt := 21) C dX0_put_2_6 (by decide) rfl hf (fun c6 hf => ?_) (fun c6 hf => ?_)
  · exact j21_0 a0 i1 i2 a0 σ hf
  · refine z_aload_n (q := 10) (i := 0) C 0 dX0_put_2_9 rfl rfl rfl ?_
    refine z_iload_n (q := 11) (i := 2) C 2 dX0_put_2_10 rfl rfl rfl ?_
    refine z_callVi (q := 14) (As := [.int i2]) C (fun o ho => m_X0_isPlace _ _ _ ho) zk0 vvX0_332 cdX0_isPlace pnX0 dX0_put_2_11 rfl (by decide) (Nat.le_of_ble_eq_true rfl) hf rfl fun v2 σ hf => ?_
    refine z_ifeq (q := 17) (tgt := 21) C dX0_put_2_14 (by decide) rfl hf (fun c14 hf => ?_) (fun c14 hf => ?_)
    · exact j21_0 a0 i1 i2 a0 σ hf
    · refine z_iconst (q := 18) C (0 : Int32) dX0_put_2_17 ki_0 rfl ?_
      refine z_goto (q := 22) C dX0_put_2_18 (by decide) ?_
      exact j22_0 a0 i1 i2 (0 : Int32) a0 σ hf

noncomputable def f_X0_does_J54 (w0_54 : Int32) (σ : ZT) : Option (Int32 × ZT) :=
  (rz w0_54).bind fun z5 =>
  some (z5, σ)
noncomputable def f_X0_does_J42 (a0_42 : Nat) (σ : ZT) : Option (Int32 × ZT) :=
  (gI 0 7 a0_42 σ).bind fun v4 =>
  if v4 = 0 then
  (f_X0_does_J54 (1 : Int32) σ)
  else
  (f_X0_does_J54 (0 : Int32) σ)
noncomputable def f_X0_does_J10 (a0_10 : Nat) (i1_10 : Int32) (i2_10 : Int32) (i3_10 : Int32) (i4_10 : Int32) (i5_10 : Int32) (w0_10 : Int32) (w1_10 : Nat) (σ : ZT) : Option (Int32 × ZT) :=
  (pI 0 7 w1_10 w0_10 σ).bind fun σ =>
  if i1_10 = 0 then
  (f_X0_does_J42 a0_10 σ)
  else
  ((gR 0 10 a0_10 σ).bind fun v1 =>
  (gR 4 400 v1 σ).bind fun v2 =>
  bnd2 (vc 5 v2 σ (f_X5_moves v2 i2_10 i3_10 i4_10 i5_10 σ)) fun v3 σ =>
  if v3 = 0 then
  ((pI 0 7 a0_10 (7 : Int32) σ).bind fun σ =>
  f_X0_does_J42 a0_10 σ)
  else
  (f_X0_does_J42 a0_10 σ))
noncomputable def f_X0_does (a0 : Nat) (i1 : Int32) (i2 : Int32) (i3 : Int32) (i4 : Int32) (i5 : Int32) (σ : ZT) : Option (Int32 × ZT) :=
  if i1 = 0 then
  (f_X0_does_J10 a0 i1 i2 i3 i4 i5 (1 : Int32) a0 σ)
  else
  (f_X0_does_J10 a0 i1 i2 i3 i4 i5 (0 : Int32) a0 σ)
set_option maxHeartbeats 4000000 in
theorem m_X0_does {l : Launch} {G : ZG} (a0 : Nat) (i1 : Int32) (i2 : Int32) (i3 : Int32) (i4 : Int32) (i5 : Int32) (σ : ZT) {out : (Int32 × ZT)} (hf : f_X0_does a0 i1 i2 i3 i4 i5 σ = some out) : ZM l G yX0_does cX0_does 6 (some .boolean) [] 6 [.ref a0, .int i1, .int i2, .int i3, .int i4, .int i5] σ (.returned (some (.int out.1))) out.2 := by
  refine ZM.of [(0, .ref a0), (1, .int i1), (2, .int i2), (3, .int i3), (4, .int i4), (5, .int i5)] rfl (Nat.le_of_ble_eq_true rfl) fun X (C : ZC G RX0 "does" cX0_does 6 (some .boolean) [] X 6) => ?_
  unfold f_X0_does at hf
  have j54_0 : ∀ (w0_54 : Int32) (σ : ZT), f_X0_does_J54 w0_54 σ = some out → ZW l G 6 X (ZQ G X (.returned (some (.int out.1))) out.2) σ 54 [] [.int w0_54] := by
    intro w0_54 σ hf
    unfold f_X0_does_J54 at hf
    refine z_rz C hf fun hn hf => ?_
    exact z_zreturn C rfl hn dX0_does_54 (Option.some.inj hf)
  have j42_0 : ∀ (a0_42 : Nat) (σ : ZT), f_X0_does_J42 a0_42 σ = some out → ZW l G 6 X (ZQ G X (.returned (some (.int out.1))) out.2) σ 42 [(0, .ref a0_42)] [] := by
    intro a0_42 σ hf
    unfold f_X0_does_J42 at hf
    refine z_aload_n (q := 43) (i := 0) C 0 dX0_does_42 rfl rfl rfl ?_
    refine z_getI (q := 46) C flX0_110 dX0_does_43 hf rfl fun v4 hf => ?_
    refine z_ifne (q := 49) (tgt := 53) C dX0_does_46 (by decide) rfl hf (fun c46 hf => ?_) (fun c46 hf => ?_)
    · refine z_iconst (q := 54) C (0 : Int32) dX0_does_53 ki_0 rfl ?_
      refine z_lv [] rfl ?_
      exact j54_0 (0 : Int32) σ hf
    · refine z_iconst (q := 50) C (1 : Int32) dX0_does_49 ki_1 rfl ?_
      refine z_goto (q := 54) C dX0_does_50 (by decide) ?_
      refine z_lv [] rfl ?_
      exact j54_0 (1 : Int32) σ hf
  have j10_0 : ∀ (a0_10 : Nat) (i1_10 : Int32) (i2_10 : Int32) (i3_10 : Int32) (i4_10 : Int32) (i5_10 : Int32) (w0_10 : Int32) (w1_10 : Nat) (σ : ZT), f_X0_does_J10 a0_10 i1_10 i2_10 i3_10 i4_10 i5_10 w0_10 w1_10 σ = some out → ZW l G 6 X (ZQ G X (.returned (some (.int out.1))) out.2) σ 10 [(0, .ref a0_10), (1, .int i1_10), (2, .int i2_10), (3, .int i3_10), (4, .int i4_10), (5, .int i5_10)] [.int w0_10, .ref w1_10] := by
    intro a0_10 i1_10 i2_10 i3_10 i4_10 i5_10 w0_10 w1_10 σ hf
    unfold f_X0_does_J10 at hf
    refine z_putI (q := 13) C puX0_110 dX0_does_10 hf rfl fun σ hf => ?_
    refine z_iload_n (q := 14) (i := 1) C 1 dX0_does_13 rfl rfl rfl ?_
    refine z_ifeq (q := 17) (tgt := 42) C dX0_does_14 (by decide) rfl hf (fun c14 hf => ?_) (fun c14 hf => ?_)
    · refine z_lv [0] rfl ?_
      exact j42_0 a0_10 σ hf
    · refine z_aload_n (q := 18) (i := 0) C 0 dX0_does_17 rfl rfl rfl ?_
      refine z_getR (q := 21) C flX0_55 dX0_does_18 hf rfl fun v1 hf => ?_
      refine z_getR (q := 24) C flX0_183 dX0_does_21 hf rfl fun v2 hf => ?_
      refine z_iload_n (q := 25) (i := 2) C 2 dX0_does_24 rfl rfl rfl ?_
      refine z_iload_n (q := 26) (i := 3) C 3 dX0_does_25 rfl rfl rfl ?_
      refine z_iload (q := 28) (i := 4) C 4 dX0_does_26 rfl rfl ?_
      refine z_iload (q := 30) (i := 5) C 5 dX0_does_28 rfl rfl ?_
      refine z_callVi (q := 33) (As := [.int i2_10, .int i3_10, .int i4_10, .int i5_10]) C (fun o ho => m_X5_moves _ _ _ _ _ _ ho) zk5 vvX0_362 cdX5_moves pnX5 dX0_does_30 rfl (by decide) (Nat.le_of_ble_eq_true rfl) hf rfl fun v3 σ hf => ?_
      refine z_ifne (q := 36) (tgt := 42) C dX0_does_33 (by decide) rfl hf (fun c33 hf => ?_) (fun c33 hf => ?_)
      · refine z_lv [0] rfl ?_
        exact j42_0 a0_10 σ hf
      · refine z_aload_n (q := 37) (i := 0) C 0 dX0_does_36 rfl rfl rfl ?_
        refine z_bipush (q := 39) C (7 : Int32) dX0_does_37 kb_7 rfl ?_
        refine z_putI (q := 42) C puX0_110 dX0_does_39 hf rfl fun σ hf => ?_
        refine z_lv [0] rfl ?_
        exact j42_0 a0_10 σ hf
  refine z_aload_n (q := 1) (i := 0) C 0 dX0_does_0 rfl rfl rfl ?_
  refine z_iload_n (q := 2) (i := 1) C 1 dX0_does_1 rfl rfl rfl ?_
  refine z_ifeq (q := 5) (tgt := 9) C dX0_does_2 (by decide) rfl hf (fun c2 hf => ?_) (fun c2 hf => ?_)
  · refine z_iconst (q := 10) C (1 : Int32) dX0_does_9 ki_1 rfl ?_
    exact j10_0 a0 i1 i2 i3 i4 i5 (1 : Int32) a0 σ hf
  · refine z_iconst (q := 6) C (0 : Int32) dX0_does_5 ki_0 rfl ?_
    refine z_goto (q := 10) C dX0_does_6 (by decide) ?_
    exact j10_0 a0 i1 i2 i3 i4 i5 (0 : Int32) a0 σ hf

noncomputable def f_X0_go_J22 (i1_22 : Int32) (i2_22 : Int32) (w0_22 : Int32) (w1_22 : Nat) (σ : ZT) : Option (Int32 × ZT) :=
  bnd2 (vc 0 w1_22 σ (f_X0_does w1_22 w0_22 (0 : Int32) i1_22 (-1 : Int32) i2_22 σ)) fun v3 σ =>
  (rz v3).bind fun z4 =>
  some (z4, σ)
noncomputable def f_X0_go_J21 (i1_21 : Int32) (i2_21 : Int32) (w0_21 : Nat) (σ : ZT) : Option (Int32 × ZT) :=
  f_X0_go_J22 i1_21 i2_21 (0 : Int32) w0_21 σ
noncomputable def f_X0_go (a0 : Nat) (i1 : Int32) (i2 : Int32) (σ : ZT) : Option (Int32 × ZT) :=
  bnd2 (vc 0 a0 σ (f_X0_isPerson a0 i1 σ)) fun v1 σ =>
  if v1 = 0 then
  (f_X0_go_J21 i1 i2 a0 σ)
  else
  (bnd2 (vc 0 a0 σ (f_X0_isBridge a0 i2 σ)) fun v2 σ =>
  if v2 = 0 then
  (f_X0_go_J21 i1 i2 a0 σ)
  else
  (f_X0_go_J22 i1 i2 (1 : Int32) a0 σ))
set_option maxHeartbeats 4000000 in
theorem m_X0_go {l : Launch} {G : ZG} (a0 : Nat) (i1 : Int32) (i2 : Int32) (σ : ZT) {out : (Int32 × ZT)} (hf : f_X0_go a0 i1 i2 σ = some out) : ZM l G yX0_go cX0_go 3 (some .boolean) [] 7 [.ref a0, .int i1, .int i2] σ (.returned (some (.int out.1))) out.2 := by
  refine ZM.of [(0, .ref a0), (1, .int i1), (2, .int i2)] rfl (Nat.le_of_ble_eq_true rfl) fun X (C : ZC G RX0 "go" cX0_go 3 (some .boolean) [] X 7) => ?_
  unfold f_X0_go at hf
  have j22_0 : ∀ (i1_22 : Int32) (i2_22 : Int32) (w0_22 : Int32) (w1_22 : Nat) (σ : ZT), f_X0_go_J22 i1_22 i2_22 w0_22 w1_22 σ = some out → ZW l G 3 X (ZQ G X (.returned (some (.int out.1))) out.2) σ 22 [(1, .int i1_22), (2, .int i2_22)] [.int w0_22, .ref w1_22] := by
    intro i1_22 i2_22 w0_22 w1_22 σ hf
    unfold f_X0_go_J22 at hf
    refine z_iconst (q := 23) C (0 : Int32) dX0_go_22 ki_0 rfl ?_
    refine z_iload_n (q := 24) (i := 1) C 0 dX0_go_23 rfl rfl rfl ?_
    refine z_iconst (q := 25) C (-1 : Int32) dX0_go_24 ki_m1 rfl ?_
    refine z_iload_n (q := 26) (i := 2) C 1 dX0_go_25 rfl rfl rfl ?_
    refine z_callVi (q := 29) (As := [.int w0_22, .int (0 : Int32), .int i1_22, .int (-1 : Int32), .int i2_22]) C (fun o ho => m_X0_does _ _ _ _ _ _ _ ho) zk0 vvX0_365 cdX0_does pnX0 dX0_go_26 rfl (by decide) (Nat.le_of_ble_eq_true rfl) hf rfl fun v3 σ hf => ?_
    refine z_rz C hf fun hn hf => ?_
    exact z_zreturn C rfl hn dX0_go_29 (Option.some.inj hf)
  have j21_0 : ∀ (i1_21 : Int32) (i2_21 : Int32) (w0_21 : Nat) (σ : ZT), f_X0_go_J21 i1_21 i2_21 w0_21 σ = some out → ZW l G 3 X (ZQ G X (.returned (some (.int out.1))) out.2) σ 21 [(1, .int i1_21), (2, .int i2_21)] [.ref w0_21] := by
    intro i1_21 i2_21 w0_21 σ hf
    unfold f_X0_go_J21 at hf
    refine z_iconst (q := 22) C (0 : Int32) dX0_go_21 ki_0 rfl ?_
    exact j22_0 i1_21 i2_21 (0 : Int32) w0_21 σ hf
  refine z_aload_n (q := 1) (i := 0) C 0 dX0_go_0 rfl rfl rfl ?_
  refine z_aload_n (q := 2) (i := 0) C 0 dX0_go_1 rfl rfl rfl ?_
  refine z_iload_n (q := 3) (i := 1) C 1 dX0_go_2 rfl rfl rfl ?_
  refine z_callVi (q := 6) (As := [.int i1]) C (fun o ho => m_X0_isPerson _ _ _ ho) zk0 vvX0_304 cdX0_isPerson pnX0 dX0_go_3 rfl (by decide) (Nat.le_of_ble_eq_true rfl) hf rfl fun v1 σ hf => ?_
  refine z_ifeq (q := 9) (tgt := 21) C dX0_go_6 (by decide) rfl hf (fun c6 hf => ?_) (fun c6 hf => ?_)
  · refine z_lv [1, 2] rfl ?_
    exact j21_0 i1 i2 a0 σ hf
  · refine z_aload_n (q := 10) (i := 0) C 0 dX0_go_9 rfl rfl rfl ?_
    refine z_iload_n (q := 11) (i := 2) C 2 dX0_go_10 rfl rfl rfl ?_
    refine z_callVi (q := 14) (As := [.int i2]) C (fun o ho => m_X0_isBridge _ _ _ ho) zk0 vvX0_262 cdX0_isBridge pnX0 dX0_go_11 rfl (by decide) (Nat.le_of_ble_eq_true rfl) hf rfl fun v2 σ hf => ?_
    refine z_ifeq (q := 17) (tgt := 21) C dX0_go_14 (by decide) rfl hf (fun c14 hf => ?_) (fun c14 hf => ?_)
    · refine z_lv [1, 2] rfl ?_
      exact j21_0 i1 i2 a0 σ hf
    · refine z_iconst (q := 18) C (1 : Int32) dX0_go_17 ki_1 rfl ?_
      refine z_goto (q := 22) C dX0_go_18 (by decide) ?_
      refine z_lv [1, 2] rfl ?_
      exact j22_0 i1 i2 (1 : Int32) a0 σ hf

noncomputable def f_X0_both_J35 (i1_35 : Int32) (i2_35 : Int32) (i3_35 : Int32) (w0_35 : Int32) (w1_35 : Nat) (σ : ZT) : Option (Int32 × ZT) :=
  bnd2 (vc 0 w1_35 σ (f_X0_does w1_35 w0_35 (1 : Int32) i1_35 i2_35 i3_35 σ)) fun v4 σ =>
  (rz v4).bind fun z5 =>
  some (z5, σ)
noncomputable def f_X0_both_J34 (i1_34 : Int32) (i2_34 : Int32) (i3_34 : Int32) (w0_34 : Nat) (σ : ZT) : Option (Int32 × ZT) :=
  f_X0_both_J35 i1_34 i2_34 i3_34 (0 : Int32) w0_34 σ
noncomputable def f_X0_both (a0 : Nat) (i1 : Int32) (i2 : Int32) (i3 : Int32) (σ : ZT) : Option (Int32 × ZT) :=
  bnd2 (vc 0 a0 σ (f_X0_isPerson a0 i1 σ)) fun v1 σ =>
  if v1 = 0 then
  (f_X0_both_J34 i1 i2 i3 a0 σ)
  else
  (bnd2 (vc 0 a0 σ (f_X0_isPerson a0 i2 σ)) fun v2 σ =>
  if v2 = 0 then
  (f_X0_both_J34 i1 i2 i3 a0 σ)
  else
  (if i1 = i2 then
  (f_X0_both_J34 i1 i2 i3 a0 σ)
  else
  (bnd2 (vc 0 a0 σ (f_X0_isBridge a0 i3 σ)) fun v3 σ =>
  if v3 = 0 then
  (f_X0_both_J34 i1 i2 i3 a0 σ)
  else
  (f_X0_both_J35 i1 i2 i3 (1 : Int32) a0 σ))))
set_option maxHeartbeats 4000000 in
theorem m_X0_both {l : Launch} {G : ZG} (a0 : Nat) (i1 : Int32) (i2 : Int32) (i3 : Int32) (σ : ZT) {out : (Int32 × ZT)} (hf : f_X0_both a0 i1 i2 i3 σ = some out) : ZM l G yX0_both cX0_both 4 (some .boolean) [] 7 [.ref a0, .int i1, .int i2, .int i3] σ (.returned (some (.int out.1))) out.2 := by
  refine ZM.of [(0, .ref a0), (1, .int i1), (2, .int i2), (3, .int i3)] rfl (Nat.le_of_ble_eq_true rfl) fun X (C : ZC G RX0 "both" cX0_both 4 (some .boolean) [] X 7) => ?_
  unfold f_X0_both at hf
  have j35_0 : ∀ (i1_35 : Int32) (i2_35 : Int32) (i3_35 : Int32) (w0_35 : Int32) (w1_35 : Nat) (σ : ZT), f_X0_both_J35 i1_35 i2_35 i3_35 w0_35 w1_35 σ = some out → ZW l G 4 X (ZQ G X (.returned (some (.int out.1))) out.2) σ 35 [(1, .int i1_35), (2, .int i2_35), (3, .int i3_35)] [.int w0_35, .ref w1_35] := by
    intro i1_35 i2_35 i3_35 w0_35 w1_35 σ hf
    unfold f_X0_both_J35 at hf
    refine z_iconst (q := 36) C (1 : Int32) dX0_both_35 ki_1 rfl ?_
    refine z_iload_n (q := 37) (i := 1) C 0 dX0_both_36 rfl rfl rfl ?_
    refine z_iload_n (q := 38) (i := 2) C 1 dX0_both_37 rfl rfl rfl ?_
    refine z_iload_n (q := 39) (i := 3) C 2 dX0_both_38 rfl rfl rfl ?_
    refine z_callVi (q := 42) (As := [.int w0_35, .int (1 : Int32), .int i1_35, .int i2_35, .int i3_35]) C (fun o ho => m_X0_does _ _ _ _ _ _ _ ho) zk0 vvX0_365 cdX0_does pnX0 dX0_both_39 rfl (by decide) (Nat.le_of_ble_eq_true rfl) hf rfl fun v4 σ hf => ?_
    refine z_rz C hf fun hn hf => ?_
    exact z_zreturn C rfl hn dX0_both_42 (Option.some.inj hf)
  have j34_0 : ∀ (i1_34 : Int32) (i2_34 : Int32) (i3_34 : Int32) (w0_34 : Nat) (σ : ZT), f_X0_both_J34 i1_34 i2_34 i3_34 w0_34 σ = some out → ZW l G 4 X (ZQ G X (.returned (some (.int out.1))) out.2) σ 34 [(1, .int i1_34), (2, .int i2_34), (3, .int i3_34)] [.ref w0_34] := by
    intro i1_34 i2_34 i3_34 w0_34 σ hf
    unfold f_X0_both_J34 at hf
    refine z_iconst (q := 35) C (0 : Int32) dX0_both_34 ki_0 rfl ?_
    exact j35_0 i1_34 i2_34 i3_34 (0 : Int32) w0_34 σ hf
  refine z_aload_n (q := 1) (i := 0) C 0 dX0_both_0 rfl rfl rfl ?_
  refine z_aload_n (q := 2) (i := 0) C 0 dX0_both_1 rfl rfl rfl ?_
  refine z_iload_n (q := 3) (i := 1) C 1 dX0_both_2 rfl rfl rfl ?_
  refine z_callVi (q := 6) (As := [.int i1]) C (fun o ho => m_X0_isPerson _ _ _ ho) zk0 vvX0_304 cdX0_isPerson pnX0 dX0_both_3 rfl (by decide) (Nat.le_of_ble_eq_true rfl) hf rfl fun v1 σ hf => ?_
  refine z_ifeq (q := 9) (tgt := 34) C dX0_both_6 (by decide) rfl hf (fun c6 hf => ?_) (fun c6 hf => ?_)
  · refine z_lv [1, 2, 3] rfl ?_
    exact j34_0 i1 i2 i3 a0 σ hf
  · refine z_aload_n (q := 10) (i := 0) C 0 dX0_both_9 rfl rfl rfl ?_
    refine z_iload_n (q := 11) (i := 2) C 2 dX0_both_10 rfl rfl rfl ?_
    refine z_callVi (q := 14) (As := [.int i2]) C (fun o ho => m_X0_isPerson _ _ _ ho) zk0 vvX0_304 cdX0_isPerson pnX0 dX0_both_11 rfl (by decide) (Nat.le_of_ble_eq_true rfl) hf rfl fun v2 σ hf => ?_
    refine z_ifeq (q := 17) (tgt := 34) C dX0_both_14 (by decide) rfl hf (fun c14 hf => ?_) (fun c14 hf => ?_)
    · refine z_lv [1, 2, 3] rfl ?_
      exact j34_0 i1 i2 i3 a0 σ hf
    · refine z_iload_n (q := 18) (i := 1) C 1 dX0_both_17 rfl rfl rfl ?_
      refine z_iload_n (q := 19) (i := 2) C 2 dX0_both_18 rfl rfl rfl ?_
      refine z_icmpeq (q := 22) (tgt := 34) C dX0_both_19 (by decide) rfl hf (fun c19 hf => ?_) (fun c19 hf => ?_)
      · refine z_lv [1, 2, 3] rfl ?_
        exact j34_0 i1 i2 i3 a0 σ hf
      · refine z_aload_n (q := 23) (i := 0) C 0 dX0_both_22 rfl rfl rfl ?_
        refine z_iload_n (q := 24) (i := 3) C 3 dX0_both_23 rfl rfl rfl ?_
        refine z_callVi (q := 27) (As := [.int i3]) C (fun o ho => m_X0_isBridge _ _ _ ho) zk0 vvX0_262 cdX0_isBridge pnX0 dX0_both_24 rfl (by decide) (Nat.le_of_ble_eq_true rfl) hf rfl fun v3 σ hf => ?_
        refine z_ifeq (q := 30) (tgt := 34) C dX0_both_27 (by decide) rfl hf (fun c27 hf => ?_) (fun c27 hf => ?_)
        · refine z_lv [1, 2, 3] rfl ?_
          exact j34_0 i1 i2 i3 a0 σ hf
        · refine z_iconst (q := 31) C (1 : Int32) dX0_both_30 ki_1 rfl ?_
          refine z_goto (q := 35) C dX0_both_31 (by decide) ?_
          refine z_lv [1, 2, 3] rfl ?_
          exact j35_0 i1 i2 i3 (1 : Int32) a0 σ hf

noncomputable def f_X0_why_J67 (w0_67 : Int32) (σ : ZT) : Option (Int32 × ZT) :=
  some (w0_67, σ)
noncomputable def f_X0_why_J40 (a0_40 : Nat) (i1_40 : Int32) (i2_40 : Int32) (i3_40 : Int32) (w0_40 : Int32) (w1_40 : Nat) (σ : ZT) : Option (Int32 × ZT) :=
  (pI 0 7 w1_40 w0_40 σ).bind fun σ =>
  (gI 0 7 a0_40 σ).bind fun v4 =>
  if 0 < v4 then
  (f_X0_why_J67 (-1 : Int32) σ)
  else
  ((gR 0 10 a0_40 σ).bind fun v5 =>
  (gR 4 400 v5 σ).bind fun v6 =>
  bnd2 (vc 5 v6 σ (f_X5_why v6 i1_40 i2_40 i3_40 σ)) fun v7 σ =>
  f_X0_why_J67 v7 σ)
noncomputable def f_X0_why_J39 (a0_39 : Nat) (i1_39 : Int32) (i2_39 : Int32) (i3_39 : Int32) (w0_39 : Nat) (σ : ZT) : Option (Int32 × ZT) :=
  f_X0_why_J40 a0_39 i1_39 i2_39 i3_39 (1 : Int32) w0_39 σ
noncomputable def f_X0_why_J27 (a0_27 : Nat) (i1_27 : Int32) (i2_27 : Int32) (i3_27 : Int32) (w0_27 : Nat) (σ : ZT) : Option (Int32 × ZT) :=
  bnd2 (vc 0 a0_27 σ (f_X0_isBridge a0_27 i3_27 σ)) fun v3 σ =>
  if v3 = 0 then
  (f_X0_why_J39 a0_27 i1_27 i2_27 i3_27 w0_27 σ)
  else
  (f_X0_why_J40 a0_27 i1_27 i2_27 i3_27 (0 : Int32) w0_27 σ)
noncomputable def f_X0_why (a0 : Nat) (i1 : Int32) (i2 : Int32) (i3 : Int32) (σ : ZT) : Option (Int32 × ZT) :=
  bnd2 (vc 0 a0 σ (f_X0_isPerson a0 i1 σ)) fun v1 σ =>
  if v1 = 0 then
  (f_X0_why_J39 a0 i1 i2 i3 a0 σ)
  else
  (if i2 = (-1 : Int32) then
  (f_X0_why_J27 a0 i1 i2 i3 a0 σ)
  else
  (bnd2 (vc 0 a0 σ (f_X0_isPerson a0 i2 σ)) fun v2 σ =>
  if v2 = 0 then
  (f_X0_why_J39 a0 i1 i2 i3 a0 σ)
  else
  (if i1 = i2 then
  (f_X0_why_J39 a0 i1 i2 i3 a0 σ)
  else
  (f_X0_why_J27 a0 i1 i2 i3 a0 σ))))
set_option maxHeartbeats 4000000 in
theorem m_X0_why {l : Launch} {G : ZG} (a0 : Nat) (i1 : Int32) (i2 : Int32) (i3 : Int32) (σ : ZT) {out : (Int32 × ZT)} (hf : f_X0_why a0 i1 i2 i3 σ = some out) : ZM l G yX0_why cX0_why 4 (some .int) [] 5 [.ref a0, .int i1, .int i2, .int i3] σ (.returned (some (.int out.1))) out.2 := by
  refine ZM.of [(0, .ref a0), (1, .int i1), (2, .int i2), (3, .int i3)] rfl (Nat.le_of_ble_eq_true rfl) fun X (C : ZC G RX0 "why" cX0_why 4 (some .int) [] X 5) => ?_
  unfold f_X0_why at hf
  have j67_0 : ∀ (w0_67 : Int32) (σ : ZT), f_X0_why_J67 w0_67 σ = some out → ZW l G 4 X (ZQ G X (.returned (some (.int out.1))) out.2) σ 67 [] [.int w0_67] := by
    intro w0_67 σ hf
    unfold f_X0_why_J67 at hf
    exact z_ireturn C rfl dX0_why_67 (Option.some.inj hf)
  have j40_0 : ∀ (a0_40 : Nat) (i1_40 : Int32) (i2_40 : Int32) (i3_40 : Int32) (w0_40 : Int32) (w1_40 : Nat) (σ : ZT), f_X0_why_J40 a0_40 i1_40 i2_40 i3_40 w0_40 w1_40 σ = some out → ZW l G 4 X (ZQ G X (.returned (some (.int out.1))) out.2) σ 40 [(0, .ref a0_40), (1, .int i1_40), (2, .int i2_40), (3, .int i3_40)] [.int w0_40, .ref w1_40] := by
    intro a0_40 i1_40 i2_40 i3_40 w0_40 w1_40 σ hf
    unfold f_X0_why_J40 at hf
    refine z_putI (q := 43) C puX0_110 dX0_why_40 hf rfl fun σ hf => ?_
    refine z_aload_n (q := 44) (i := 0) C 0 dX0_why_43 rfl rfl rfl ?_
    refine z_getI (q := 47) C flX0_110 dX0_why_44 hf rfl fun v4 hf => ?_
    refine z_ifle (q := 50) (tgt := 54) C dX0_why_47 (by decide) rfl hf (fun c47 hf => ?_) (fun c47 hf => ?_)
    · refine z_aload_n (q := 55) (i := 0) C 0 dX0_why_54 rfl rfl rfl ?_
      refine z_getR (q := 58) C flX0_55 dX0_why_55 hf rfl fun v5 hf => ?_
      refine z_getR (q := 61) C flX0_183 dX0_why_58 hf rfl fun v6 hf => ?_
      refine z_iload_n (q := 62) (i := 1) C 1 dX0_why_61 rfl rfl rfl ?_
      refine z_iload_n (q := 63) (i := 2) C 2 dX0_why_62 rfl rfl rfl ?_
      refine z_iload_n (q := 64) (i := 3) C 3 dX0_why_63 rfl rfl rfl ?_
      refine z_callVi (q := 67) (As := [.int i1_40, .int i2_40, .int i3_40]) C (fun o ho => m_X5_why _ _ _ _ _ ho) zk5 vvX0_369 cdX5_why pnX5 dX0_why_64 rfl (by decide) (Nat.le_of_ble_eq_true rfl) hf rfl fun v7 σ hf => ?_
      refine z_lv [] rfl ?_
      exact j67_0 v7 σ hf
    · refine z_iconst (q := 51) C (-1 : Int32) dX0_why_50 ki_m1 rfl ?_
      refine z_goto (q := 67) C dX0_why_51 (by decide) ?_
      refine z_lv [] rfl ?_
      exact j67_0 (-1 : Int32) σ hf
  have j39_0 : ∀ (a0_39 : Nat) (i1_39 : Int32) (i2_39 : Int32) (i3_39 : Int32) (w0_39 : Nat) (σ : ZT), f_X0_why_J39 a0_39 i1_39 i2_39 i3_39 w0_39 σ = some out → ZW l G 4 X (ZQ G X (.returned (some (.int out.1))) out.2) σ 39 [(0, .ref a0_39), (1, .int i1_39), (2, .int i2_39), (3, .int i3_39)] [.ref w0_39] := by
    intro a0_39 i1_39 i2_39 i3_39 w0_39 σ hf
    unfold f_X0_why_J39 at hf
    refine z_iconst (q := 40) C (1 : Int32) dX0_why_39 ki_1 rfl ?_
    exact j40_0 a0_39 i1_39 i2_39 i3_39 (1 : Int32) w0_39 σ hf
  have j27_0 : ∀ (a0_27 : Nat) (i1_27 : Int32) (i2_27 : Int32) (i3_27 : Int32) (w0_27 : Nat) (σ : ZT), f_X0_why_J27 a0_27 i1_27 i2_27 i3_27 w0_27 σ = some out → ZW l G 4 X (ZQ G X (.returned (some (.int out.1))) out.2) σ 27 [(0, .ref a0_27), (1, .int i1_27), (2, .int i2_27), (3, .int i3_27)] [.ref w0_27] := by
    intro a0_27 i1_27 i2_27 i3_27 w0_27 σ hf
    unfold f_X0_why_J27 at hf
    refine z_aload_n (q := 28) (i := 0) C 0 dX0_why_27 rfl rfl rfl ?_
    refine z_iload_n (q := 29) (i := 3) C 3 dX0_why_28 rfl rfl rfl ?_
    refine z_callVi (q := 32) (As := [.int i3_27]) C (fun o ho => m_X0_isBridge _ _ _ ho) zk0 vvX0_262 cdX0_isBridge pnX0 dX0_why_29 rfl (by decide) (Nat.le_of_ble_eq_true rfl) hf rfl fun v3 σ hf => ?_
    refine z_ifeq (q := 35) (tgt := 39) C dX0_why_32 (by decide) rfl hf (fun c32 hf => ?_) (fun c32 hf => ?_)
    · exact j39_0 a0_27 i1_27 i2_27 i3_27 w0_27 σ hf
    · refine z_iconst (q := 36) C (0 : Int32) dX0_why_35 ki_0 rfl ?_
      refine z_goto (q := 40) C dX0_why_36 (by decide) ?_
      exact j40_0 a0_27 i1_27 i2_27 i3_27 (0 : Int32) w0_27 σ hf
  refine z_aload_n (q := 1) (i := 0) C 0 dX0_why_0 rfl rfl rfl ?_
  refine z_aload_n (q := 2) (i := 0) C 0 dX0_why_1 rfl rfl rfl ?_
  refine z_iload_n (q := 3) (i := 1) C 1 dX0_why_2 rfl rfl rfl ?_
  refine z_callVi (q := 6) (As := [.int i1]) C (fun o ho => m_X0_isPerson _ _ _ ho) zk0 vvX0_304 cdX0_isPerson pnX0 dX0_why_3 rfl (by decide) (Nat.le_of_ble_eq_true rfl) hf rfl fun v1 σ hf => ?_
  refine z_ifeq (q := 9) (tgt := 39) C dX0_why_6 (by decide) rfl hf (fun c6 hf => ?_) (fun c6 hf => ?_)
  · exact j39_0 a0 i1 i2 i3 a0 σ hf
  · refine z_iload_n (q := 10) (i := 2) C 2 dX0_why_9 rfl rfl rfl ?_
    refine z_iconst (q := 11) C (-1 : Int32) dX0_why_10 ki_m1 rfl ?_
    refine z_icmpeq (q := 14) (tgt := 27) C dX0_why_11 (by decide) rfl hf (fun c11 hf => ?_) (fun c11 hf => ?_)
    · exact j27_0 a0 i1 i2 i3 a0 σ hf
    · refine z_aload_n (q := 15) (i := 0) C 0 dX0_why_14 rfl rfl rfl ?_
      refine z_iload_n (q := 16) (i := 2) C 2 dX0_why_15 rfl rfl rfl ?_
      refine z_callVi (q := 19) (As := [.int i2]) C (fun o ho => m_X0_isPerson _ _ _ ho) zk0 vvX0_304 cdX0_isPerson pnX0 dX0_why_16 rfl (by decide) (Nat.le_of_ble_eq_true rfl) hf rfl fun v2 σ hf => ?_
      refine z_ifeq (q := 22) (tgt := 39) C dX0_why_19 (by decide) rfl hf (fun c19 hf => ?_) (fun c19 hf => ?_)
      · exact j39_0 a0 i1 i2 i3 a0 σ hf
      · refine z_iload_n (q := 23) (i := 1) C 1 dX0_why_22 rfl rfl rfl ?_
        refine z_iload_n (q := 24) (i := 2) C 2 dX0_why_23 rfl rfl rfl ?_
        refine z_icmpeq (q := 27) (tgt := 39) C dX0_why_24 (by decide) rfl hf (fun c24 hf => ?_) (fun c24 hf => ?_)
        · exact j39_0 a0 i1 i2 i3 a0 σ hf
        · exact j27_0 a0 i1 i2 i3 a0 σ hf

noncomputable def f_X0_lift_J22 (i1_22 : Int32) (i2_22 : Int32) (w0_22 : Int32) (w1_22 : Nat) (σ : ZT) : Option (Int32 × ZT) :=
  bnd2 (vc 0 w1_22 σ (f_X0_does w1_22 w0_22 (2 : Int32) i1_22 (-1 : Int32) i2_22 σ)) fun v3 σ =>
  (rz v3).bind fun z4 =>
  some (z4, σ)
noncomputable def f_X0_lift_J21 (i1_21 : Int32) (i2_21 : Int32) (w0_21 : Nat) (σ : ZT) : Option (Int32 × ZT) :=
  f_X0_lift_J22 i1_21 i2_21 (0 : Int32) w0_21 σ
noncomputable def f_X0_lift (a0 : Nat) (i1 : Int32) (i2 : Int32) (σ : ZT) : Option (Int32 × ZT) :=
  bnd2 (vc 0 a0 σ (f_X0_isPerson a0 i1 σ)) fun v1 σ =>
  if v1 = 0 then
  (f_X0_lift_J21 i1 i2 a0 σ)
  else
  (bnd2 (vc 0 a0 σ (f_X0_isLoad a0 i2 σ)) fun v2 σ =>
  if v2 = 0 then
  (f_X0_lift_J21 i1 i2 a0 σ)
  else
  (f_X0_lift_J22 i1 i2 (1 : Int32) a0 σ))
set_option maxHeartbeats 4000000 in
theorem m_X0_lift {l : Launch} {G : ZG} (a0 : Nat) (i1 : Int32) (i2 : Int32) (σ : ZT) {out : (Int32 × ZT)} (hf : f_X0_lift a0 i1 i2 σ = some out) : ZM l G yX0_lift cX0_lift 3 (some .boolean) [] 7 [.ref a0, .int i1, .int i2] σ (.returned (some (.int out.1))) out.2 := by
  refine ZM.of [(0, .ref a0), (1, .int i1), (2, .int i2)] rfl (Nat.le_of_ble_eq_true rfl) fun X (C : ZC G RX0 "lift" cX0_lift 3 (some .boolean) [] X 7) => ?_
  unfold f_X0_lift at hf
  have j22_0 : ∀ (i1_22 : Int32) (i2_22 : Int32) (w0_22 : Int32) (w1_22 : Nat) (σ : ZT), f_X0_lift_J22 i1_22 i2_22 w0_22 w1_22 σ = some out → ZW l G 3 X (ZQ G X (.returned (some (.int out.1))) out.2) σ 22 [(1, .int i1_22), (2, .int i2_22)] [.int w0_22, .ref w1_22] := by
    intro i1_22 i2_22 w0_22 w1_22 σ hf
    unfold f_X0_lift_J22 at hf
    refine z_iconst (q := 23) C (2 : Int32) dX0_lift_22 ki_2 rfl ?_
    refine z_iload_n (q := 24) (i := 1) C 0 dX0_lift_23 rfl rfl rfl ?_
    refine z_iconst (q := 25) C (-1 : Int32) dX0_lift_24 ki_m1 rfl ?_
    refine z_iload_n (q := 26) (i := 2) C 1 dX0_lift_25 rfl rfl rfl ?_
    refine z_callVi (q := 29) (As := [.int w0_22, .int (2 : Int32), .int i1_22, .int (-1 : Int32), .int i2_22]) C (fun o ho => m_X0_does _ _ _ _ _ _ _ ho) zk0 vvX0_365 cdX0_does pnX0 dX0_lift_26 rfl (by decide) (Nat.le_of_ble_eq_true rfl) hf rfl fun v3 σ hf => ?_
    refine z_rz C hf fun hn hf => ?_
    exact z_zreturn C rfl hn dX0_lift_29 (Option.some.inj hf)
  have j21_0 : ∀ (i1_21 : Int32) (i2_21 : Int32) (w0_21 : Nat) (σ : ZT), f_X0_lift_J21 i1_21 i2_21 w0_21 σ = some out → ZW l G 3 X (ZQ G X (.returned (some (.int out.1))) out.2) σ 21 [(1, .int i1_21), (2, .int i2_21)] [.ref w0_21] := by
    intro i1_21 i2_21 w0_21 σ hf
    unfold f_X0_lift_J21 at hf
    refine z_iconst (q := 22) C (0 : Int32) dX0_lift_21 ki_0 rfl ?_
    exact j22_0 i1_21 i2_21 (0 : Int32) w0_21 σ hf
  refine z_aload_n (q := 1) (i := 0) C 0 dX0_lift_0 rfl rfl rfl ?_
  refine z_aload_n (q := 2) (i := 0) C 0 dX0_lift_1 rfl rfl rfl ?_
  refine z_iload_n (q := 3) (i := 1) C 1 dX0_lift_2 rfl rfl rfl ?_
  refine z_callVi (q := 6) (As := [.int i1]) C (fun o ho => m_X0_isPerson _ _ _ ho) zk0 vvX0_304 cdX0_isPerson pnX0 dX0_lift_3 rfl (by decide) (Nat.le_of_ble_eq_true rfl) hf rfl fun v1 σ hf => ?_
  refine z_ifeq (q := 9) (tgt := 21) C dX0_lift_6 (by decide) rfl hf (fun c6 hf => ?_) (fun c6 hf => ?_)
  · refine z_lv [1, 2] rfl ?_
    exact j21_0 i1 i2 a0 σ hf
  · refine z_aload_n (q := 10) (i := 0) C 0 dX0_lift_9 rfl rfl rfl ?_
    refine z_iload_n (q := 11) (i := 2) C 2 dX0_lift_10 rfl rfl rfl ?_
    refine z_callVi (q := 14) (As := [.int i2]) C (fun o ho => m_X0_isLoad _ _ _ ho) zk0 vvX0_344 cdX0_isLoad pnX0 dX0_lift_11 rfl (by decide) (Nat.le_of_ble_eq_true rfl) hf rfl fun v2 σ hf => ?_
    refine z_ifeq (q := 17) (tgt := 21) C dX0_lift_14 (by decide) rfl hf (fun c14 hf => ?_) (fun c14 hf => ?_)
    · refine z_lv [1, 2] rfl ?_
      exact j21_0 i1 i2 a0 σ hf
    · refine z_iconst (q := 18) C (1 : Int32) dX0_lift_17 ki_1 rfl ?_
      refine z_goto (q := 22) C dX0_lift_18 (by decide) ?_
      refine z_lv [1, 2] rfl ?_
      exact j22_0 i1 i2 (1 : Int32) a0 σ hf

noncomputable def f_X0_drop (a0 : Nat) (i1 : Int32) (σ : ZT) : Option (Int32 × ZT) :=
  bnd2 (vc 0 a0 σ (f_X0_isPerson a0 i1 σ)) fun v1 σ =>
  bnd2 (vc 0 a0 σ (f_X0_does a0 v1 (3 : Int32) i1 (-1 : Int32) (-1 : Int32) σ)) fun v2 σ =>
  (rz v2).bind fun z3 =>
  some (z3, σ)
set_option maxHeartbeats 4000000 in
theorem m_X0_drop {l : Launch} {G : ZG} (a0 : Nat) (i1 : Int32) (σ : ZT) {out : (Int32 × ZT)} (hf : f_X0_drop a0 i1 σ = some out) : ZM l G yX0_drop cX0_drop 2 (some .boolean) [] 7 [.ref a0, .int i1] σ (.returned (some (.int out.1))) out.2 := by
  refine ZM.of [(0, .ref a0), (1, .int i1)] rfl (Nat.le_of_ble_eq_true rfl) fun X (C : ZC G RX0 "drop" cX0_drop 2 (some .boolean) [] X 7) => ?_
  unfold f_X0_drop at hf
  refine z_aload_n (q := 1) (i := 0) C 0 dX0_drop_0 rfl rfl rfl ?_
  refine z_aload_n (q := 2) (i := 0) C 0 dX0_drop_1 rfl rfl rfl ?_
  refine z_iload_n (q := 3) (i := 1) C 1 dX0_drop_2 rfl rfl rfl ?_
  refine z_callVi (q := 6) (As := [.int i1]) C (fun o ho => m_X0_isPerson _ _ _ ho) zk0 vvX0_304 cdX0_isPerson pnX0 dX0_drop_3 rfl (by decide) (Nat.le_of_ble_eq_true rfl) hf rfl fun v1 σ hf => ?_
  refine z_iconst (q := 7) C (3 : Int32) dX0_drop_6 ki_3 rfl ?_
  refine z_iload_n (q := 8) (i := 1) C 1 dX0_drop_7 rfl rfl rfl ?_
  refine z_iconst (q := 9) C (-1 : Int32) dX0_drop_8 ki_m1 rfl ?_
  refine z_iconst (q := 10) C (-1 : Int32) dX0_drop_9 ki_m1 rfl ?_
  refine z_callVi (q := 13) (As := [.int v1, .int (3 : Int32), .int i1, .int (-1 : Int32), .int (-1 : Int32)]) C (fun o ho => m_X0_does _ _ _ _ _ _ _ ho) zk0 vvX0_365 cdX0_does pnX0 dX0_drop_10 rfl (by decide) (Nat.le_of_ble_eq_true rfl) hf rfl fun v2 σ hf => ?_
  refine z_rz C hf fun hn hf => ?_
  exact z_zreturn C rfl hn dX0_drop_13 (Option.some.inj hf)

noncomputable def f_X0_begin (a0 : Nat) (σ : ZT) : Option (Int32 × ZT) :=
  (pI 0 7 a0 (0 : Int32) σ).bind fun σ =>
  (gR 0 10 a0 σ).bind fun v1 =>
  (gR 4 400 v1 σ).bind fun v2 =>
  bnd2 (vc 0 a0 σ (f_X0_town_2 a0 σ)) fun v3 σ =>
  (vc 5 v2 σ (f_X5_begin v2 v3 σ)).bind fun σ =>
  some ((1 : Int32), σ)
set_option maxHeartbeats 4000000 in
theorem m_X0_begin {l : Launch} {G : ZG} (a0 : Nat) (σ : ZT) {out : (Int32 × ZT)} (hf : f_X0_begin a0 σ = some out) : ZM l G yX0_begin cX0_begin 1 (some .boolean) [] 2 [.ref a0] σ (.returned (some (.int out.1))) out.2 := by
  refine ZM.of [(0, .ref a0)] rfl (Nat.le_of_ble_eq_true rfl) fun X (C : ZC G RX0 "begin" cX0_begin 1 (some .boolean) [] X 2) => ?_
  unfold f_X0_begin at hf
  refine z_aload_n (q := 1) (i := 0) C 0 dX0_begin_0 rfl rfl rfl ?_
  refine z_iconst (q := 2) C (0 : Int32) dX0_begin_1 ki_0 rfl ?_
  refine z_putI (q := 5) C puX0_110 dX0_begin_2 hf rfl fun σ hf => ?_
  refine z_aload_n (q := 6) (i := 0) C 0 dX0_begin_5 rfl rfl rfl ?_
  refine z_getR (q := 9) C flX0_55 dX0_begin_6 hf rfl fun v1 hf => ?_
  refine z_getR (q := 12) C flX0_183 dX0_begin_9 hf rfl fun v2 hf => ?_
  refine z_aload_n (q := 13) (i := 0) C 0 dX0_begin_12 rfl rfl rfl ?_
  refine z_callVr (q := 16) (As := []) C (fun o ho => m_X0_town_2 _ _ ho) zk0 vvX0_188 cdX0_town_2 pnX0 dX0_begin_13 rfl (by decide) (Nat.le_of_ble_eq_true rfl) hf rfl fun v3 σ hf => ?_
  refine z_callVv (q := 19) (As := [.ref v3]) C (fun o ho => m_X5_begin _ _ _ ho) zk5 vvX0_235 cdX5_begin pnX5 dX0_begin_16 rfl (by decide) (Nat.le_of_ble_eq_true rfl) hf rfl fun σ hf => ?_
  refine z_iconst (q := 20) C (1 : Int32) dX0_begin_19 ki_1 rfl ?_
  exact z_zreturn C rfl z_nb1 dX0_begin_20 (Option.some.inj hf)

noncomputable def f_X0_see (a0 : Nat) (i1 : Int32) (i2 : Int32) (σ : ZT) : Option ZT :=
  (gR 0 15 a0 σ).bind fun v1 =>
  (ldI 0 v1 i1 σ).bind fun v2 =>
  if v2 < 0 then
  ((gR 0 15 a0 σ).bind fun v3 =>
  (stI v3 i1 i2 σ).bind fun σ =>
  (gR 0 16 a0 σ).bind fun v4 =>
  (gI 0 18 a0 σ).bind fun v5 =>
  (stI v4 v5 i1 σ).bind fun σ =>
  (gI 0 18 a0 σ).bind fun v6 =>
  (pI 0 18 a0 (v6 + (1 : Int32)) σ).bind fun σ =>
  some σ)
  else
  (some σ)
set_option maxHeartbeats 4000000 in
theorem m_X0_see {l : Launch} {G : ZG} (a0 : Nat) (i1 : Int32) (i2 : Int32) (σ : ZT) {out : ZT} (hf : f_X0_see a0 i1 i2 σ = some out) : ZM l G yX0_see cX0_see 3 none [] 1 [.ref a0, .int i1, .int i2] σ (.returned none) out := by
  refine ZM.of [(0, .ref a0), (1, .int i1), (2, .int i2)] rfl (Nat.le_of_ble_eq_true rfl) fun X (C : ZC G RX0 "see" cX0_see 3 none [] X 1) => ?_
  unfold f_X0_see at hf
  refine z_aload_n (q := 1) (i := 0) C 0 dX0_see_0 rfl rfl rfl ?_
  refine z_getR (q := 4) C flX0_78 dX0_see_1 hf rfl fun v1 hf => ?_
  refine z_iload_n (q := 5) (i := 1) C 1 dX0_see_4 rfl rfl rfl ?_
  refine z_iald (q := 6) C dX0_see_5 hf rfl fun v2 hf => ?_
  refine z_iflt (q := 9) (tgt := 10) C dX0_see_6 (by decide) rfl hf (fun c6 hf => ?_) (fun c6 hf => ?_)
  · refine z_aload_n (q := 11) (i := 0) C 0 dX0_see_10 rfl rfl rfl ?_
    refine z_getR (q := 14) C flX0_78 dX0_see_11 hf rfl fun v3 hf => ?_
    refine z_iload_n (q := 15) (i := 1) C 1 dX0_see_14 rfl rfl rfl ?_
    refine z_iload_n (q := 16) (i := 2) C 2 dX0_see_15 rfl rfl rfl ?_
    refine z_iast (q := 17) C dX0_see_16 hf rfl fun σ hf => ?_
    refine z_aload_n (q := 18) (i := 0) C 0 dX0_see_17 rfl rfl rfl ?_
    refine z_getR (q := 21) C flX0_81 dX0_see_18 hf rfl fun v4 hf => ?_
    refine z_aload_n (q := 22) (i := 0) C 0 dX0_see_21 rfl rfl rfl ?_
    refine z_getI (q := 25) C flX0_372 dX0_see_22 hf rfl fun v5 hf => ?_
    refine z_iload_n (q := 26) (i := 1) C 1 dX0_see_25 rfl rfl rfl ?_
    refine z_iast (q := 27) C dX0_see_26 hf rfl fun σ hf => ?_
    refine z_aload_n (q := 28) (i := 0) C 0 dX0_see_27 rfl rfl rfl ?_
    refine z_dup (q := 29) C dX0_see_28 rfl rfl ?_
    refine z_getI (q := 32) C flX0_372 dX0_see_29 hf rfl fun v6 hf => ?_
    refine z_iconst (q := 33) C (1 : Int32) dX0_see_32 ki_1 rfl ?_
    refine z_iadd (q := 34) C dX0_see_33 rfl ?_
    refine z_putI (q := 37) C puX0_372 dX0_see_34 hf rfl fun σ hf => ?_
    exact z_return C rfl dX0_see_37 (Option.some.inj hf)
  · exact z_return C rfl dX0_see_9 (Option.some.inj hf)

noncomputable def f_X0_beginAll_L27 (c0_27 : Nat) (i_8 : Int32) (σ : ZT) : Option ((Int32 × ZT) ⊕ ZT) :=
  if i_8 < (129600 : Int32) then
  ((gR 0 15 c0_27 σ).bind fun v12 =>
  (stI v12 i_8 (-1 : Int32) σ).bind fun σ =>
  some (.inl ((i_8 + (1 : Int32)), σ)))
  else
  (some (.inr σ))
noncomputable def f_X0_beginAll (a0 : Nat) (σ : ZT) : Option ZT :=
  (gR 0 14 a0 σ).bind fun v1 =>
  (gR 0 10 a0 σ).bind fun v2 =>
  (gR 4 400 v2 σ).bind fun v3 =>
  (vc 5 v1 σ (f_X5_be v1 v3 σ)).bind fun σ =>
  (gR 0 13 a0 σ).bind fun v5 =>
  bnd2 (vc 0 a0 σ (f_X0_town_2 a0 σ)) fun v6 σ =>
  (vc 7 v5 σ (f_X7_tell v5 v6 σ)).bind fun σ =>
  (loopC (fun s : (Int32 × ZT) => f_X0_beginAll_L27 a0 s.1 s.2) ((0 : Int32), σ)).bind fun σ =>
  (pI 0 18 a0 (0 : Int32) σ).bind fun σ =>
  (gR 0 14 a0 σ).bind fun v13 =>
  bnd2 (vc 5 v13 σ (f_X5_number v13 σ)) fun v14 σ =>
  (vc 0 a0 σ (f_X0_see a0 v14 (0 : Int32) σ)).bind fun σ =>
  some σ
set_option maxHeartbeats 4000000 in
theorem m_X0_beginAll {l : Launch} {G : ZG} (a0 : Nat) (σ : ZT) {out : ZT} (hf : f_X0_beginAll a0 σ = some out) : ZM l G yX0_beginAll cX0_beginAll 2 none [] 7 [.ref a0] σ (.returned none) out := by
  refine ZM.of [(0, .ref a0)] rfl (Nat.le_of_ble_eq_true rfl) fun X (C : ZC G RX0 "beginAll" cX0_beginAll 2 none [] X 7) => ?_
  unfold f_X0_beginAll at hf
  refine z_aload_n (q := 1) (i := 0) C 0 dX0_beginAll_0 rfl rfl rfl ?_
  refine z_getR (q := 4) C flX0_73 dX0_beginAll_1 hf rfl fun v1 hf => ?_
  refine z_aload_n (q := 5) (i := 0) C 0 dX0_beginAll_4 rfl rfl rfl ?_
  refine z_getR (q := 8) C flX0_55 dX0_beginAll_5 hf rfl fun v2 hf => ?_
  refine z_getR (q := 11) C flX0_183 dX0_beginAll_8 hf rfl fun v3 hf => ?_
  refine z_callVv (q := 14) (As := [.ref v3]) C (fun o ho => m_X5_be _ _ _ ho) zk5 vvX0_375 cdX5_be pnX5 dX0_beginAll_11 rfl (by decide) (Nat.le_of_ble_eq_true rfl) hf rfl fun σ hf => ?_
  refine z_aload_n (q := 15) (i := 0) C 0 dX0_beginAll_14 rfl rfl rfl ?_
  refine z_getR (q := 18) C flX0_66 dX0_beginAll_15 hf rfl fun v5 hf => ?_
  refine z_aload_n (q := 19) (i := 0) C 0 dX0_beginAll_18 rfl rfl rfl ?_
  refine z_callVr (q := 22) (As := []) C (fun o ho => m_X0_town_2 _ _ ho) zk0 vvX0_188 cdX0_town_2 pnX0 dX0_beginAll_19 rfl (by decide) (Nat.le_of_ble_eq_true rfl) hf rfl fun v6 σ hf => ?_
  refine z_callVv (q := 25) (As := [.ref v6]) C (fun o ho => m_X7_tell _ _ _ ho) zk7 vvX0_379 cdX7_tell pnX7 dX0_beginAll_22 rfl (by decide) (Nat.le_of_ble_eq_true rfl) hf rfl fun σ hf => ?_
  refine z_iconst (q := 26) C (0 : Int32) dX0_beginAll_25 ki_0 rfl ?_
  refine z_istore_n (q := 27) (i := 1) (lv' := [(1, .int (0 : Int32)), (0, .ref a0)]) C dX0_beginAll_26 rfl (by decide) rfl rfl ?_
  refine z_lv [1, 0] rfl ?_
  obtain ⟨r1, hr1, hk1⟩ := Option.bind_eq_some_iff.mp hf
  refine loopC_ind (P := fun s => ZW l G 2 X (ZQ G X (.returned none) out) s.2 27 [(0, .ref a0), (1, .int s.1)] []) (fun s x1 hf hx1 => ?_) hr1
  obtain ⟨i_8, σ⟩ := s
  unfold f_X0_beginAll_L27 at hf
  try dsimp only at hf
  try dsimp only
  refine z_iload_n (q := 28) (i := 1) C 1 dX0_beginAll_27 rfl rfl rfl ?_
  refine z_ldc (q := 30) C q433 dX0_beginAll_28 rfl ?_
  refine z_icmpge (q := 33) (tgt := 46) C dX0_beginAll_30 (by decide) rfl hf (fun c30 hf => ?_) (fun c30 hf => ?_)
  · have e1 := zl_x hf hx1
    have hf := hk1
    rw [← e1] at hf
    try dsimp only at hf
    refine z_aload_n (q := 47) (i := 0) C 0 dX0_beginAll_46 rfl rfl rfl ?_
    refine z_iconst (q := 48) C (0 : Int32) dX0_beginAll_47 ki_0 rfl ?_
    refine z_putI (q := 51) C puX0_372 dX0_beginAll_48 hf rfl fun σ hf => ?_
    refine z_aload_n (q := 52) (i := 0) C 0 dX0_beginAll_51 rfl rfl rfl ?_
    refine z_aload_n (q := 53) (i := 0) C 0 dX0_beginAll_52 rfl rfl rfl ?_
    refine z_getR (q := 56) C flX0_73 dX0_beginAll_53 hf rfl fun v9 hf => ?_
    refine z_callVi (q := 59) (As := []) C (fun o ho => m_X5_number _ _ ho) zk5 vvX0_382 cdX5_number pnX5 dX0_beginAll_56 rfl (by decide) (Nat.le_of_ble_eq_true rfl) hf rfl fun v10 σ hf => ?_
    refine z_iconst (q := 60) C (0 : Int32) dX0_beginAll_59 ki_0 rfl ?_
    refine z_callVv (q := 63) (As := [.int v10, .int (0 : Int32)]) C (fun o ho => m_X0_see _ _ _ _ ho) zk0 vvX0_384 cdX0_see pnX0 dX0_beginAll_60 rfl (by decide) (Nat.le_of_ble_eq_true rfl) hf rfl fun σ hf => ?_
    exact z_return C rfl dX0_beginAll_63 (Option.some.inj hf)
  · refine z_aload_n (q := 34) (i := 0) C 0 dX0_beginAll_33 rfl rfl rfl ?_
    refine z_getR (q := 37) C flX0_78 dX0_beginAll_34 hf rfl fun v12 hf => ?_
    refine z_iload_n (q := 38) (i := 1) C 1 dX0_beginAll_37 rfl rfl rfl ?_
    refine z_iconst (q := 39) C (-1 : Int32) dX0_beginAll_38 ki_m1 rfl ?_
    refine z_iast (q := 40) C dX0_beginAll_39 hf rfl fun σ hf => ?_
    refine z_iinc (q := 43) (i := 1) (lv' := [(1, .int (i_8 + (1 : Int32))), (0, .ref a0)]) C 1 (i_8 + (1 : Int32)) dX0_beginAll_40 rfl (kn_1 _) (by decide) rfl rfl ?_
    refine z_goto (q := 27) C dX0_beginAll_43 (by decide) ?_
    refine z_lv [1, 0] rfl ?_
    have hc1 := zl_c hf hx1
    exact hc1

noncomputable def f_X0_spread_J55_2 (a0_55 : Nat) (i1_55 : Int32) (i2_55 : Int32) (σ : ZT) : Option ((Int32 × ZT) ⊕ ZT) :=
  some (.inl ((i2_55 + (1 : Int32)), σ))
noncomputable def f_X0_spread_L2 (c0_2 : Nat) (c1_2 : Int32) (i_1 : Int32) (σ : ZT) : Option ((Int32 × ZT) ⊕ ZT) :=
  (gR 0 13 c0_2 σ).bind fun v2 =>
  (gI 7 704 v2 σ).bind fun v3 =>
  if i_1 < v3 then
  ((gR 0 14 c0_2 σ).bind fun v4 =>
  (vc 5 v4 σ (f_X5_be_2 v4 c1_2 σ)).bind fun σ =>
  (gR 0 13 c0_2 σ).bind fun v6 =>
  (gR 0 14 c0_2 σ).bind fun v7 =>
  bnd2 (vc 7 v6 σ (f_X7_does v6 v7 i_1 σ)) fun v8 σ =>
  if v8 = 0 then
  (f_X0_spread_J55_2 c0_2 c1_2 i_1 σ)
  else
  ((gR 0 14 c0_2 σ).bind fun v9 =>
  bnd2 (vc 5 v9 σ (f_X5_number v9 σ)) fun v10 σ =>
  (gR 0 15 c0_2 σ).bind fun v11 =>
  (ldI 0 v11 c1_2 σ).bind fun v12 =>
  (vc 0 c0_2 σ (f_X0_see c0_2 v10 (v12 + (1 : Int32)) σ)).bind fun σ =>
  f_X0_spread_J55_2 c0_2 c1_2 i_1 σ))
  else
  (some (.inr σ))
noncomputable def f_X0_spread (a0 : Nat) (i1 : Int32) (σ : ZT) : Option ZT :=
  (loopC (fun s : (Int32 × ZT) => f_X0_spread_L2 a0 i1 s.1 s.2) ((0 : Int32), σ)).bind fun σ =>
  some σ
set_option maxHeartbeats 4000000 in
theorem m_X0_spread {l : Launch} {G : ZG} (a0 : Nat) (i1 : Int32) (σ : ZT) {out : ZT} (hf : f_X0_spread a0 i1 σ = some out) : ZM l G yX0_spread cX0_spread 3 none [] 7 [.ref a0, .int i1] σ (.returned none) out := by
  refine ZM.of [(0, .ref a0), (1, .int i1)] rfl (Nat.le_of_ble_eq_true rfl) fun X (C : ZC G RX0 "spread" cX0_spread 3 none [] X 7) => ?_
  unfold f_X0_spread at hf
  refine z_iconst (q := 1) C (0 : Int32) dX0_spread_0 ki_0 rfl ?_
  refine z_istore_n (q := 2) (i := 2) (lv' := [(2, .int (0 : Int32)), (0, .ref a0), (1, .int i1)]) C dX0_spread_1 rfl (by decide) rfl rfl ?_
  refine z_lv [1, 2, 0] rfl ?_
  obtain ⟨r1, hr1, hk1⟩ := Option.bind_eq_some_iff.mp hf
  refine loopC_ind (P := fun s => ZW l G 3 X (ZQ G X (.returned none) out) s.2 2 [(0, .ref a0), (1, .int i1), (2, .int s.1)] []) (fun s x1 hf hx1 => ?_) hr1
  obtain ⟨i_1, σ⟩ := s
  unfold f_X0_spread_L2 at hf
  try dsimp only at hf
  try dsimp only
  have j55_1 : ∀ (i2_55 : Int32) (σ : ZT), f_X0_spread_J55_2 a0 i1 i2_55 σ = some x1 → ZW l G 3 X (ZQ G X (.returned none) out) σ 55 [(0, .ref a0), (1, .int i1), (2, .int i2_55)] [] := by
    intro i2_55 σ hf
    unfold f_X0_spread_J55_2 at hf
    refine z_iinc (q := 58) (i := 2) (lv' := [(2, .int (i2_55 + (1 : Int32))), (0, .ref a0), (1, .int i1)]) C 2 (i2_55 + (1 : Int32)) dX0_spread_55 rfl (kn_1 _) (by decide) rfl rfl ?_
    refine z_goto (q := 2) C dX0_spread_58 (by decide) ?_
    refine z_lv [1, 2, 0] rfl ?_
    have hc1 := zl_c hf hx1
    exact hc1
  refine z_iload_n (q := 3) (i := 2) C 2 dX0_spread_2 rfl rfl rfl ?_
  refine z_aload_n (q := 4) (i := 0) C 0 dX0_spread_3 rfl rfl rfl ?_
  refine z_getR (q := 7) C flX0_66 dX0_spread_4 hf rfl fun v2 hf => ?_
  refine z_getI (q := 10) C flX0_388 dX0_spread_7 hf rfl fun v3 hf => ?_
  refine z_icmpge (q := 13) (tgt := 61) C dX0_spread_10 (by decide) rfl hf (fun c10 hf => ?_) (fun c10 hf => ?_)
  · have e1 := zl_x hf hx1
    have hf := hk1
    rw [← e1] at hf
    try dsimp only at hf
    exact z_return C rfl dX0_spread_61 (Option.some.inj hf)
  · refine z_aload_n (q := 14) (i := 0) C 0 dX0_spread_13 rfl rfl rfl ?_
    refine z_getR (q := 17) C flX0_73 dX0_spread_14 hf rfl fun v4 hf => ?_
    refine z_iload_n (q := 18) (i := 1) C 1 dX0_spread_17 rfl rfl rfl ?_
    refine z_callVv (q := 21) (As := [.int i1]) C (fun o ho => m_X5_be_2 _ _ _ ho) zk5 vvX0_391 cdX5_be_2 pnX5 dX0_spread_18 rfl (by decide) (Nat.le_of_ble_eq_true rfl) hf rfl fun σ hf => ?_
    refine z_aload_n (q := 22) (i := 0) C 0 dX0_spread_21 rfl rfl rfl ?_
    refine z_getR (q := 25) C flX0_66 dX0_spread_22 hf rfl fun v6 hf => ?_
    refine z_aload_n (q := 26) (i := 0) C 0 dX0_spread_25 rfl rfl rfl ?_
    refine z_getR (q := 29) C flX0_73 dX0_spread_26 hf rfl fun v7 hf => ?_
    refine z_iload_n (q := 30) (i := 2) C 2 dX0_spread_29 rfl rfl rfl ?_
    refine z_callVi (q := 33) (As := [.ref v7, .int i_1]) C (fun o ho => m_X7_does _ _ _ _ ho) zk7 vvX0_393 cdX7_does pnX7 dX0_spread_30 rfl (by decide) (Nat.le_of_ble_eq_true rfl) hf rfl fun v8 σ hf => ?_
    refine z_ifeq (q := 36) (tgt := 55) C dX0_spread_33 (by decide) rfl hf (fun c33 hf => ?_) (fun c33 hf => ?_)
    · exact j55_1 i_1 σ hf
    · refine z_aload_n (q := 37) (i := 0) C 0 dX0_spread_36 rfl rfl rfl ?_
      refine z_aload_n (q := 38) (i := 0) C 0 dX0_spread_37 rfl rfl rfl ?_
      refine z_getR (q := 41) C flX0_73 dX0_spread_38 hf rfl fun v9 hf => ?_
      refine z_callVi (q := 44) (As := []) C (fun o ho => m_X5_number _ _ ho) zk5 vvX0_382 cdX5_number pnX5 dX0_spread_41 rfl (by decide) (Nat.le_of_ble_eq_true rfl) hf rfl fun v10 σ hf => ?_
      refine z_aload_n (q := 45) (i := 0) C 0 dX0_spread_44 rfl rfl rfl ?_
      refine z_getR (q := 48) C flX0_78 dX0_spread_45 hf rfl fun v11 hf => ?_
      refine z_iload_n (q := 49) (i := 1) C 1 dX0_spread_48 rfl rfl rfl ?_
      refine z_iald (q := 50) C dX0_spread_49 hf rfl fun v12 hf => ?_
      refine z_iconst (q := 51) C (1 : Int32) dX0_spread_50 ki_1 rfl ?_
      refine z_iadd (q := 52) C dX0_spread_51 rfl ?_
      refine z_callVv (q := 55) (As := [.int v10, .int (v12 + (1 : Int32))]) C (fun o ho => m_X0_see _ _ _ _ ho) zk0 vvX0_384 cdX0_see pnX0 dX0_spread_52 rfl (by decide) (Nat.le_of_ble_eq_true rfl) hf rfl fun σ hf => ?_
      exact j55_1 i_1 σ hf

noncomputable def f_X0_findAll_L6 (c0_6 : Nat) (i_2 : Int32) (σ : ZT) : Option ((Int32 × ZT) ⊕ ZT) :=
  (gI 0 18 c0_6 σ).bind fun v3 =>
  if i_2 < v3 then
  ((gR 0 16 c0_6 σ).bind fun v4 =>
  (ldI 0 v4 i_2 σ).bind fun v5 =>
  (vc 0 c0_6 σ (f_X0_spread c0_6 v5 σ)).bind fun σ =>
  some (.inl ((i_2 + (1 : Int32)), σ)))
  else
  (some (.inr σ))
noncomputable def f_X0_findAll (a0 : Nat) (σ : ZT) : Option ZT :=
  (vc 0 a0 σ (f_X0_beginAll a0 σ)).bind fun σ =>
  (loopC (fun s : (Int32 × ZT) => f_X0_findAll_L6 a0 s.1 s.2) ((0 : Int32), σ)).bind fun σ =>
  some σ
set_option maxHeartbeats 4000000 in
theorem m_X0_findAll {l : Launch} {G : ZG} (a0 : Nat) (σ : ZT) {out : ZT} (hf : f_X0_findAll a0 σ = some out) : ZM l G yX0_findAll cX0_findAll 2 none [] 8 [.ref a0] σ (.returned none) out := by
  refine ZM.of [(0, .ref a0)] rfl (Nat.le_of_ble_eq_true rfl) fun X (C : ZC G RX0 "findAll" cX0_findAll 2 none [] X 8) => ?_
  unfold f_X0_findAll at hf
  refine z_aload_n (q := 1) (i := 0) C 0 dX0_findAll_0 rfl rfl rfl ?_
  refine z_callVv (q := 4) (As := []) C (fun o ho => m_X0_beginAll _ _ ho) zk0 vvX0_396 cdX0_beginAll pnX0 dX0_findAll_1 rfl (by decide) (Nat.le_of_ble_eq_true rfl) hf rfl fun σ hf => ?_
  refine z_iconst (q := 5) C (0 : Int32) dX0_findAll_4 ki_0 rfl ?_
  refine z_istore_n (q := 6) (i := 1) (lv' := [(1, .int (0 : Int32)), (0, .ref a0)]) C dX0_findAll_5 rfl (by decide) rfl rfl ?_
  refine z_lv [1, 0] rfl ?_
  obtain ⟨r1, hr1, hk1⟩ := Option.bind_eq_some_iff.mp hf
  refine loopC_ind (P := fun s => ZW l G 2 X (ZQ G X (.returned none) out) s.2 6 [(0, .ref a0), (1, .int s.1)] []) (fun s x1 hf hx1 => ?_) hr1
  obtain ⟨i_2, σ⟩ := s
  unfold f_X0_findAll_L6 at hf
  try dsimp only at hf
  try dsimp only
  refine z_iload_n (q := 7) (i := 1) C 1 dX0_findAll_6 rfl rfl rfl ?_
  refine z_aload_n (q := 8) (i := 0) C 0 dX0_findAll_7 rfl rfl rfl ?_
  refine z_getI (q := 11) C flX0_372 dX0_findAll_8 hf rfl fun v3 hf => ?_
  refine z_icmpge (q := 14) (tgt := 30) C dX0_findAll_11 (by decide) rfl hf (fun c11 hf => ?_) (fun c11 hf => ?_)
  · have e1 := zl_x hf hx1
    have hf := hk1
    rw [← e1] at hf
    try dsimp only at hf
    exact z_return C rfl dX0_findAll_30 (Option.some.inj hf)
  · refine z_aload_n (q := 15) (i := 0) C 0 dX0_findAll_14 rfl rfl rfl ?_
    refine z_aload_n (q := 16) (i := 0) C 0 dX0_findAll_15 rfl rfl rfl ?_
    refine z_getR (q := 19) C flX0_81 dX0_findAll_16 hf rfl fun v4 hf => ?_
    refine z_iload_n (q := 20) (i := 1) C 1 dX0_findAll_19 rfl rfl rfl ?_
    refine z_iald (q := 21) C dX0_findAll_20 hf rfl fun v5 hf => ?_
    refine z_callVv (q := 24) (As := [.int v5]) C (fun o ho => m_X0_spread _ _ _ ho) zk0 vvX0_399 cdX0_spread pnX0 dX0_findAll_21 rfl (by decide) (Nat.le_of_ble_eq_true rfl) hf rfl fun σ hf => ?_
    refine z_iinc (q := 27) (i := 1) (lv' := [(1, .int (i_2 + (1 : Int32))), (0, .ref a0)]) C 1 (i_2 + (1 : Int32)) dX0_findAll_24 rfl (kn_1 _) (by decide) rfl rfl ?_
    refine z_goto (q := 6) C dX0_findAll_27 (by decide) ?_
    refine z_lv [1, 0] rfl ?_
    have hc1 := zl_c hf hx1
    exact hc1

noncomputable def f_X0_leastCost_J333_283 (a0_333 : Nat) (i6_333 : Int32) (i7_333 : Int32) (σ : ZT) : Option ((Int32 × Int32 × ZT) ⊕ (Int32 × ZT)) :=
  some (.inl (i6_333, (i7_333 + (1 : Int32)), σ))
noncomputable def f_X0_leastCost_L283 (c0_283 : Nat) (i_10 : Int32) (i_11 : Int32) (σ : ZT) : Option ((Int32 × Int32 × ZT) ⊕ (Int32 × ZT)) :=
  if i_11 < (129600 : Int32) then
  ((gR 0 15 c0_283 σ).bind fun v12 =>
  (ldI 0 v12 i_11 σ).bind fun v13 =>
  if v13 < i_10 then
  ((gR 0 14 c0_283 σ).bind fun v14 =>
  (vc 5 v14 σ (f_X5_be_2 v14 i_11 σ)).bind fun σ =>
  (gR 0 14 c0_283 σ).bind fun v16 =>
  bnd2 (vc 5 v16 σ (f_X5_isDone v16 σ)) fun v17 σ =>
  if v17 = 0 then
  (f_X0_leastCost_J333_283 c0_283 i_10 i_11 σ)
  else
  ((gR 0 15 c0_283 σ).bind fun v18 =>
  (ldI 0 v18 i_11 σ).bind fun v19 =>
  f_X0_leastCost_J333_283 c0_283 v19 i_11 σ))
  else
  (f_X0_leastCost_J333_283 c0_283 i_10 i_11 σ))
  else
  (some (.inr (i_10, σ)))
noncomputable def f_X0_leastCost_J266_112 (a0_266 : Nat) (i1_266 : Int32) (i3_266 : Int32) (i4_266 : Int32) (i5_266 : Int32) (i6_266 : Int32) (i7_266 : Int32) (σ : ZT) : Option ((Int32 × Int32 × ZT) ⊕ (Int32 × ZT)) :=
  some (.inl (i5_266, (i7_266 + (1 : Int32)), σ))
noncomputable def f_X0_leastCost_J201_112 (a0_201 : Nat) (i1_201 : Int32) (i3_201 : Int32) (i4_201 : Int32) (i5_201 : Int32) (i6_201 : Int32) (i7_201 : Int32) (i8_201 : Int32) (w0_201 : Int32) (w1_201 : Int32) (σ : ZT) : Option ((Int32 × Int32 × ZT) ⊕ (Int32 × ZT)) :=
  (gR 0 15 a0_201 σ).bind fun v43 =>
  (ldI 0 v43 i8_201 σ).bind fun v44 =>
  if (w1_201 + w0_201) < v44 then
  ((gR 0 15 a0_201 σ).bind fun v45 =>
  (stI v45 i8_201 (w1_201 + w0_201) σ).bind fun σ =>
  (gR 0 19 a0_201 σ).bind fun v46 =>
  (ldI 4 v46 i8_201 σ).bind fun v47 =>
  if v47 = 0 then
  ((gR 0 19 a0_201 σ).bind fun v48 =>
  (stZ v48 i8_201 (1 : Int32) σ).bind fun σ =>
  (gR 0 16 a0_201 σ).bind fun v49 =>
  (zirem (i4_201 + i5_201) i3_201).bind fun v50 =>
  (stI v49 v50 i8_201 σ).bind fun σ =>
  f_X0_leastCost_J266_112 a0_201 i1_201 i3_201 i4_201 (i5_201 + (1 : Int32)) i6_201 i7_201 σ)
  else
  (f_X0_leastCost_J266_112 a0_201 i1_201 i3_201 i4_201 i5_201 i6_201 i7_201 σ))
  else
  (f_X0_leastCost_J266_112 a0_201 i1_201 i3_201 i4_201 i5_201 i6_201 i7_201 σ)
noncomputable def f_X0_leastCost_L112 (c0_112 : Nat) (c1_112 : Int32) (c3_112 : Int32) (c4_112 : Int32) (c6_112 : Int32) (i_24 : Int32) (i_25 : Int32) (σ : ZT) : Option ((Int32 × Int32 × ZT) ⊕ (Int32 × ZT)) :=
  (gR 0 13 c0_112 σ).bind fun v26 =>
  (gI 7 704 v26 σ).bind fun v27 =>
  if i_25 < v27 then
  ((gR 0 14 c0_112 σ).bind fun v28 =>
  (vc 5 v28 σ (f_X5_be_2 v28 c6_112 σ)).bind fun σ =>
  (gR 0 13 c0_112 σ).bind fun v30 =>
  (gR 0 14 c0_112 σ).bind fun v31 =>
  bnd2 (vc 7 v30 σ (f_X7_does v30 v31 i_25 σ)) fun v32 σ =>
  if v32 = 0 then
  (f_X0_leastCost_J266_112 c0_112 c1_112 c3_112 c4_112 i_24 c6_112 i_25 σ)
  else
  ((gR 0 14 c0_112 σ).bind fun v33 =>
  bnd2 (vc 5 v33 σ (f_X5_number v33 σ)) fun v34 σ =>
  (gR 0 15 c0_112 σ).bind fun v35 =>
  (ldI 0 v35 c6_112 σ).bind fun v36 =>
  if c1_112 = 0 then
  ((gR 0 13 c0_112 σ).bind fun v37 =>
  bnd2 (vc 0 c0_112 σ (f_X0_town_2 c0_112 σ)) fun v38 σ =>
  bnd2 (vc 7 v37 σ (f_X7_minutes v37 v38 i_25 σ)) fun v39 σ =>
  f_X0_leastCost_J201_112 c0_112 c1_112 c3_112 c4_112 i_24 c6_112 i_25 v34 v39 v36 σ)
  else
  ((gR 0 13 c0_112 σ).bind fun v40 =>
  bnd2 (vc 0 c0_112 σ (f_X0_town_2 c0_112 σ)) fun v41 σ =>
  bnd2 (vc 7 v40 σ (f_X7_toll v40 v41 i_25 σ)) fun v42 σ =>
  f_X0_leastCost_J201_112 c0_112 c1_112 c3_112 c4_112 i_24 c6_112 i_25 v34 v42 v36 σ)))
  else
  (some (.inr (i_24, σ)))
noncomputable def f_X0_leastCost_J96_66 (a0_96 : Nat) (i1_96 : Int32) (i3_96 : Int32) (i5_96 : Int32) (i6_96 : Int32) (w0_96 : Int32) (σ : ZT) : Option ((Int32 × Int32 × ZT) ⊕ ZT) :=
  (gR 0 19 a0_96 σ).bind fun v23 =>
  (stZ v23 i6_96 (0 : Int32) σ).bind fun σ =>
  (loopC (fun s : (Int32 × Int32 × ZT) => f_X0_leastCost_L112 a0_96 i1_96 i3_96 w0_96 i6_96 s.1 s.2.1 s.2.2) ((i5_96 + (-1 : Int32)), (0 : Int32), σ)).bind fun x => (match x with
  | (x51, σ) => some (.inl (w0_96, x51, σ)))
noncomputable def f_X0_leastCost_L66 (c0_66 : Nat) (c1_66 : Int32) (c3_66 : Int32) (i_8 : Int32) (i_9 : Int32) (σ : ZT) : Option ((Int32 × Int32 × ZT) ⊕ ZT) :=
  if 0 < i_9 then
  ((gR 0 16 c0_66 σ).bind fun v21 =>
  (ldI 0 v21 i_8 σ).bind fun v22 =>
  if (i_8 + (1 : Int32)) = c3_66 then
  (f_X0_leastCost_J96_66 c0_66 c1_66 c3_66 i_9 v22 (0 : Int32) σ)
  else
  (f_X0_leastCost_J96_66 c0_66 c1_66 c3_66 i_9 v22 (i_8 + (1 : Int32)) σ))
  else
  (some (.inr σ))
noncomputable def f_X0_leastCost_L6 (c0_6 : Nat) (c1_6 : Int32) (i_2 : Int32) (σ : ZT) : Option ((Int32 × ZT) ⊕ ZT) :=
  if i_2 < (129600 : Int32) then
  ((gR 0 15 c0_6 σ).bind fun v63 =>
  (stI v63 i_2 (2147483647 : Int32) σ).bind fun σ =>
  (gR 0 19 c0_6 σ).bind fun v64 =>
  (stZ v64 i_2 (0 : Int32) σ).bind fun σ =>
  some (.inl ((i_2 + (1 : Int32)), σ)))
  else
  (some (.inr σ))
noncomputable def f_X0_leastCost_J353 (w0_353 : Int32) (σ : ZT) : Option (Int32 × ZT) :=
  some (w0_353, σ)
noncomputable def f_X0_leastCost (a0 : Nat) (i1 : Int32) (σ : ZT) : Option (Int32 × ZT) :=
  (vc 0 a0 σ (f_X0_findAll a0 σ)).bind fun σ =>
  (loopC (fun s : (Int32 × ZT) => f_X0_leastCost_L6 a0 i1 s.1 s.2) ((0 : Int32), σ)).bind fun σ =>
  (gR 0 16 a0 σ).bind fun v65 =>
  (ldI 0 v65 (0 : Int32) σ).bind fun v66 =>
  (gI 0 18 a0 σ).bind fun v67 =>
  (gR 0 15 a0 σ).bind fun v68 =>
  (stI v68 v66 (0 : Int32) σ).bind fun σ =>
  (gR 0 19 a0 σ).bind fun v69 =>
  (stZ v69 v66 (1 : Int32) σ).bind fun σ =>
  (loopC (fun s : (Int32 × Int32 × ZT) => f_X0_leastCost_L66 a0 i1 v67 s.1 s.2.1 s.2.2) ((0 : Int32), (1 : Int32), σ)).bind fun σ =>
  (loopC (fun s : (Int32 × Int32 × ZT) => f_X0_leastCost_L283 a0 s.1 s.2.1 s.2.2) ((2147483647 : Int32), (0 : Int32), σ)).bind fun x => (match x with
  | (x124, σ) => if x124 = (2147483647 : Int32) then
  (f_X0_leastCost_J353 (-1 : Int32) σ)
  else
  (f_X0_leastCost_J353 x124 σ))
set_option maxHeartbeats 4000000 in
theorem m_X0_leastCost {l : Launch} {G : ZG} (a0 : Nat) (i1 : Int32) (σ : ZT) {out : (Int32 × ZT)} (hf : f_X0_leastCost a0 i1 σ = some out) : ZM l G yX0_leastCost cX0_leastCost 10 (some .int) [] 9 [.ref a0, .int i1] σ (.returned (some (.int out.1))) out.2 := by
  refine ZM.of [(0, .ref a0), (1, .int i1)] rfl (Nat.le_of_ble_eq_true rfl) fun X (C : ZC G RX0 "leastCost" cX0_leastCost 10 (some .int) [] X 9) => ?_
  unfold f_X0_leastCost at hf
  have j353_0 : ∀ (w0_353 : Int32) (σ : ZT), f_X0_leastCost_J353 w0_353 σ = some out → ZW l G 10 X (ZQ G X (.returned (some (.int out.1))) out.2) σ 353 [] [.int w0_353] := by
    intro w0_353 σ hf
    unfold f_X0_leastCost_J353 at hf
    exact z_ireturn C rfl dX0_leastCost_353 (Option.some.inj hf)
  refine z_aload_n (q := 1) (i := 0) C 0 dX0_leastCost_0 rfl rfl rfl ?_
  refine z_callVv (q := 4) (As := []) C (fun o ho => m_X0_findAll _ _ ho) zk0 vvX0_402 cdX0_findAll pnX0 dX0_leastCost_1 rfl (by decide) (Nat.le_of_ble_eq_true rfl) hf rfl fun σ hf => ?_
  refine z_iconst (q := 5) C (0 : Int32) dX0_leastCost_4 ki_0 rfl ?_
  refine z_istore_n (q := 6) (i := 2) (lv' := [(2, .int (0 : Int32)), (0, .ref a0), (1, .int i1)]) C dX0_leastCost_5 rfl (by decide) rfl rfl ?_
  refine z_lv [1, 2, 0] rfl ?_
  obtain ⟨r1, hr1, hk1⟩ := Option.bind_eq_some_iff.mp hf
  refine loopC_ind (P := fun s => ZW l G 10 X (ZQ G X (.returned (some (.int out.1))) out.2) s.2 6 [(0, .ref a0), (1, .int i1), (2, .int s.1)] []) (fun s x1 hf hx1 => ?_) hr1
  obtain ⟨i_2, σ⟩ := s
  unfold f_X0_leastCost_L6 at hf
  try dsimp only at hf
  try dsimp only
  refine z_iload_n (q := 7) (i := 2) C 2 dX0_leastCost_6 rfl rfl rfl ?_
  refine z_ldc (q := 9) C q433 dX0_leastCost_7 rfl ?_
  refine z_icmpge (q := 12) (tgt := 34) C dX0_leastCost_9 (by decide) rfl hf (fun c9 hf => ?_) (fun c9 hf => ?_)
  · have e1 := zl_x hf hx1
    have hf := hk1
    rw [← e1] at hf
    try dsimp only at hf
    refine z_aload_n (q := 35) (i := 0) C 0 dX0_leastCost_34 rfl rfl rfl ?_
    refine z_getR (q := 38) C flX0_81 dX0_leastCost_35 hf rfl fun v3 hf => ?_
    refine z_iconst (q := 39) C (0 : Int32) dX0_leastCost_38 ki_0 rfl ?_
    refine z_iald (q := 40) C dX0_leastCost_39 hf rfl fun v4 hf => ?_
    refine z_istore_n (q := 41) (i := 2) (lv' := [(2, .int v4), (0, .ref a0), (1, .int i1)]) C dX0_leastCost_40 rfl (by decide) rfl rfl ?_
    refine z_aload_n (q := 42) (i := 0) C 1 dX0_leastCost_41 rfl rfl rfl ?_
    refine z_getI (q := 45) C flX0_372 dX0_leastCost_42 hf rfl fun v5 hf => ?_
    refine z_istore_n (q := 46) (i := 3) (lv' := [(3, .int v5), (2, .int v4), (0, .ref a0), (1, .int i1)]) C dX0_leastCost_45 rfl (by decide) rfl rfl ?_
    refine z_aload_n (q := 47) (i := 0) C 2 dX0_leastCost_46 rfl rfl rfl ?_
    refine z_getR (q := 50) C flX0_78 dX0_leastCost_47 hf rfl fun v6 hf => ?_
    refine z_iload_n (q := 51) (i := 2) C 1 dX0_leastCost_50 rfl rfl rfl ?_
    refine z_iconst (q := 52) C (0 : Int32) dX0_leastCost_51 ki_0 rfl ?_
    refine z_iast (q := 53) C dX0_leastCost_52 hf rfl fun σ hf => ?_
    refine z_iconst (q := 54) C (0 : Int32) dX0_leastCost_53 ki_0 rfl ?_
    refine z_istore (q := 56) (i := 4) (lv' := [(4, .int (0 : Int32)), (3, .int v5), (2, .int v4), (0, .ref a0), (1, .int i1)]) C dX0_leastCost_54 (by decide) rfl rfl ?_
    refine z_iconst (q := 57) C (1 : Int32) dX0_leastCost_56 ki_1 rfl ?_
    refine z_istore (q := 59) (i := 5) (lv' := [(5, .int (1 : Int32)), (4, .int (0 : Int32)), (3, .int v5), (2, .int v4), (0, .ref a0), (1, .int i1)]) C dX0_leastCost_57 (by decide) rfl rfl ?_
    refine z_aload_n (q := 60) (i := 0) C 4 dX0_leastCost_59 rfl rfl rfl ?_
    refine z_getR (q := 63) C flX0_88 dX0_leastCost_60 hf rfl fun v7 hf => ?_
    refine z_iload_n (q := 64) (i := 2) C 3 dX0_leastCost_63 rfl rfl rfl ?_
    refine z_iconst (q := 65) C (1 : Int32) dX0_leastCost_64 ki_1 rfl ?_
    refine z_zast (q := 66) C dX0_leastCost_65 hf rfl fun σ hf => ?_
    refine z_lv [4, 5, 2, 1, 0] rfl ?_
    obtain ⟨r1, hr1, hk1⟩ := Option.bind_eq_some_iff.mp hf
    refine loopC_ind (P := fun s => ZW l G 10 X (ZQ G X (.returned (some (.int out.1))) out.2) s.2.2 66 [(0, .ref a0), (1, .int i1), (3, .int v5), (4, .int s.1), (5, .int s.2.1)] []) (fun s x1 hf hx1 => ?_) hr1
    obtain ⟨i_8, i_9, σ⟩ := s
    unfold f_X0_leastCost_L66 at hf
    try dsimp only at hf
    try dsimp only
    have j96_1 : ∀ (i5_96 : Int32) (i6_96 : Int32) (w0_96 : Int32) (σ : ZT), f_X0_leastCost_J96_66 a0 i1 v5 i5_96 i6_96 w0_96 σ = some x1 → ZW l G 10 X (ZQ G X (.returned (some (.int out.1))) out.2) σ 96 [(0, .ref a0), (1, .int i1), (3, .int v5), (5, .int i5_96), (6, .int i6_96)] [.int w0_96] := by
      intro i5_96 i6_96 w0_96 σ hf
      unfold f_X0_leastCost_J96_66 at hf
      refine z_istore (q := 98) (i := 4) (lv' := [(4, .int w0_96), (0, .ref a0), (1, .int i1), (3, .int v5), (5, .int i5_96), (6, .int i6_96)]) C dX0_leastCost_96 (by decide) rfl rfl ?_
      refine z_iinc (q := 101) (i := 5) (lv' := [(5, .int (i5_96 + (-1 : Int32))), (4, .int w0_96), (0, .ref a0), (1, .int i1), (3, .int v5), (6, .int i6_96)]) C 4 (i5_96 + (-1 : Int32)) dX0_leastCost_98 rfl (kn_m1 _) (by decide) rfl rfl ?_
      refine z_aload_n (q := 102) (i := 0) C 2 dX0_leastCost_101 rfl rfl rfl ?_
      refine z_getR (q := 105) C flX0_88 dX0_leastCost_102 hf rfl fun v22 hf => ?_
      refine z_iload (q := 107) (i := 6) C 5 dX0_leastCost_105 rfl rfl ?_
      refine z_iconst (q := 108) C (0 : Int32) dX0_leastCost_107 ki_0 rfl ?_
      refine z_zast (q := 109) C dX0_leastCost_108 hf rfl fun σ hf => ?_
      refine z_iconst (q := 110) C (0 : Int32) dX0_leastCost_109 ki_0 rfl ?_
      refine z_istore (q := 112) (i := 7) (lv' := [(7, .int (0 : Int32)), (5, .int (i5_96 + (-1 : Int32))), (4, .int w0_96), (0, .ref a0), (1, .int i1), (3, .int v5), (6, .int i6_96)]) C dX0_leastCost_110 (by decide) rfl rfl ?_
      refine z_lv [3, 4, 5, 2, 1, 6, 0] rfl ?_
      obtain ⟨r2, hr2, hk2⟩ := Option.bind_eq_some_iff.mp hf
      refine loopC_ind (P := fun s => ZW l G 10 X (ZQ G X (.returned (some (.int out.1))) out.2) s.2.2 112 [(0, .ref a0), (1, .int i1), (3, .int v5), (4, .int w0_96), (5, .int s.1), (6, .int i6_96), (7, .int s.2.1)] []) (fun s x2 hf hx2 => ?_) hr2
      obtain ⟨i_23, i_24, σ⟩ := s
      unfold f_X0_leastCost_L112 at hf
      try dsimp only at hf
      try dsimp only
      have j266_2 : ∀ (i5_266 : Int32) (i7_266 : Int32) (σ : ZT), f_X0_leastCost_J266_112 a0 i1 v5 w0_96 i5_266 i6_96 i7_266 σ = some x2 → ZW l G 10 X (ZQ G X (.returned (some (.int out.1))) out.2) σ 266 [(0, .ref a0), (1, .int i1), (3, .int v5), (4, .int w0_96), (5, .int i5_266), (6, .int i6_96), (7, .int i7_266)] [] := by
        intro i5_266 i7_266 σ hf
        unfold f_X0_leastCost_J266_112 at hf
        refine z_iinc (q := 269) (i := 7) (lv' := [(7, .int (i7_266 + (1 : Int32))), (0, .ref a0), (1, .int i1), (3, .int v5), (4, .int w0_96), (5, .int i5_266), (6, .int i6_96)]) C 6 (i7_266 + (1 : Int32)) dX0_leastCost_266 rfl (kn_1 _) (by decide) rfl rfl ?_
        refine z_goto (q := 112) C dX0_leastCost_269 (by decide) ?_
        refine z_lv [1, 2, 3, 4, 5, 6, 0] rfl ?_
        have hc2 := zl_c hf hx2
        exact hc2
      have j201_2 : ∀ (i5_201 : Int32) (i7_201 : Int32) (i8_201 : Int32) (w0_201 : Int32) (w1_201 : Int32) (σ : ZT), f_X0_leastCost_J201_112 a0 i1 v5 w0_96 i5_201 i6_96 i7_201 i8_201 w0_201 w1_201 σ = some x2 → ZW l G 10 X (ZQ G X (.returned (some (.int out.1))) out.2) σ 201 [(0, .ref a0), (1, .int i1), (3, .int v5), (4, .int w0_96), (5, .int i5_201), (6, .int i6_96), (7, .int i7_201), (8, .int i8_201)] [.int w0_201, .int w1_201] := by
        intro i5_201 i7_201 i8_201 w0_201 w1_201 σ hf
        unfold f_X0_leastCost_J201_112 at hf
        refine z_iadd (q := 202) C dX0_leastCost_201 rfl ?_
        refine z_istore (q := 204) (i := 9) (lv' := [(9, .int (w1_201 + w0_201)), (0, .ref a0), (1, .int i1), (3, .int v5), (4, .int w0_96), (5, .int i5_201), (6, .int i6_96), (7, .int i7_201), (8, .int i8_201)]) C dX0_leastCost_202 (by decide) rfl rfl ?_
        refine z_iload (q := 206) (i := 9) C 0 dX0_leastCost_204 rfl rfl ?_
        refine z_aload_n (q := 207) (i := 0) C 1 dX0_leastCost_206 rfl rfl rfl ?_
        refine z_getR (q := 210) C flX0_78 dX0_leastCost_207 hf rfl fun v42 hf => ?_
        refine z_iload (q := 212) (i := 8) C 8 dX0_leastCost_210 rfl rfl ?_
        refine z_iald (q := 213) C dX0_leastCost_212 hf rfl fun v43 hf => ?_
        refine z_icmplt (q := 216) (tgt := 219) C dX0_leastCost_213 (by decide) rfl hf (fun c213 hf => ?_) (fun c213 hf => ?_)
        · refine z_aload_n (q := 220) (i := 0) C 1 dX0_leastCost_219 rfl rfl rfl ?_
          refine z_getR (q := 223) C flX0_78 dX0_leastCost_220 hf rfl fun v44 hf => ?_
          refine z_iload (q := 225) (i := 8) C 8 dX0_leastCost_223 rfl rfl ?_
          refine z_iload (q := 227) (i := 9) C 0 dX0_leastCost_225 rfl rfl ?_
          refine z_iast (q := 228) C dX0_leastCost_227 hf rfl fun σ hf => ?_
          refine z_aload_n (q := 229) (i := 0) C 1 dX0_leastCost_228 rfl rfl rfl ?_
          refine z_getR (q := 232) C flX0_88 dX0_leastCost_229 hf rfl fun v45 hf => ?_
          refine z_iload (q := 234) (i := 8) C 8 dX0_leastCost_232 rfl rfl ?_
          refine z_zald (q := 235) C dX0_leastCost_234 hf rfl fun v46 hf => ?_
          refine z_ifeq (q := 238) (tgt := 241) C dX0_leastCost_235 (by decide) rfl hf (fun c235 hf => ?_) (fun c235 hf => ?_)
          · refine z_aload_n (q := 242) (i := 0) C 1 dX0_leastCost_241 rfl rfl rfl ?_
            refine z_getR (q := 245) C flX0_88 dX0_leastCost_242 hf rfl fun v47 hf => ?_
            refine z_iload (q := 247) (i := 8) C 8 dX0_leastCost_245 rfl rfl ?_
            refine z_iconst (q := 248) C (1 : Int32) dX0_leastCost_247 ki_1 rfl ?_
            refine z_zast (q := 249) C dX0_leastCost_248 hf rfl fun σ hf => ?_
            refine z_aload_n (q := 250) (i := 0) C 1 dX0_leastCost_249 rfl rfl rfl ?_
            refine z_getR (q := 253) C flX0_81 dX0_leastCost_250 hf rfl fun v48 hf => ?_
            refine z_iload (q := 255) (i := 4) C 4 dX0_leastCost_253 rfl rfl ?_
            refine z_iload (q := 257) (i := 5) C 5 dX0_leastCost_255 rfl rfl ?_
            refine z_iadd (q := 258) C dX0_leastCost_257 rfl ?_
            refine z_iload_n (q := 259) (i := 3) C 3 dX0_leastCost_258 rfl rfl rfl ?_
            refine z_irem (q := 260) C dX0_leastCost_259 hf rfl fun v49 hf => ?_
            refine z_iload (q := 262) (i := 8) C 8 dX0_leastCost_260 rfl rfl ?_
            refine z_iast (q := 263) C dX0_leastCost_262 hf rfl fun σ hf => ?_
            refine z_iinc (q := 266) (i := 5) (lv' := [(5, .int (i5_201 + (1 : Int32))), (9, .int (w1_201 + w0_201)), (0, .ref a0), (1, .int i1), (3, .int v5), (4, .int w0_96), (6, .int i6_96), (7, .int i7_201), (8, .int i8_201)]) C 5 (i5_201 + (1 : Int32)) dX0_leastCost_263 rfl (kn_1 _) (by decide) rfl rfl ?_
            refine z_lv [2, 3, 4, 5, 0, 6, 7] rfl ?_
            exact j266_2 (i5_201 + (1 : Int32)) i7_201 σ hf
          · refine z_goto (q := 266) C dX0_leastCost_238 (by decide) ?_
            refine z_lv [1, 2, 3, 4, 5, 6, 7] rfl ?_
            exact j266_2 i5_201 i7_201 σ hf
        · refine z_goto (q := 266) C dX0_leastCost_216 (by decide) ?_
          refine z_lv [1, 2, 3, 4, 5, 6, 7] rfl ?_
          exact j266_2 i5_201 i7_201 σ hf
      refine z_iload (q := 114) (i := 7) C 6 dX0_leastCost_112 rfl rfl ?_
      refine z_aload_n (q := 115) (i := 0) C 0 dX0_leastCost_114 rfl rfl rfl ?_
      refine z_getR (q := 118) C flX0_66 dX0_leastCost_115 hf rfl fun v25 hf => ?_
      refine z_getI (q := 121) C flX0_388 dX0_leastCost_118 hf rfl fun v26 hf => ?_
      refine z_icmpge (q := 124) (tgt := 272) C dX0_leastCost_121 (by decide) rfl hf (fun c121 hf => ?_) (fun c121 hf => ?_)
      · have e2 := zl_x hf hx2
        have hf := hk2
        rw [← e2] at hf
        try dsimp only at hf
        refine z_goto (q := 66) C dX0_leastCost_272 (by decide) ?_
        refine z_lv [0, 1, 2, 3, 4] rfl ?_
        have hc1 := zl_c hf hx1
        exact hc1
      · refine z_aload_n (q := 125) (i := 0) C 0 dX0_leastCost_124 rfl rfl rfl ?_
        refine z_getR (q := 128) C flX0_73 dX0_leastCost_125 hf rfl fun v27 hf => ?_
        refine z_iload (q := 130) (i := 6) C 5 dX0_leastCost_128 rfl rfl ?_
        refine z_callVv (q := 133) (As := [.int i6_96]) C (fun o ho => m_X5_be_2 _ _ _ ho) zk5 vvX0_391 cdX5_be_2 pnX5 dX0_leastCost_130 rfl (by decide) (Nat.le_of_ble_eq_true rfl) hf rfl fun σ hf => ?_
        refine z_aload_n (q := 134) (i := 0) C 0 dX0_leastCost_133 rfl rfl rfl ?_
        refine z_getR (q := 137) C flX0_66 dX0_leastCost_134 hf rfl fun v29 hf => ?_
        refine z_aload_n (q := 138) (i := 0) C 0 dX0_leastCost_137 rfl rfl rfl ?_
        refine z_getR (q := 141) C flX0_73 dX0_leastCost_138 hf rfl fun v30 hf => ?_
        refine z_iload (q := 143) (i := 7) C 6 dX0_leastCost_141 rfl rfl ?_
        refine z_callVi (q := 146) (As := [.ref v30, .int i_24]) C (fun o ho => m_X7_does _ _ _ _ ho) zk7 vvX0_393 cdX7_does pnX7 dX0_leastCost_143 rfl (by decide) (Nat.le_of_ble_eq_true rfl) hf rfl fun v31 σ hf => ?_
        refine z_ifne (q := 149) (tgt := 152) C dX0_leastCost_146 (by decide) rfl hf (fun c146 hf => ?_) (fun c146 hf => ?_)
        · refine z_aload_n (q := 153) (i := 0) C 0 dX0_leastCost_152 rfl rfl rfl ?_
          refine z_getR (q := 156) C flX0_73 dX0_leastCost_153 hf rfl fun v32 hf => ?_
          refine z_callVi (q := 159) (As := []) C (fun o ho => m_X5_number _ _ ho) zk5 vvX0_382 cdX5_number pnX5 dX0_leastCost_156 rfl (by decide) (Nat.le_of_ble_eq_true rfl) hf rfl fun v33 σ hf => ?_
          refine z_istore (q := 161) (i := 8) (lv' := [(8, .int v33), (0, .ref a0), (1, .int i1), (3, .int v5), (4, .int w0_96), (5, .int i_23), (6, .int i6_96), (7, .int i_24)]) C dX0_leastCost_159 (by decide) rfl rfl ?_
          refine z_aload_n (q := 162) (i := 0) C 1 dX0_leastCost_161 rfl rfl rfl ?_
          refine z_getR (q := 165) C flX0_78 dX0_leastCost_162 hf rfl fun v34 hf => ?_
          refine z_iload (q := 167) (i := 6) C 6 dX0_leastCost_165 rfl rfl ?_
          refine z_iald (q := 168) C dX0_leastCost_167 hf rfl fun v35 hf => ?_
          refine z_iload_n (q := 169) (i := 1) C 2 dX0_leastCost_168 rfl rfl rfl ?_
          refine z_ifeq (q := 172) (tgt := 188) C dX0_leastCost_169 (by decide) rfl hf (fun c169 hf => ?_) (fun c169 hf => ?_)
          · refine z_aload_n (q := 189) (i := 0) C 1 dX0_leastCost_188 rfl rfl rfl ?_
            refine z_getR (q := 192) C flX0_66 dX0_leastCost_189 hf rfl fun v36 hf => ?_
            refine z_aload_n (q := 193) (i := 0) C 1 dX0_leastCost_192 rfl rfl rfl ?_
            refine z_callVr (q := 196) (As := []) C (fun o ho => m_X0_town_2 _ _ ho) zk0 vvX0_188 cdX0_town_2 pnX0 dX0_leastCost_193 rfl (by decide) (Nat.le_of_ble_eq_true rfl) hf rfl fun v37 σ hf => ?_
            refine z_iload (q := 198) (i := 7) C 7 dX0_leastCost_196 rfl rfl ?_
            refine z_callVi (q := 201) (As := [.ref v37, .int i_24]) C (fun o ho => m_X7_minutes _ _ _ _ ho) zk7 vvX0_411 cdX7_minutes pnX7 dX0_leastCost_198 rfl (by decide) (Nat.le_of_ble_eq_true rfl) hf rfl fun v38 σ hf => ?_
            refine z_lv [1, 2, 3, 4, 5, 6, 7, 0] rfl ?_
            exact j201_2 i_23 i_24 v33 v38 v35 σ hf
          · refine z_aload_n (q := 173) (i := 0) C 1 dX0_leastCost_172 rfl rfl rfl ?_
            refine z_getR (q := 176) C flX0_66 dX0_leastCost_173 hf rfl fun v39 hf => ?_
            refine z_aload_n (q := 177) (i := 0) C 1 dX0_leastCost_176 rfl rfl rfl ?_
            refine z_callVr (q := 180) (As := []) C (fun o ho => m_X0_town_2 _ _ ho) zk0 vvX0_188 cdX0_town_2 pnX0 dX0_leastCost_177 rfl (by decide) (Nat.le_of_ble_eq_true rfl) hf rfl fun v40 σ hf => ?_
            refine z_iload (q := 182) (i := 7) C 7 dX0_leastCost_180 rfl rfl ?_
            refine z_callVi (q := 185) (As := [.ref v40, .int i_24]) C (fun o ho => m_X7_toll _ _ _ _ ho) zk7 vvX0_408 cdX7_toll pnX7 dX0_leastCost_182 rfl (by decide) (Nat.le_of_ble_eq_true rfl) hf rfl fun v41 σ hf => ?_
            refine z_goto (q := 201) C dX0_leastCost_185 (by decide) ?_
            refine z_lv [1, 2, 3, 4, 5, 6, 7, 0] rfl ?_
            exact j201_2 i_23 i_24 v33 v41 v35 σ hf
        · refine z_goto (q := 266) C dX0_leastCost_149 (by decide) ?_
          exact j266_2 i_23 i_24 σ hf
    refine z_iload (q := 68) (i := 5) C 4 dX0_leastCost_66 rfl rfl ?_
    refine z_ifle (q := 71) (tgt := 275) C dX0_leastCost_68 (by decide) rfl hf (fun c68 hf => ?_) (fun c68 hf => ?_)
    · have e1 := zl_x hf hx1
      have hf := hk1
      rw [← e1] at hf
      try dsimp only at hf
      refine z_ldcw (q := 278) C q1381 dX0_leastCost_275 rfl ?_
      refine z_istore (q := 280) (i := 6) (lv' := [(6, .int (2147483647 : Int32)), (0, .ref a0), (1, .int i1), (3, .int v5), (4, .int i_8), (5, .int i_9)]) C dX0_leastCost_278 (by decide) rfl rfl ?_
      refine z_iconst (q := 281) C (0 : Int32) dX0_leastCost_280 ki_0 rfl ?_
      refine z_istore (q := 283) (i := 7) (lv' := [(7, .int (0 : Int32)), (6, .int (2147483647 : Int32)), (0, .ref a0), (1, .int i1), (3, .int v5), (4, .int i_8), (5, .int i_9)]) C dX0_leastCost_281 (by decide) rfl rfl ?_
      refine z_lv [2, 1, 0] rfl ?_
      obtain ⟨r1, hr1, hk1⟩ := Option.bind_eq_some_iff.mp hf
      refine loopC_ind (P := fun s => ZW l G 10 X (ZQ G X (.returned (some (.int out.1))) out.2) s.2.2 283 [(0, .ref a0), (6, .int s.1), (7, .int s.2.1)] []) (fun s x1 hf hx1 => ?_) hr1
      obtain ⟨i_10, i_11, σ⟩ := s
      unfold f_X0_leastCost_L283 at hf
      try dsimp only at hf
      try dsimp only
      have j333_1 : ∀ (i6_333 : Int32) (i7_333 : Int32) (σ : ZT), f_X0_leastCost_J333_283 a0 i6_333 i7_333 σ = some x1 → ZW l G 10 X (ZQ G X (.returned (some (.int out.1))) out.2) σ 333 [(0, .ref a0), (6, .int i6_333), (7, .int i7_333)] [] := by
        intro i6_333 i7_333 σ hf
        unfold f_X0_leastCost_J333_283 at hf
        refine z_iinc (q := 336) (i := 7) (lv' := [(7, .int (i7_333 + (1 : Int32))), (0, .ref a0), (6, .int i6_333)]) C 2 (i7_333 + (1 : Int32)) dX0_leastCost_333 rfl (kn_1 _) (by decide) rfl rfl ?_
        refine z_goto (q := 283) C dX0_leastCost_336 (by decide) ?_
        refine z_lv [1, 2, 0] rfl ?_
        have hc1 := zl_c hf hx1
        exact hc1
      refine z_iload (q := 285) (i := 7) C 2 dX0_leastCost_283 rfl rfl ?_
      refine z_ldc (q := 287) C q433 dX0_leastCost_285 rfl ?_
      refine z_icmpge (q := 290) (tgt := 339) C dX0_leastCost_287 (by decide) rfl hf (fun c287 hf => ?_) (fun c287 hf => ?_)
      · have e1 := zl_x hf hx1
        have hf := hk1
        rw [← e1] at hf
        try dsimp only at hf
        refine z_iload (q := 341) (i := 6) C 1 dX0_leastCost_339 rfl rfl ?_
        refine z_ldcw (q := 344) C q1381 dX0_leastCost_341 rfl ?_
        refine z_icmpne (q := 347) (tgt := 351) C dX0_leastCost_344 (by decide) rfl hf (fun c344 hf => ?_) (fun c344 hf => ?_)
        · refine z_iload (q := 353) (i := 6) C 1 dX0_leastCost_351 rfl rfl ?_
          refine z_lv [] rfl ?_
          exact j353_0 i_10 σ hf
        · refine z_iconst (q := 348) C (-1 : Int32) dX0_leastCost_347 ki_m1 rfl ?_
          refine z_goto (q := 353) C dX0_leastCost_348 (by decide) ?_
          refine z_lv [] rfl ?_
          exact j353_0 (-1 : Int32) σ hf
      · refine z_aload_n (q := 291) (i := 0) C 0 dX0_leastCost_290 rfl rfl rfl ?_
        refine z_getR (q := 294) C flX0_78 dX0_leastCost_291 hf rfl fun v12 hf => ?_
        refine z_iload (q := 296) (i := 7) C 2 dX0_leastCost_294 rfl rfl ?_
        refine z_iald (q := 297) C dX0_leastCost_296 hf rfl fun v13 hf => ?_
        refine z_iload (q := 299) (i := 6) C 1 dX0_leastCost_297 rfl rfl ?_
        refine z_icmplt (q := 302) (tgt := 305) C dX0_leastCost_299 (by decide) rfl hf (fun c299 hf => ?_) (fun c299 hf => ?_)
        · refine z_aload_n (q := 306) (i := 0) C 0 dX0_leastCost_305 rfl rfl rfl ?_
          refine z_getR (q := 309) C flX0_73 dX0_leastCost_306 hf rfl fun v14 hf => ?_
          refine z_iload (q := 311) (i := 7) C 2 dX0_leastCost_309 rfl rfl ?_
          refine z_callVv (q := 314) (As := [.int i_11]) C (fun o ho => m_X5_be_2 _ _ _ ho) zk5 vvX0_391 cdX5_be_2 pnX5 dX0_leastCost_311 rfl (by decide) (Nat.le_of_ble_eq_true rfl) hf rfl fun σ hf => ?_
          refine z_aload_n (q := 315) (i := 0) C 0 dX0_leastCost_314 rfl rfl rfl ?_
          refine z_getR (q := 318) C flX0_73 dX0_leastCost_315 hf rfl fun v16 hf => ?_
          refine z_callVi (q := 321) (As := []) C (fun o ho => m_X5_isDone _ _ ho) zk5 vvX0_258 cdX5_isDone pnX5 dX0_leastCost_318 rfl (by decide) (Nat.le_of_ble_eq_true rfl) hf rfl fun v17 σ hf => ?_
          refine z_ifeq (q := 324) (tgt := 333) C dX0_leastCost_321 (by decide) rfl hf (fun c321 hf => ?_) (fun c321 hf => ?_)
          · exact j333_1 i_10 i_11 σ hf
          · refine z_aload_n (q := 325) (i := 0) C 0 dX0_leastCost_324 rfl rfl rfl ?_
            refine z_getR (q := 328) C flX0_78 dX0_leastCost_325 hf rfl fun v18 hf => ?_
            refine z_iload (q := 330) (i := 7) C 2 dX0_leastCost_328 rfl rfl ?_
            refine z_iald (q := 331) C dX0_leastCost_330 hf rfl fun v19 hf => ?_
            refine z_istore (q := 333) (i := 6) (lv' := [(6, .int v19), (0, .ref a0), (7, .int i_11)]) C dX0_leastCost_331 (by decide) rfl rfl ?_
            refine z_lv [1, 0, 2] rfl ?_
            exact j333_1 v19 i_11 σ hf
        · refine z_goto (q := 333) C dX0_leastCost_302 (by decide) ?_
          exact j333_1 i_10 i_11 σ hf
    · refine z_aload_n (q := 72) (i := 0) C 0 dX0_leastCost_71 rfl rfl rfl ?_
      refine z_getR (q := 75) C flX0_81 dX0_leastCost_72 hf rfl fun v20 hf => ?_
      refine z_iload (q := 77) (i := 4) C 3 dX0_leastCost_75 rfl rfl ?_
      refine z_iald (q := 78) C dX0_leastCost_77 hf rfl fun v21 hf => ?_
      refine z_istore (q := 80) (i := 6) (lv' := [(6, .int v21), (0, .ref a0), (1, .int i1), (3, .int v5), (4, .int i_8), (5, .int i_9)]) C dX0_leastCost_78 (by decide) rfl rfl ?_
      refine z_iload (q := 82) (i := 4) C 4 dX0_leastCost_80 rfl rfl ?_
      refine z_iconst (q := 83) C (1 : Int32) dX0_leastCost_82 ki_1 rfl ?_
      refine z_iadd (q := 84) C dX0_leastCost_83 rfl ?_
      refine z_iload_n (q := 85) (i := 3) C 3 dX0_leastCost_84 rfl rfl rfl ?_
      refine z_icmpne (q := 88) (tgt := 92) C dX0_leastCost_85 (by decide) rfl hf (fun c85 hf => ?_) (fun c85 hf => ?_)
      · refine z_iload (q := 94) (i := 4) C 4 dX0_leastCost_92 rfl rfl ?_
        refine z_iconst (q := 95) C (1 : Int32) dX0_leastCost_94 ki_1 rfl ?_
        refine z_iadd (q := 96) C dX0_leastCost_95 rfl ?_
        refine z_lv [1, 2, 3, 5, 0] rfl ?_
        exact j96_1 i_9 v21 (i_8 + (1 : Int32)) σ hf
      · refine z_iconst (q := 89) C (0 : Int32) dX0_leastCost_88 ki_0 rfl ?_
        refine z_goto (q := 96) C dX0_leastCost_89 (by decide) ?_
        refine z_lv [1, 2, 3, 5, 0] rfl ?_
        exact j96_1 i_9 v21 (0 : Int32) σ hf
  · refine z_aload_n (q := 13) (i := 0) C 0 dX0_leastCost_12 rfl rfl rfl ?_
    refine z_getR (q := 16) C flX0_78 dX0_leastCost_13 hf rfl fun v50 hf => ?_
    refine z_iload_n (q := 17) (i := 2) C 2 dX0_leastCost_16 rfl rfl rfl ?_
    refine z_ldcw (q := 20) C q1381 dX0_leastCost_17 rfl ?_
    refine z_iast (q := 21) C dX0_leastCost_20 hf rfl fun σ hf => ?_
    refine z_aload_n (q := 22) (i := 0) C 0 dX0_leastCost_21 rfl rfl rfl ?_
    refine z_getR (q := 25) C flX0_88 dX0_leastCost_22 hf rfl fun v51 hf => ?_
    refine z_iload_n (q := 26) (i := 2) C 2 dX0_leastCost_25 rfl rfl rfl ?_
    refine z_iconst (q := 27) C (0 : Int32) dX0_leastCost_26 ki_0 rfl ?_
    refine z_zast (q := 28) C dX0_leastCost_27 hf rfl fun σ hf => ?_
    refine z_iinc (q := 31) (i := 2) (lv' := [(2, .int (i_2 + (1 : Int32))), (0, .ref a0), (1, .int i1)]) C 2 (i_2 + (1 : Int32)) dX0_leastCost_28 rfl (kn_1 _) (by decide) rfl rfl ?_
    refine z_goto (q := 6) C dX0_leastCost_31 (by decide) ?_
    refine z_lv [1, 2, 0] rfl ?_
    have hc1 := zl_c hf hx1
    exact hc1

noncomputable def f_X0_findDone_L6 (c0_6 : Nat) (i_2 : Int32) (σ : ZT) : Option ((Int32 × ZT) ⊕ ((Int32 × ZT) ⊕ ZT)) :=
  (gI 0 18 c0_6 σ).bind fun v3 =>
  if i_2 < v3 then
  ((gR 0 14 c0_6 σ).bind fun v4 =>
  (gR 0 16 c0_6 σ).bind fun v5 =>
  (ldI 0 v5 i_2 σ).bind fun v6 =>
  (vc 5 v4 σ (f_X5_be_2 v4 v6 σ)).bind fun σ =>
  (gR 0 14 c0_6 σ).bind fun v8 =>
  bnd2 (vc 5 v8 σ (f_X5_isDone v8 σ)) fun v9 σ =>
  if v9 = 0 then
  ((gR 0 16 c0_6 σ).bind fun v10 =>
  (ldI 0 v10 i_2 σ).bind fun v11 =>
  (vc 0 c0_6 σ (f_X0_spread c0_6 v11 σ)).bind fun σ =>
  some (.inl ((i_2 + (1 : Int32)), σ)))
  else
  ((gR 0 16 c0_6 σ).bind fun v13 =>
  (ldI 0 v13 i_2 σ).bind fun v14 =>
  some (.inr (.inl (v14, σ)))))
  else
  (some (.inr (.inr σ)))
noncomputable def f_X0_findDone (a0 : Nat) (σ : ZT) : Option (Int32 × ZT) :=
  (vc 0 a0 σ (f_X0_beginAll a0 σ)).bind fun σ =>
  (loopC (fun s : (Int32 × ZT) => f_X0_findDone_L6 a0 s.1 s.2) ((0 : Int32), σ)).bind fun x => (match x with
  | .inl o => some o
  | .inr σ => some ((-1 : Int32), σ))
set_option maxHeartbeats 4000000 in
theorem m_X0_findDone {l : Launch} {G : ZG} (a0 : Nat) (σ : ZT) {out : (Int32 × ZT)} (hf : f_X0_findDone a0 σ = some out) : ZM l G yX0_findDone cX0_findDone 2 (some .int) [] 8 [.ref a0] σ (.returned (some (.int out.1))) out.2 := by
  refine ZM.of [(0, .ref a0)] rfl (Nat.le_of_ble_eq_true rfl) fun X (C : ZC G RX0 "findDone" cX0_findDone 2 (some .int) [] X 8) => ?_
  unfold f_X0_findDone at hf
  refine z_aload_n (q := 1) (i := 0) C 0 dX0_findDone_0 rfl rfl rfl ?_
  refine z_callVv (q := 4) (As := []) C (fun o ho => m_X0_beginAll _ _ ho) zk0 vvX0_396 cdX0_beginAll pnX0 dX0_findDone_1 rfl (by decide) (Nat.le_of_ble_eq_true rfl) hf rfl fun σ hf => ?_
  refine z_iconst (q := 5) C (0 : Int32) dX0_findDone_4 ki_0 rfl ?_
  refine z_istore_n (q := 6) (i := 1) (lv' := [(1, .int (0 : Int32)), (0, .ref a0)]) C dX0_findDone_5 rfl (by decide) rfl rfl ?_
  refine z_lv [1, 0] rfl ?_
  obtain ⟨r1, hr1, hk1⟩ := Option.bind_eq_some_iff.mp hf
  refine loopC_ind (P := fun s => ZW l G 2 X (ZQ G X (.returned (some (.int out.1))) out.2) s.2 6 [(0, .ref a0), (1, .int s.1)] []) (fun s x1 hf hx1 => ?_) hr1
  obtain ⟨i_2, σ⟩ := s
  unfold f_X0_findDone_L6 at hf
  try dsimp only at hf
  try dsimp only
  refine z_iload_n (q := 7) (i := 1) C 1 dX0_findDone_6 rfl rfl rfl ?_
  refine z_aload_n (q := 8) (i := 0) C 0 dX0_findDone_7 rfl rfl rfl ?_
  refine z_getI (q := 11) C flX0_372 dX0_findDone_8 hf rfl fun v3 hf => ?_
  refine z_icmpge (q := 14) (tgt := 60) C dX0_findDone_11 (by decide) rfl hf (fun c11 hf => ?_) (fun c11 hf => ?_)
  · have e1 := zl_x hf hx1
    have hf := hk1
    rw [← e1] at hf
    try dsimp only at hf
    refine z_iconst (q := 61) C (-1 : Int32) dX0_findDone_60 ki_m1 rfl ?_
    exact z_ireturn C rfl dX0_findDone_61 (Option.some.inj hf)
  · refine z_aload_n (q := 15) (i := 0) C 0 dX0_findDone_14 rfl rfl rfl ?_
    refine z_getR (q := 18) C flX0_73 dX0_findDone_15 hf rfl fun v4 hf => ?_
    refine z_aload_n (q := 19) (i := 0) C 0 dX0_findDone_18 rfl rfl rfl ?_
    refine z_getR (q := 22) C flX0_81 dX0_findDone_19 hf rfl fun v5 hf => ?_
    refine z_iload_n (q := 23) (i := 1) C 1 dX0_findDone_22 rfl rfl rfl ?_
    refine z_iald (q := 24) C dX0_findDone_23 hf rfl fun v6 hf => ?_
    refine z_callVv (q := 27) (As := [.int v6]) C (fun o ho => m_X5_be_2 _ _ _ ho) zk5 vvX0_391 cdX5_be_2 pnX5 dX0_findDone_24 rfl (by decide) (Nat.le_of_ble_eq_true rfl) hf rfl fun σ hf => ?_
    refine z_aload_n (q := 28) (i := 0) C 0 dX0_findDone_27 rfl rfl rfl ?_
    refine z_getR (q := 31) C flX0_73 dX0_findDone_28 hf rfl fun v8 hf => ?_
    refine z_callVi (q := 34) (As := []) C (fun o ho => m_X5_isDone _ _ ho) zk5 vvX0_258 cdX5_isDone pnX5 dX0_findDone_31 rfl (by decide) (Nat.le_of_ble_eq_true rfl) hf rfl fun v9 σ hf => ?_
    refine z_ifeq (q := 37) (tgt := 44) C dX0_findDone_34 (by decide) rfl hf (fun c34 hf => ?_) (fun c34 hf => ?_)
    · refine z_aload_n (q := 45) (i := 0) C 0 dX0_findDone_44 rfl rfl rfl ?_
      refine z_aload_n (q := 46) (i := 0) C 0 dX0_findDone_45 rfl rfl rfl ?_
      refine z_getR (q := 49) C flX0_81 dX0_findDone_46 hf rfl fun v10 hf => ?_
      refine z_iload_n (q := 50) (i := 1) C 1 dX0_findDone_49 rfl rfl rfl ?_
      refine z_iald (q := 51) C dX0_findDone_50 hf rfl fun v11 hf => ?_
      refine z_callVv (q := 54) (As := [.int v11]) C (fun o ho => m_X0_spread _ _ _ ho) zk0 vvX0_399 cdX0_spread pnX0 dX0_findDone_51 rfl (by decide) (Nat.le_of_ble_eq_true rfl) hf rfl fun σ hf => ?_
      refine z_iinc (q := 57) (i := 1) (lv' := [(1, .int (i_2 + (1 : Int32))), (0, .ref a0)]) C 1 (i_2 + (1 : Int32)) dX0_findDone_54 rfl (kn_1 _) (by decide) rfl rfl ?_
      refine z_goto (q := 6) C dX0_findDone_57 (by decide) ?_
      refine z_lv [1, 0] rfl ?_
      have hc1 := zl_c hf hx1
      exact hc1
    · refine z_aload_n (q := 38) (i := 0) C 0 dX0_findDone_37 rfl rfl rfl ?_
      refine z_getR (q := 41) C flX0_81 dX0_findDone_38 hf rfl fun v13 hf => ?_
      refine z_iload_n (q := 42) (i := 1) C 1 dX0_findDone_41 rfl rfl rfl ?_
      refine z_iald (q := 43) C dX0_findDone_42 hf rfl fun v14 hf => ?_
      have e1 := zl_x hf hx1
      have hf := hk1
      rw [← e1] at hf
      try dsimp only at hf
      exact z_ireturn C rfl dX0_findDone_43 (Option.some.inj hf)

noncomputable def f_X0_least_J46 (w0_46 : Int32) (w1_46 : Nat) (w2_46 : Nat) (σ : ZT) : Option (Int32 × ZT) :=
  bnd2 (vc 0 w1_46 σ (f_X0_leastCost w1_46 w0_46 σ)) fun v7 σ =>
  bnd2 (vc 0 w2_46 σ (f_X0_answer w2_46 v7 σ)) fun v8 σ =>
  some (v8, σ)
noncomputable def f_X0_least_J73 (w0_73 : Int32) (w1_73 : Nat) (σ : ZT) : Option (Int32 × ZT) :=
  bnd2 (vc 0 w1_73 σ (f_X0_answer w1_73 w0_73 σ)) fun v6 σ =>
  some (v6, σ)
noncomputable def f_X0_least_J18 (a0_18 : Nat) (i1_18 : Int32) (w0_18 : Int32) (w1_18 : Nat) (σ : ZT) : Option (Int32 × ZT) :=
  (pI 0 7 w1_18 w0_18 σ).bind fun σ =>
  (gI 0 7 a0_18 σ).bind fun v2 =>
  if 0 < v2 then
  (some ((-1 : Int32), σ))
  else
  (if 0 < i1_18 then
  (if i1_18 = (1 : Int32) then
  (f_X0_least_J46 (1 : Int32) a0_18 a0_18 σ)
  else
  (f_X0_least_J46 (0 : Int32) a0_18 a0_18 σ))
  else
  (bnd2 (vc 0 a0_18 σ (f_X0_findDone a0_18 σ)) fun v3 σ =>
  if v3 < 0 then
  (f_X0_least_J73 (-1 : Int32) a0_18 σ)
  else
  ((gR 0 15 a0_18 σ).bind fun v4 =>
  (ldI 0 v4 v3 σ).bind fun v5 =>
  f_X0_least_J73 v5 a0_18 σ)))
noncomputable def f_X0_least (a0 : Nat) (i1 : Int32) (σ : ZT) : Option (Int32 × ZT) :=
  bnd2 (f_X0_isIn (i1.toInt64) (0 : Int64) (2 : Int64) σ) fun v1 σ =>
  if v1 = 0 then
  (f_X0_least_J18 a0 i1 (1 : Int32) a0 σ)
  else
  (f_X0_least_J18 a0 i1 (0 : Int32) a0 σ)
set_option maxHeartbeats 4000000 in
theorem m_X0_least {l : Launch} {G : ZG} (a0 : Nat) (i1 : Int32) (σ : ZT) {out : (Int32 × ZT)} (hf : f_X0_least a0 i1 σ = some out) : ZM l G yX0_least cX0_least 3 (some .int) [] 10 [.ref a0, .int i1] σ (.returned (some (.int out.1))) out.2 := by
  refine ZM.of [(0, .ref a0), (1, .int i1)] rfl (Nat.le_of_ble_eq_true rfl) fun X (C : ZC G RX0 "least" cX0_least 3 (some .int) [] X 10) => ?_
  unfold f_X0_least at hf
  have j73_0 : ∀ (w0_73 : Int32) (w1_73 : Nat) (σ : ZT), f_X0_least_J73 w0_73 w1_73 σ = some out → ZW l G 3 X (ZQ G X (.returned (some (.int out.1))) out.2) σ 73 [] [.int w0_73, .ref w1_73] := by
    intro w0_73 w1_73 σ hf
    unfold f_X0_least_J73 at hf
    refine z_callVi (q := 76) (As := [.int w0_73]) C (fun o ho => m_X0_answer _ _ _ ho) zk0 vvX0_321 cdX0_answer pnX0 dX0_least_73 rfl (by decide) (Nat.le_of_ble_eq_true rfl) hf rfl fun v6 σ hf => ?_
    exact z_ireturn C rfl dX0_least_76 (Option.some.inj hf)
  have j46_0 : ∀ (w0_46 : Int32) (w1_46 : Nat) (w2_46 : Nat) (σ : ZT), f_X0_least_J46 w0_46 w1_46 w2_46 σ = some out → ZW l G 3 X (ZQ G X (.returned (some (.int out.1))) out.2) σ 46 [] [.int w0_46, .ref w1_46, .ref w2_46] := by
    intro w0_46 w1_46 w2_46 σ hf
    unfold f_X0_least_J46 at hf
    refine z_callVi (q := 49) (As := [.int w0_46]) C (fun o ho => m_X0_leastCost _ _ _ ho) zk0 vvX0_416 cdX0_leastCost pnX0 dX0_least_46 rfl (by decide) (Nat.le_of_ble_eq_true rfl) hf rfl fun v7 σ hf => ?_
    refine z_callVi (q := 52) (As := [.int v7]) C (fun o ho => m_X0_answer _ _ _ ho) zk0 vvX0_321 cdX0_answer pnX0 dX0_least_49 rfl (by decide) (Nat.le_of_ble_eq_true rfl) hf rfl fun v8 σ hf => ?_
    exact z_ireturn C rfl dX0_least_52 (Option.some.inj hf)
  have j18_0 : ∀ (a0_18 : Nat) (i1_18 : Int32) (w0_18 : Int32) (w1_18 : Nat) (σ : ZT), f_X0_least_J18 a0_18 i1_18 w0_18 w1_18 σ = some out → ZW l G 3 X (ZQ G X (.returned (some (.int out.1))) out.2) σ 18 [(0, .ref a0_18), (1, .int i1_18)] [.int w0_18, .ref w1_18] := by
    intro a0_18 i1_18 w0_18 w1_18 σ hf
    unfold f_X0_least_J18 at hf
    refine z_putI (q := 21) C puX0_110 dX0_least_18 hf rfl fun σ hf => ?_
    refine z_aload_n (q := 22) (i := 0) C 0 dX0_least_21 rfl rfl rfl ?_
    refine z_getI (q := 25) C flX0_110 dX0_least_22 hf rfl fun v2 hf => ?_
    refine z_ifle (q := 28) (tgt := 30) C dX0_least_25 (by decide) rfl hf (fun c25 hf => ?_) (fun c25 hf => ?_)
    · refine z_iload_n (q := 31) (i := 1) C 1 dX0_least_30 rfl rfl rfl ?_
      refine z_ifle (q := 34) (tgt := 53) C dX0_least_31 (by decide) rfl hf (fun c31 hf => ?_) (fun c31 hf => ?_)
      · refine z_aload_n (q := 54) (i := 0) C 0 dX0_least_53 rfl rfl rfl ?_
        refine z_callVi (q := 57) (As := []) C (fun o ho => m_X0_findDone _ _ ho) zk0 vvX0_420 cdX0_findDone pnX0 dX0_least_54 rfl (by decide) (Nat.le_of_ble_eq_true rfl) hf rfl fun v3 σ hf => ?_
        refine z_istore_n (q := 58) (i := 2) (lv' := [(2, .int v3), (0, .ref a0_18), (1, .int i1_18)]) C dX0_least_57 rfl (by decide) rfl rfl ?_
        refine z_aload_n (q := 59) (i := 0) C 1 dX0_least_58 rfl rfl rfl ?_
        refine z_iload_n (q := 60) (i := 2) C 0 dX0_least_59 rfl rfl rfl ?_
        refine z_ifge (q := 63) (tgt := 67) C dX0_least_60 (by decide) rfl hf (fun c60 hf => ?_) (fun c60 hf => ?_)
        · refine z_aload_n (q := 68) (i := 0) C 1 dX0_least_67 rfl rfl rfl ?_
          refine z_getR (q := 71) C flX0_78 dX0_least_68 hf rfl fun v4 hf => ?_
          refine z_iload_n (q := 72) (i := 2) C 0 dX0_least_71 rfl rfl rfl ?_
          refine z_iald (q := 73) C dX0_least_72 hf rfl fun v5 hf => ?_
          refine z_lv [] rfl ?_
          exact j73_0 v5 a0_18 σ hf
        · refine z_iconst (q := 64) C (-1 : Int32) dX0_least_63 ki_m1 rfl ?_
          refine z_goto (q := 73) C dX0_least_64 (by decide) ?_
          refine z_lv [] rfl ?_
          exact j73_0 (-1 : Int32) a0_18 σ hf
      · refine z_aload_n (q := 35) (i := 0) C 0 dX0_least_34 rfl rfl rfl ?_
        refine z_aload_n (q := 36) (i := 0) C 0 dX0_least_35 rfl rfl rfl ?_
        refine z_iload_n (q := 37) (i := 1) C 1 dX0_least_36 rfl rfl rfl ?_
        refine z_iconst (q := 38) C (1 : Int32) dX0_least_37 ki_1 rfl ?_
        refine z_icmpne (q := 41) (tgt := 45) C dX0_least_38 (by decide) rfl hf (fun c38 hf => ?_) (fun c38 hf => ?_)
        · refine z_iconst (q := 46) C (0 : Int32) dX0_least_45 ki_0 rfl ?_
          refine z_lv [] rfl ?_
          exact j46_0 (0 : Int32) a0_18 a0_18 σ hf
        · refine z_iconst (q := 42) C (1 : Int32) dX0_least_41 ki_1 rfl ?_
          refine z_goto (q := 46) C dX0_least_42 (by decide) ?_
          refine z_lv [] rfl ?_
          exact j46_0 (1 : Int32) a0_18 a0_18 σ hf
    · refine z_iconst (q := 29) C (-1 : Int32) dX0_least_28 ki_m1 rfl ?_
      exact z_ireturn C rfl dX0_least_29 (Option.some.inj hf)
  refine z_aload_n (q := 1) (i := 0) C 0 dX0_least_0 rfl rfl rfl ?_
  refine z_iload_n (q := 2) (i := 1) C 1 dX0_least_1 rfl rfl rfl ?_
  refine z_i2l (q := 3) C dX0_least_2 rfl ?_
  refine z_lconst (q := 4) C (0 : Int64) dX0_least_3 rfl rfl ?_
  refine z_ldc2 (q := 7) C q1334 dX0_least_4 rfl ?_
  refine z_callSi (q := 10) (As := [.long (i1.toInt64), .long (0 : Int64), .long (2 : Int64)]) C (fun o ho => m_X0_isIn _ _ _ _ ho) vsX0_196 cdX0_isIn pnX0 dX0_least_7 rfl (by decide) (Nat.le_of_ble_eq_true rfl) hf rfl fun v1 σ hf => ?_
  refine z_ifeq (q := 13) (tgt := 17) C dX0_least_10 (by decide) rfl hf (fun c10 hf => ?_) (fun c10 hf => ?_)
  · refine z_iconst (q := 18) C (1 : Int32) dX0_least_17 ki_1 rfl ?_
    exact j18_0 a0 i1 (1 : Int32) a0 σ hf
  · refine z_iconst (q := 14) C (0 : Int32) dX0_least_13 ki_0 rfl ?_
    refine z_goto (q := 18) C dX0_least_14 (by decide) ?_
    exact j18_0 a0 i1 (0 : Int32) a0 σ hf

noncomputable def f_X0_isGood_J122_46 (a0_122 : Nat) (i1_122 : Int32) (i3_122 : Int32) (σ : ZT) : Option ((Int32 × ZT) ⊕ ((Int32 × ZT) ⊕ ZT)) :=
  some (.inl ((i3_122 + (1 : Int32)), σ))
noncomputable def f_X0_isGood_L46 (c0_46 : Nat) (c1_46 : Int32) (i_5 : Int32) (σ : ZT) : Option ((Int32 × ZT) ⊕ ((Int32 × ZT) ⊕ ZT)) :=
  (gR 0 13 c0_46 σ).bind fun v6 =>
  (gI 7 704 v6 σ).bind fun v7 =>
  if i_5 < v7 then
  ((gR 0 14 c0_46 σ).bind fun v8 =>
  (vc 5 v8 σ (f_X5_be_2 v8 c1_46 σ)).bind fun σ =>
  (gR 0 13 c0_46 σ).bind fun v10 =>
  (gR 0 14 c0_46 σ).bind fun v11 =>
  bnd2 (vc 7 v10 σ (f_X7_does v10 v11 i_5 σ)) fun v12 σ =>
  if v12 = 0 then
  (f_X0_isGood_J122_46 c0_46 c1_46 i_5 σ)
  else
  ((gR 0 14 c0_46 σ).bind fun v13 =>
  bnd2 (vc 5 v13 σ (f_X5_number v13 σ)) fun v14 σ =>
  (gR 0 15 c0_46 σ).bind fun v15 =>
  (ldI 0 v15 v14 σ).bind fun v16 =>
  (gR 0 15 c0_46 σ).bind fun v17 =>
  (ldI 0 v17 c1_46 σ).bind fun v18 =>
  if v16 = (v18 + (1 : Int32)) then
  ((gR 0 17 c0_46 σ).bind fun v19 =>
  (ldI 4 v19 v14 σ).bind fun v20 =>
  if v20 = 0 then
  (f_X0_isGood_J122_46 c0_46 c1_46 i_5 σ)
  else
  (some (.inr (.inl ((1 : Int32), σ)))))
  else
  (f_X0_isGood_J122_46 c0_46 c1_46 i_5 σ)))
  else
  (some (.inr (.inr σ)))
noncomputable def f_X0_isGood_J43 (w0_43 : Int32) (σ : ZT) : Option (Int32 × ZT) :=
  (rz w0_43).bind fun z25 =>
  some (z25, σ)
noncomputable def f_X0_isGood_J42  (σ : ZT) : Option (Int32 × ZT) :=
  f_X0_isGood_J43 (0 : Int32) σ
noncomputable def f_X0_isGood (a0 : Nat) (i1 : Int32) (i2 : Int32) (σ : ZT) : Option (Int32 × ZT) :=
  (gR 0 14 a0 σ).bind fun v1 =>
  (vc 5 v1 σ (f_X5_be_2 v1 i1 σ)).bind fun σ =>
  (gR 0 15 a0 σ).bind fun v3 =>
  (ldI 0 v3 i1 σ).bind fun v4 =>
  if v4 < i2 then
  ((loopC (fun s : (Int32 × ZT) => f_X0_isGood_L46 a0 i1 s.1 s.2) ((0 : Int32), σ)).bind fun x => (match x with
  | .inl o => some o
  | .inr σ => some ((0 : Int32), σ)))
  else
  ((gR 0 15 a0 σ).bind fun v21 =>
  (ldI 0 v21 i1 σ).bind fun v22 =>
  if v22 = i2 then
  ((gR 0 14 a0 σ).bind fun v23 =>
  bnd2 (vc 5 v23 σ (f_X5_isDone v23 σ)) fun v24 σ =>
  if v24 = 0 then
  (f_X0_isGood_J42  σ)
  else
  (f_X0_isGood_J43 (1 : Int32) σ))
  else
  (f_X0_isGood_J42  σ))
set_option maxHeartbeats 4000000 in
theorem m_X0_isGood {l : Launch} {G : ZG} (a0 : Nat) (i1 : Int32) (i2 : Int32) (σ : ZT) {out : (Int32 × ZT)} (hf : f_X0_isGood a0 i1 i2 σ = some out) : ZM l G yX0_isGood cX0_isGood 5 (some .boolean) [] 7 [.ref a0, .int i1, .int i2] σ (.returned (some (.int out.1))) out.2 := by
  refine ZM.of [(0, .ref a0), (1, .int i1), (2, .int i2)] rfl (Nat.le_of_ble_eq_true rfl) fun X (C : ZC G RX0 "isGood" cX0_isGood 5 (some .boolean) [] X 7) => ?_
  unfold f_X0_isGood at hf
  have j43_0 : ∀ (w0_43 : Int32) (σ : ZT), f_X0_isGood_J43 w0_43 σ = some out → ZW l G 5 X (ZQ G X (.returned (some (.int out.1))) out.2) σ 43 [] [.int w0_43] := by
    intro w0_43 σ hf
    unfold f_X0_isGood_J43 at hf
    refine z_rz C hf fun hn hf => ?_
    exact z_zreturn C rfl hn dX0_isGood_43 (Option.some.inj hf)
  have j42_0 : ∀  (σ : ZT), f_X0_isGood_J42  σ = some out → ZW l G 5 X (ZQ G X (.returned (some (.int out.1))) out.2) σ 42 [] [] := by
    intro  σ hf
    unfold f_X0_isGood_J42 at hf
    refine z_iconst (q := 43) C (0 : Int32) dX0_isGood_42 ki_0 rfl ?_
    exact j43_0 (0 : Int32) σ hf
  refine z_aload_n (q := 1) (i := 0) C 0 dX0_isGood_0 rfl rfl rfl ?_
  refine z_getR (q := 4) C flX0_73 dX0_isGood_1 hf rfl fun v1 hf => ?_
  refine z_iload_n (q := 5) (i := 1) C 1 dX0_isGood_4 rfl rfl rfl ?_
  refine z_callVv (q := 8) (As := [.int i1]) C (fun o ho => m_X5_be_2 _ _ _ ho) zk5 vvX0_391 cdX5_be_2 pnX5 dX0_isGood_5 rfl (by decide) (Nat.le_of_ble_eq_true rfl) hf rfl fun σ hf => ?_
  refine z_aload_n (q := 9) (i := 0) C 0 dX0_isGood_8 rfl rfl rfl ?_
  refine z_getR (q := 12) C flX0_78 dX0_isGood_9 hf rfl fun v3 hf => ?_
  refine z_iload_n (q := 13) (i := 1) C 1 dX0_isGood_12 rfl rfl rfl ?_
  refine z_iald (q := 14) C dX0_isGood_13 hf rfl fun v4 hf => ?_
  refine z_iload_n (q := 15) (i := 2) C 2 dX0_isGood_14 rfl rfl rfl ?_
  refine z_icmplt (q := 18) (tgt := 44) C dX0_isGood_15 (by decide) rfl hf (fun c15 hf => ?_) (fun c15 hf => ?_)
  · refine z_iconst (q := 45) C (0 : Int32) dX0_isGood_44 ki_0 rfl ?_
    refine z_istore_n (q := 46) (i := 3) (lv' := [(3, .int (0 : Int32)), (0, .ref a0), (1, .int i1), (2, .int i2)]) C dX0_isGood_45 rfl (by decide) rfl rfl ?_
    refine z_lv [1, 2, 0] rfl ?_
    obtain ⟨r1, hr1, hk1⟩ := Option.bind_eq_some_iff.mp hf
    refine loopC_ind (P := fun s => ZW l G 5 X (ZQ G X (.returned (some (.int out.1))) out.2) s.2 46 [(0, .ref a0), (1, .int i1), (3, .int s.1)] []) (fun s x1 hf hx1 => ?_) hr1
    obtain ⟨i_5, σ⟩ := s
    unfold f_X0_isGood_L46 at hf
    try dsimp only at hf
    try dsimp only
    have j122_1 : ∀ (i3_122 : Int32) (σ : ZT), f_X0_isGood_J122_46 a0 i1 i3_122 σ = some x1 → ZW l G 5 X (ZQ G X (.returned (some (.int out.1))) out.2) σ 122 [(0, .ref a0), (1, .int i1), (3, .int i3_122)] [] := by
      intro i3_122 σ hf
      unfold f_X0_isGood_J122_46 at hf
      refine z_iinc (q := 125) (i := 3) (lv' := [(3, .int (i3_122 + (1 : Int32))), (0, .ref a0), (1, .int i1)]) C 2 (i3_122 + (1 : Int32)) dX0_isGood_122 rfl (kn_1 _) (by decide) rfl rfl ?_
      refine z_goto (q := 46) C dX0_isGood_125 (by decide) ?_
      refine z_lv [1, 2, 0] rfl ?_
      have hc1 := zl_c hf hx1
      exact hc1
    refine z_iload_n (q := 47) (i := 3) C 2 dX0_isGood_46 rfl rfl rfl ?_
    refine z_aload_n (q := 48) (i := 0) C 0 dX0_isGood_47 rfl rfl rfl ?_
    refine z_getR (q := 51) C flX0_66 dX0_isGood_48 hf rfl fun v6 hf => ?_
    refine z_getI (q := 54) C flX0_388 dX0_isGood_51 hf rfl fun v7 hf => ?_
    refine z_icmpge (q := 57) (tgt := 128) C dX0_isGood_54 (by decide) rfl hf (fun c54 hf => ?_) (fun c54 hf => ?_)
    · have e1 := zl_x hf hx1
      have hf := hk1
      rw [← e1] at hf
      try dsimp only at hf
      refine z_iconst (q := 129) C (0 : Int32) dX0_isGood_128 ki_0 rfl ?_
      exact z_zreturn C rfl z_nb0 dX0_isGood_129 (Option.some.inj hf)
    · refine z_aload_n (q := 58) (i := 0) C 0 dX0_isGood_57 rfl rfl rfl ?_
      refine z_getR (q := 61) C flX0_73 dX0_isGood_58 hf rfl fun v8 hf => ?_
      refine z_iload_n (q := 62) (i := 1) C 1 dX0_isGood_61 rfl rfl rfl ?_
      refine z_callVv (q := 65) (As := [.int i1]) C (fun o ho => m_X5_be_2 _ _ _ ho) zk5 vvX0_391 cdX5_be_2 pnX5 dX0_isGood_62 rfl (by decide) (Nat.le_of_ble_eq_true rfl) hf rfl fun σ hf => ?_
      refine z_aload_n (q := 66) (i := 0) C 0 dX0_isGood_65 rfl rfl rfl ?_
      refine z_getR (q := 69) C flX0_66 dX0_isGood_66 hf rfl fun v10 hf => ?_
      refine z_aload_n (q := 70) (i := 0) C 0 dX0_isGood_69 rfl rfl rfl ?_
      refine z_getR (q := 73) C flX0_73 dX0_isGood_70 hf rfl fun v11 hf => ?_
      refine z_iload_n (q := 74) (i := 3) C 2 dX0_isGood_73 rfl rfl rfl ?_
      refine z_callVi (q := 77) (As := [.ref v11, .int i_5]) C (fun o ho => m_X7_does _ _ _ _ ho) zk7 vvX0_393 cdX7_does pnX7 dX0_isGood_74 rfl (by decide) (Nat.le_of_ble_eq_true rfl) hf rfl fun v12 σ hf => ?_
      refine z_ifne (q := 80) (tgt := 83) C dX0_isGood_77 (by decide) rfl hf (fun c77 hf => ?_) (fun c77 hf => ?_)
      · refine z_aload_n (q := 84) (i := 0) C 0 dX0_isGood_83 rfl rfl rfl ?_
        refine z_getR (q := 87) C flX0_73 dX0_isGood_84 hf rfl fun v13 hf => ?_
        refine z_callVi (q := 90) (As := []) C (fun o ho => m_X5_number _ _ ho) zk5 vvX0_382 cdX5_number pnX5 dX0_isGood_87 rfl (by decide) (Nat.le_of_ble_eq_true rfl) hf rfl fun v14 σ hf => ?_
        refine z_istore (q := 92) (i := 4) (lv' := [(4, .int v14), (0, .ref a0), (1, .int i1), (3, .int i_5)]) C dX0_isGood_90 (by decide) rfl rfl ?_
        refine z_aload_n (q := 93) (i := 0) C 1 dX0_isGood_92 rfl rfl rfl ?_
        refine z_getR (q := 96) C flX0_78 dX0_isGood_93 hf rfl fun v15 hf => ?_
        refine z_iload (q := 98) (i := 4) C 0 dX0_isGood_96 rfl rfl ?_
        refine z_iald (q := 99) C dX0_isGood_98 hf rfl fun v16 hf => ?_
        refine z_aload_n (q := 100) (i := 0) C 1 dX0_isGood_99 rfl rfl rfl ?_
        refine z_getR (q := 103) C flX0_78 dX0_isGood_100 hf rfl fun v17 hf => ?_
        refine z_iload_n (q := 104) (i := 1) C 2 dX0_isGood_103 rfl rfl rfl ?_
        refine z_iald (q := 105) C dX0_isGood_104 hf rfl fun v18 hf => ?_
        refine z_iconst (q := 106) C (1 : Int32) dX0_isGood_105 ki_1 rfl ?_
        refine z_iadd (q := 107) C dX0_isGood_106 rfl ?_
        refine z_icmpne (q := 110) (tgt := 122) C dX0_isGood_107 (by decide) rfl hf (fun c107 hf => ?_) (fun c107 hf => ?_)
        · refine z_lv [1, 2, 3] rfl ?_
          exact j122_1 i_5 σ hf
        · refine z_aload_n (q := 111) (i := 0) C 1 dX0_isGood_110 rfl rfl rfl ?_
          refine z_getR (q := 114) C flX0_84 dX0_isGood_111 hf rfl fun v19 hf => ?_
          refine z_iload (q := 116) (i := 4) C 0 dX0_isGood_114 rfl rfl ?_
          refine z_zald (q := 117) C dX0_isGood_116 hf rfl fun v20 hf => ?_
          refine z_ifeq (q := 120) (tgt := 122) C dX0_isGood_117 (by decide) rfl hf (fun c117 hf => ?_) (fun c117 hf => ?_)
          · refine z_lv [1, 2, 3] rfl ?_
            exact j122_1 i_5 σ hf
          · refine z_iconst (q := 121) C (1 : Int32) dX0_isGood_120 ki_1 rfl ?_
            have e1 := zl_x hf hx1
            have hf := hk1
            rw [← e1] at hf
            try dsimp only at hf
            exact z_zreturn C rfl z_nb1 dX0_isGood_121 (Option.some.inj hf)
      · refine z_goto (q := 122) C dX0_isGood_80 (by decide) ?_
        exact j122_1 i_5 σ hf
  · refine z_aload_n (q := 19) (i := 0) C 0 dX0_isGood_18 rfl rfl rfl ?_
    refine z_getR (q := 22) C flX0_78 dX0_isGood_19 hf rfl fun v21 hf => ?_
    refine z_iload_n (q := 23) (i := 1) C 1 dX0_isGood_22 rfl rfl rfl ?_
    refine z_iald (q := 24) C dX0_isGood_23 hf rfl fun v22 hf => ?_
    refine z_iload_n (q := 25) (i := 2) C 2 dX0_isGood_24 rfl rfl rfl ?_
    refine z_icmpne (q := 28) (tgt := 42) C dX0_isGood_25 (by decide) rfl hf (fun c25 hf => ?_) (fun c25 hf => ?_)
    · refine z_lv [] rfl ?_
      exact j42_0  σ hf
    · refine z_aload_n (q := 29) (i := 0) C 0 dX0_isGood_28 rfl rfl rfl ?_
      refine z_getR (q := 32) C flX0_73 dX0_isGood_29 hf rfl fun v23 hf => ?_
      refine z_callVi (q := 35) (As := []) C (fun o ho => m_X5_isDone _ _ ho) zk5 vvX0_258 cdX5_isDone pnX5 dX0_isGood_32 rfl (by decide) (Nat.le_of_ble_eq_true rfl) hf rfl fun v24 σ hf => ?_
      refine z_ifeq (q := 38) (tgt := 42) C dX0_isGood_35 (by decide) rfl hf (fun c35 hf => ?_) (fun c35 hf => ?_)
      · refine z_lv [] rfl ?_
        exact j42_0  σ hf
      · refine z_iconst (q := 39) C (1 : Int32) dX0_isGood_38 ki_1 rfl ?_
        refine z_goto (q := 43) C dX0_isGood_39 (by decide) ?_
        refine z_lv [] rfl ?_
        exact j43_0 (1 : Int32) σ hf

noncomputable def f_X0_step_J84_2 (a0_84 : Nat) (i1_84 : Int32) (i2_84 : Int32) (i3_84 : Int32) (σ : ZT) : Option ((Int32 × ZT) ⊕ ((Int32 × ZT) ⊕ ZT)) :=
  some (.inl ((i3_84 + (1 : Int32)), σ))
noncomputable def f_X0_step_L2 (c0_2 : Nat) (c1_2 : Int32) (c2_2 : Int32) (i_1 : Int32) (σ : ZT) : Option ((Int32 × ZT) ⊕ ((Int32 × ZT) ⊕ ZT)) :=
  (gR 0 13 c0_2 σ).bind fun v2 =>
  (gI 7 704 v2 σ).bind fun v3 =>
  if i_1 < v3 then
  ((gR 0 14 c0_2 σ).bind fun v4 =>
  (vc 5 v4 σ (f_X5_be_2 v4 c1_2 σ)).bind fun σ =>
  (gR 0 13 c0_2 σ).bind fun v6 =>
  (gR 0 14 c0_2 σ).bind fun v7 =>
  bnd2 (vc 7 v6 σ (f_X7_does v6 v7 i_1 σ)) fun v8 σ =>
  if v8 = 0 then
  (f_X0_step_J84_2 c0_2 c1_2 c2_2 i_1 σ)
  else
  ((gR 0 14 c0_2 σ).bind fun v9 =>
  bnd2 (vc 5 v9 σ (f_X5_number v9 σ)) fun v10 σ =>
  (gR 0 15 c0_2 σ).bind fun v11 =>
  (ldI 0 v11 v10 σ).bind fun v12 =>
  if v12 = (c2_2 + (1 : Int32)) then
  ((gR 0 17 c0_2 σ).bind fun v13 =>
  (ldI 4 v13 v10 σ).bind fun v14 =>
  if v14 = 0 then
  (f_X0_step_J84_2 c0_2 c1_2 c2_2 i_1 σ)
  else
  ((gR 0 20 c0_2 σ).bind fun v15 =>
  (stI v15 c2_2 i_1 σ).bind fun σ =>
  some (.inr (.inl (v10, σ)))))
  else
  (f_X0_step_J84_2 c0_2 c1_2 c2_2 i_1 σ)))
  else
  (some (.inr (.inr σ)))
noncomputable def f_X0_step (a0 : Nat) (i1 : Int32) (i2 : Int32) (σ : ZT) : Option (Int32 × ZT) :=
  (loopC (fun s : (Int32 × ZT) => f_X0_step_L2 a0 i1 i2 s.1 s.2) ((0 : Int32), σ)).bind fun x => (match x with
  | .inl o => some o
  | .inr σ => some (i1, σ))
set_option maxHeartbeats 4000000 in
theorem m_X0_step {l : Launch} {G : ZG} (a0 : Nat) (i1 : Int32) (i2 : Int32) (σ : ZT) {out : (Int32 × ZT)} (hf : f_X0_step a0 i1 i2 σ = some out) : ZM l G yX0_step cX0_step 5 (some .int) [] 7 [.ref a0, .int i1, .int i2] σ (.returned (some (.int out.1))) out.2 := by
  refine ZM.of [(0, .ref a0), (1, .int i1), (2, .int i2)] rfl (Nat.le_of_ble_eq_true rfl) fun X (C : ZC G RX0 "step" cX0_step 5 (some .int) [] X 7) => ?_
  unfold f_X0_step at hf
  refine z_iconst (q := 1) C (0 : Int32) dX0_step_0 ki_0 rfl ?_
  refine z_istore_n (q := 2) (i := 3) (lv' := [(3, .int (0 : Int32)), (0, .ref a0), (1, .int i1), (2, .int i2)]) C dX0_step_1 rfl (by decide) rfl rfl ?_
  refine z_lv [1, 2, 3, 0] rfl ?_
  obtain ⟨r1, hr1, hk1⟩ := Option.bind_eq_some_iff.mp hf
  refine loopC_ind (P := fun s => ZW l G 5 X (ZQ G X (.returned (some (.int out.1))) out.2) s.2 2 [(0, .ref a0), (1, .int i1), (2, .int i2), (3, .int s.1)] []) (fun s x1 hf hx1 => ?_) hr1
  obtain ⟨i_1, σ⟩ := s
  unfold f_X0_step_L2 at hf
  try dsimp only at hf
  try dsimp only
  have j84_1 : ∀ (i3_84 : Int32) (σ : ZT), f_X0_step_J84_2 a0 i1 i2 i3_84 σ = some x1 → ZW l G 5 X (ZQ G X (.returned (some (.int out.1))) out.2) σ 84 [(0, .ref a0), (1, .int i1), (2, .int i2), (3, .int i3_84)] [] := by
    intro i3_84 σ hf
    unfold f_X0_step_J84_2 at hf
    refine z_iinc (q := 87) (i := 3) (lv' := [(3, .int (i3_84 + (1 : Int32))), (0, .ref a0), (1, .int i1), (2, .int i2)]) C 3 (i3_84 + (1 : Int32)) dX0_step_84 rfl (kn_1 _) (by decide) rfl rfl ?_
    refine z_goto (q := 2) C dX0_step_87 (by decide) ?_
    refine z_lv [1, 2, 3, 0] rfl ?_
    have hc1 := zl_c hf hx1
    exact hc1
  refine z_iload_n (q := 3) (i := 3) C 3 dX0_step_2 rfl rfl rfl ?_
  refine z_aload_n (q := 4) (i := 0) C 0 dX0_step_3 rfl rfl rfl ?_
  refine z_getR (q := 7) C flX0_66 dX0_step_4 hf rfl fun v2 hf => ?_
  refine z_getI (q := 10) C flX0_388 dX0_step_7 hf rfl fun v3 hf => ?_
  refine z_icmpge (q := 13) (tgt := 90) C dX0_step_10 (by decide) rfl hf (fun c10 hf => ?_) (fun c10 hf => ?_)
  · have e1 := zl_x hf hx1
    have hf := hk1
    rw [← e1] at hf
    try dsimp only at hf
    refine z_iload_n (q := 91) (i := 1) C 1 dX0_step_90 rfl rfl rfl ?_
    exact z_ireturn C rfl dX0_step_91 (Option.some.inj hf)
  · refine z_aload_n (q := 14) (i := 0) C 0 dX0_step_13 rfl rfl rfl ?_
    refine z_getR (q := 17) C flX0_73 dX0_step_14 hf rfl fun v4 hf => ?_
    refine z_iload_n (q := 18) (i := 1) C 1 dX0_step_17 rfl rfl rfl ?_
    refine z_callVv (q := 21) (As := [.int i1]) C (fun o ho => m_X5_be_2 _ _ _ ho) zk5 vvX0_391 cdX5_be_2 pnX5 dX0_step_18 rfl (by decide) (Nat.le_of_ble_eq_true rfl) hf rfl fun σ hf => ?_
    refine z_aload_n (q := 22) (i := 0) C 0 dX0_step_21 rfl rfl rfl ?_
    refine z_getR (q := 25) C flX0_66 dX0_step_22 hf rfl fun v6 hf => ?_
    refine z_aload_n (q := 26) (i := 0) C 0 dX0_step_25 rfl rfl rfl ?_
    refine z_getR (q := 29) C flX0_73 dX0_step_26 hf rfl fun v7 hf => ?_
    refine z_iload_n (q := 30) (i := 3) C 3 dX0_step_29 rfl rfl rfl ?_
    refine z_callVi (q := 33) (As := [.ref v7, .int i_1]) C (fun o ho => m_X7_does _ _ _ _ ho) zk7 vvX0_393 cdX7_does pnX7 dX0_step_30 rfl (by decide) (Nat.le_of_ble_eq_true rfl) hf rfl fun v8 σ hf => ?_
    refine z_ifne (q := 36) (tgt := 39) C dX0_step_33 (by decide) rfl hf (fun c33 hf => ?_) (fun c33 hf => ?_)
    · refine z_aload_n (q := 40) (i := 0) C 0 dX0_step_39 rfl rfl rfl ?_
      refine z_getR (q := 43) C flX0_73 dX0_step_40 hf rfl fun v9 hf => ?_
      refine z_callVi (q := 46) (As := []) C (fun o ho => m_X5_number _ _ ho) zk5 vvX0_382 cdX5_number pnX5 dX0_step_43 rfl (by decide) (Nat.le_of_ble_eq_true rfl) hf rfl fun v10 σ hf => ?_
      refine z_istore (q := 48) (i := 4) (lv' := [(4, .int v10), (0, .ref a0), (1, .int i1), (2, .int i2), (3, .int i_1)]) C dX0_step_46 (by decide) rfl rfl ?_
      refine z_aload_n (q := 49) (i := 0) C 1 dX0_step_48 rfl rfl rfl ?_
      refine z_getR (q := 52) C flX0_78 dX0_step_49 hf rfl fun v11 hf => ?_
      refine z_iload (q := 54) (i := 4) C 0 dX0_step_52 rfl rfl ?_
      refine z_iald (q := 55) C dX0_step_54 hf rfl fun v12 hf => ?_
      refine z_iload_n (q := 56) (i := 2) C 3 dX0_step_55 rfl rfl rfl ?_
      refine z_iconst (q := 57) C (1 : Int32) dX0_step_56 ki_1 rfl ?_
      refine z_iadd (q := 58) C dX0_step_57 rfl ?_
      refine z_icmpne (q := 61) (tgt := 84) C dX0_step_58 (by decide) rfl hf (fun c58 hf => ?_) (fun c58 hf => ?_)
      · refine z_lv [1, 2, 3, 4] rfl ?_
        exact j84_1 i_1 σ hf
      · refine z_aload_n (q := 62) (i := 0) C 1 dX0_step_61 rfl rfl rfl ?_
        refine z_getR (q := 65) C flX0_84 dX0_step_62 hf rfl fun v13 hf => ?_
        refine z_iload (q := 67) (i := 4) C 0 dX0_step_65 rfl rfl ?_
        refine z_zald (q := 68) C dX0_step_67 hf rfl fun v14 hf => ?_
        refine z_ifne (q := 71) (tgt := 74) C dX0_step_68 (by decide) rfl hf (fun c68 hf => ?_) (fun c68 hf => ?_)
        · refine z_aload_n (q := 75) (i := 0) C 1 dX0_step_74 rfl rfl rfl ?_
          refine z_getR (q := 78) C flX0_91 dX0_step_75 hf rfl fun v15 hf => ?_
          refine z_iload_n (q := 79) (i := 2) C 3 dX0_step_78 rfl rfl rfl ?_
          refine z_iload_n (q := 80) (i := 3) C 4 dX0_step_79 rfl rfl rfl ?_
          refine z_iast (q := 81) C dX0_step_80 hf rfl fun σ hf => ?_
          refine z_iload (q := 83) (i := 4) C 0 dX0_step_81 rfl rfl ?_
          have e1 := zl_x hf hx1
          have hf := hk1
          rw [← e1] at hf
          try dsimp only at hf
          exact z_ireturn C rfl dX0_step_83 (Option.some.inj hf)
        · refine z_goto (q := 84) C dX0_step_71 (by decide) ?_
          refine z_lv [1, 2, 3, 4] rfl ?_
          exact j84_1 i_1 σ hf
    · refine z_goto (q := 84) C dX0_step_36 (by decide) ?_
      exact j84_1 i_1 σ hf

