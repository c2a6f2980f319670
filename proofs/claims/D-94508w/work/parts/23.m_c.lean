set_option maxRecDepth 100000
noncomputable def f_X9_starts_L18 (c0_18 : Nat) (i_4 : Int32) (σ : ZT) : Option ((Int32 × ZT) ⊕ ZT) :=
  if i_4 < (129600 : Int32) then
  ((gR 9 934 c0_18 σ).bind fun v9 =>
  (stI v9 i_4 (-1 : Int32) σ).bind fun σ =>
  some (.inl ((i_4 + (1 : Int32)), σ)))
  else
  (some (.inr σ))
noncomputable def f_X9_starts (a0 : Nat) (σ : ZT) : Option ZT :=
  (vc 9 a0 σ (f_X9_laysMoves a0 σ)).bind fun σ =>
  (vc 9 a0 σ (f_X9_takesNow a0 σ)).bind fun σ =>
  bnd2 (vc 9 a0 σ (f_X9_code a0 σ)) fun v3 σ =>
  (pI 9 938 a0 v3 σ).bind fun σ =>
  (loopC (fun s : (Int32 × ZT) => f_X9_starts_L18 a0 s.1 s.2) ((0 : Int32), σ)).bind fun σ =>
  (gR 9 934 a0 σ).bind fun v10 =>
  (gI 9 938 a0 σ).bind fun v11 =>
  (stI v10 v11 (0 : Int32) σ).bind fun σ =>
  (gR 9 935 a0 σ).bind fun v12 =>
  (gI 9 938 a0 σ).bind fun v13 =>
  (stI v12 (0 : Int32) v13 σ).bind fun σ =>
  (pI 9 937 a0 (1 : Int32) σ).bind fun σ =>
  some σ
set_option maxHeartbeats 4000000 in
theorem m_X9_starts {l : Launch} {G : ZG} (a0 : Nat) (σ : ZT) {out : ZT} (hf : f_X9_starts a0 σ = some out) : ZM l G yX9_starts cX9_starts 2 none [] 3 [.ref a0] σ (.returned none) out := by
  refine ZM.of [(0, .ref a0)] rfl (Nat.le_of_ble_eq_true rfl) fun X (C : ZC G RX9 "starts" cX9_starts 2 none [] X 3) => ?_
  unfold f_X9_starts at hf
  refine z_aload_n (q := 1) (i := 0) C 0 dX9_starts_0 rfl rfl rfl ?_
  refine z_callVv (q := 4) (As := []) C (fun o ho => m_X9_laysMoves _ _ ho) zk9 vvX9_367 cdX9_laysMoves pnX9 dX9_starts_1 rfl (by decide) (Nat.le_of_ble_eq_true rfl) hf rfl fun σ hf => ?_
  refine z_aload_n (q := 5) (i := 0) C 0 dX9_starts_4 rfl rfl rfl ?_
  refine z_callVv (q := 8) (As := []) C (fun o ho => m_X9_takesNow _ _ ho) zk9 vvX9_285 cdX9_takesNow pnX9 dX9_starts_5 rfl (by decide) (Nat.le_of_ble_eq_true rfl) hf rfl fun σ hf => ?_
  refine z_aload_n (q := 9) (i := 0) C 0 dX9_starts_8 rfl rfl rfl ?_
  refine z_aload_n (q := 10) (i := 0) C 0 dX9_starts_9 rfl rfl rfl ?_
  refine z_callVi (q := 13) (As := []) C (fun o ho => m_X9_code _ _ ho) zk9 vvX9_364 cdX9_code pnX9 dX9_starts_10 rfl (by decide) (Nat.le_of_ble_eq_true rfl) hf rfl fun v3 σ hf => ?_
  refine z_putI (q := 16) C puX9_370 dX9_starts_13 hf rfl fun σ hf => ?_
  refine z_iconst (q := 17) C (0 : Int32) dX9_starts_16 ki_0 rfl ?_
  refine z_istore_n (q := 18) (i := 1) (lv' := [(1, .int (0 : Int32)), (0, .ref a0)]) C dX9_starts_17 rfl (by decide) rfl rfl ?_
  refine z_lv [1, 0] rfl ?_
  obtain ⟨r1, hr1, hk1⟩ := Option.bind_eq_some_iff.mp hf
  refine loopC_ind (P := fun s => ZW l G 2 X (ZQ G X (.returned none) out) s.2 18 [(0, .ref a0), (1, .int s.1)] []) (fun s x1 hf hx1 => ?_) hr1
  obtain ⟨i_4, σ⟩ := s
  unfold f_X9_starts_L18 at hf
  try dsimp only at hf
  try dsimp only
  refine z_iload_n (q := 19) (i := 1) C 1 dX9_starts_18 rfl rfl rfl ?_
  refine z_ldc (q := 21) C q1587 dX9_starts_19 rfl ?_
  refine z_icmpge (q := 24) (tgt := 37) C dX9_starts_21 (by decide) rfl hf (fun c21 hf => ?_) (fun c21 hf => ?_)
  · have e1 := zl_x hf hx1
    have hf := hk1
    rw [← e1] at hf
    try dsimp only at hf
    refine z_aload_n (q := 38) (i := 0) C 0 dX9_starts_37 rfl rfl rfl ?_
    refine z_getR (q := 41) C flX9_69 dX9_starts_38 hf rfl fun v5 hf => ?_
    refine z_aload_n (q := 42) (i := 0) C 0 dX9_starts_41 rfl rfl rfl ?_
    refine z_getI (q := 45) C flX9_370 dX9_starts_42 hf rfl fun v6 hf => ?_
    refine z_iconst (q := 46) C (0 : Int32) dX9_starts_45 ki_0 rfl ?_
    refine z_iast (q := 47) C dX9_starts_46 hf rfl fun σ hf => ?_
    refine z_aload_n (q := 48) (i := 0) C 0 dX9_starts_47 rfl rfl rfl ?_
    refine z_getR (q := 51) C flX9_72 dX9_starts_48 hf rfl fun v7 hf => ?_
    refine z_iconst (q := 52) C (0 : Int32) dX9_starts_51 ki_0 rfl ?_
    refine z_aload_n (q := 53) (i := 0) C 0 dX9_starts_52 rfl rfl rfl ?_
    refine z_getI (q := 56) C flX9_370 dX9_starts_53 hf rfl fun v8 hf => ?_
    refine z_iast (q := 57) C dX9_starts_56 hf rfl fun σ hf => ?_
    refine z_aload_n (q := 58) (i := 0) C 0 dX9_starts_57 rfl rfl rfl ?_
    refine z_iconst (q := 59) C (1 : Int32) dX9_starts_58 ki_1 rfl ?_
    refine z_putI (q := 62) C puX9_373 dX9_starts_59 hf rfl fun σ hf => ?_
    exact z_return C rfl dX9_starts_62 (Option.some.inj hf)
  · refine z_aload_n (q := 25) (i := 0) C 0 dX9_starts_24 rfl rfl rfl ?_
    refine z_getR (q := 28) C flX9_69 dX9_starts_25 hf rfl fun v9 hf => ?_
    refine z_iload_n (q := 29) (i := 1) C 1 dX9_starts_28 rfl rfl rfl ?_
    refine z_iconst (q := 30) C (-1 : Int32) dX9_starts_29 ki_m1 rfl ?_
    refine z_iast (q := 31) C dX9_starts_30 hf rfl fun σ hf => ?_
    refine z_iinc (q := 34) (i := 1) (lv' := [(1, .int (i_4 + (1 : Int32))), (0, .ref a0)]) C 1 (i_4 + (1 : Int32)) dX9_starts_31 rfl (kn_1 _) (by decide) rfl rfl ?_
    refine z_goto (q := 18) C dX9_starts_34 (by decide) ?_
    refine z_lv [1, 0] rfl ?_
    have hc1 := zl_c hf hx1
    exact hc1

noncomputable def f_X9_opens_L37 (c0_37 : Nat) (i_5 : Int32) (i_6 : Int32) (σ : ZT) : Option ((Int32 × Int32 × ZT) ⊕ ZT) :=
  (gR 9 900 c0_37 σ).bind fun v7 =>
  (ldI 0 v7 (2 : Int32) σ).bind fun v8 =>
  if i_6 < v8 then
  ((gR 9 924 c0_37 σ).bind fun v9 =>
  (zirem i_5 (6 : Int32)).bind fun v10 =>
  (stI v9 i_6 v10 σ).bind fun σ =>
  (zidiv i_5 (6 : Int32)).bind fun v11 =>
  some (.inl (v11, (i_6 + (1 : Int32)), σ)))
  else
  (some (.inr σ))
noncomputable def f_X9_opens_L4 (c0_4 : Nat) (i_1 : Int32) (i_2 : Int32) (σ : ZT) : Option ((Int32 × Int32 × ZT) ⊕ (Int32 × ZT)) :=
  (gR 9 900 c0_4 σ).bind fun v3 =>
  (ldI 0 v3 (3 : Int32) σ).bind fun v4 =>
  if i_2 < v4 then
  ((gR 9 925 c0_4 σ).bind fun v12 =>
  (zirem i_1 (10 : Int32)).bind fun v13 =>
  (stI v12 i_2 v13 σ).bind fun σ =>
  (zidiv i_1 (10 : Int32)).bind fun v14 =>
  some (.inl (v14, (i_2 + (1 : Int32)), σ)))
  else
  (some (.inr (i_1, σ)))
noncomputable def f_X9_opens (a0 : Nat) (i1 : Int32) (σ : ZT) : Option ZT :=
  (loopC (fun s : (Int32 × Int32 × ZT) => f_X9_opens_L4 a0 s.1 s.2.1 s.2.2) (i1, (0 : Int32), σ)).bind fun x => (match x with
  | (x15, σ) => (loopC (fun s : (Int32 × Int32 × ZT) => f_X9_opens_L37 a0 s.1 s.2.1 s.2.2) (x15, (0 : Int32), σ)).bind fun σ =>
  some σ)
set_option maxHeartbeats 4000000 in
theorem m_X9_opens {l : Launch} {G : ZG} (a0 : Nat) (i1 : Int32) (σ : ZT) {out : ZT} (hf : f_X9_opens a0 i1 σ = some out) : ZM l G yX9_opens cX9_opens 4 none [] 1 [.ref a0, .int i1] σ (.returned none) out := by
  refine ZM.of [(0, .ref a0), (1, .int i1)] rfl (Nat.le_of_ble_eq_true rfl) fun X (C : ZC G RX9 "opens" cX9_opens 4 none [] X 1) => ?_
  unfold f_X9_opens at hf
  refine z_iload_n (q := 1) (i := 1) C 1 dX9_opens_0 rfl rfl rfl ?_
  refine z_istore_n (q := 2) (i := 2) (lv' := [(2, .int i1), (0, .ref a0), (1, .int i1)]) C dX9_opens_1 rfl (by decide) rfl rfl ?_
  refine z_iconst (q := 3) C (0 : Int32) dX9_opens_2 ki_0 rfl ?_
  refine z_istore_n (q := 4) (i := 3) (lv' := [(3, .int (0 : Int32)), (2, .int i1), (0, .ref a0), (1, .int i1)]) C dX9_opens_3 rfl (by decide) rfl rfl ?_
  refine z_lv [2, 1, 0] rfl ?_
  obtain ⟨r1, hr1, hk1⟩ := Option.bind_eq_some_iff.mp hf
  refine loopC_ind (P := fun s => ZW l G 4 X (ZQ G X (.returned none) out) s.2.2 4 [(0, .ref a0), (2, .int s.1), (3, .int s.2.1)] []) (fun s x1 hf hx1 => ?_) hr1
  obtain ⟨i_1, i_2, σ⟩ := s
  unfold f_X9_opens_L4 at hf
  try dsimp only at hf
  try dsimp only
  refine z_iload_n (q := 5) (i := 3) C 2 dX9_opens_4 rfl rfl rfl ?_
  refine z_aload_n (q := 6) (i := 0) C 0 dX9_opens_5 rfl rfl rfl ?_
  refine z_getR (q := 9) C flX9_7 dX9_opens_6 hf rfl fun v3 hf => ?_
  refine z_iconst (q := 10) C (3 : Int32) dX9_opens_9 ki_3 rfl ?_
  refine z_iald (q := 11) C dX9_opens_10 hf rfl fun v4 hf => ?_
  refine z_icmpge (q := 14) (tgt := 35) C dX9_opens_11 (by decide) rfl hf (fun c11 hf => ?_) (fun c11 hf => ?_)
  · have e1 := zl_x hf hx1
    have hf := hk1
    rw [← e1] at hf
    try dsimp only at hf
    refine z_iconst (q := 36) C (0 : Int32) dX9_opens_35 ki_0 rfl ?_
    refine z_istore_n (q := 37) (i := 3) (lv' := [(3, .int (0 : Int32)), (0, .ref a0), (2, .int i_1)]) C dX9_opens_36 rfl (by decide) rfl rfl ?_
    refine z_lv [1, 2, 0] rfl ?_
    obtain ⟨r1, hr1, hk1⟩ := Option.bind_eq_some_iff.mp hf
    refine loopC_ind (P := fun s => ZW l G 4 X (ZQ G X (.returned none) out) s.2.2 37 [(0, .ref a0), (2, .int s.1), (3, .int s.2.1)] []) (fun s x1 hf hx1 => ?_) hr1
    obtain ⟨i_5, i_6, σ⟩ := s
    unfold f_X9_opens_L37 at hf
    try dsimp only at hf
    try dsimp only
    refine z_iload_n (q := 38) (i := 3) C 2 dX9_opens_37 rfl rfl rfl ?_
    refine z_aload_n (q := 39) (i := 0) C 0 dX9_opens_38 rfl rfl rfl ?_
    refine z_getR (q := 42) C flX9_7 dX9_opens_39 hf rfl fun v7 hf => ?_
    refine z_iconst (q := 43) C (2 : Int32) dX9_opens_42 ki_2 rfl ?_
    refine z_iald (q := 44) C dX9_opens_43 hf rfl fun v8 hf => ?_
    refine z_icmpge (q := 47) (tgt := 68) C dX9_opens_44 (by decide) rfl hf (fun c44 hf => ?_) (fun c44 hf => ?_)
    · have e1 := zl_x hf hx1
      have hf := hk1
      rw [← e1] at hf
      try dsimp only at hf
      exact z_return C rfl dX9_opens_68 (Option.some.inj hf)
    · refine z_aload_n (q := 48) (i := 0) C 0 dX9_opens_47 rfl rfl rfl ?_
      refine z_getR (q := 51) C flX9_47 dX9_opens_48 hf rfl fun v9 hf => ?_
      refine z_iload_n (q := 52) (i := 3) C 2 dX9_opens_51 rfl rfl rfl ?_
      refine z_iload_n (q := 53) (i := 2) C 1 dX9_opens_52 rfl rfl rfl ?_
      refine z_bipush (q := 55) C (6 : Int32) dX9_opens_53 kb_6 rfl ?_
      refine z_irem (q := 56) C dX9_opens_55 hf rfl fun v10 hf => ?_
      refine z_iast (q := 57) C dX9_opens_56 hf rfl fun σ hf => ?_
      refine z_iload_n (q := 58) (i := 2) C 1 dX9_opens_57 rfl rfl rfl ?_
      refine z_bipush (q := 60) C (6 : Int32) dX9_opens_58 kb_6 rfl ?_
      refine z_idiv (q := 61) C dX9_opens_60 hf rfl fun v11 hf => ?_
      refine z_istore_n (q := 62) (i := 2) (lv' := [(2, .int v11), (0, .ref a0), (3, .int i_6)]) C dX9_opens_61 rfl (by decide) rfl rfl ?_
      refine z_iinc (q := 65) (i := 3) (lv' := [(3, .int (i_6 + (1 : Int32))), (2, .int v11), (0, .ref a0)]) C 2 (i_6 + (1 : Int32)) dX9_opens_62 rfl (kn_1 _) (by decide) rfl rfl ?_
      refine z_goto (q := 37) C dX9_opens_65 (by decide) ?_
      refine z_lv [2, 1, 0] rfl ?_
      have hc1 := zl_c hf hx1
      exact hc1
  · refine z_aload_n (q := 15) (i := 0) C 0 dX9_opens_14 rfl rfl rfl ?_
    refine z_getR (q := 18) C flX9_50 dX9_opens_15 hf rfl fun v12 hf => ?_
    refine z_iload_n (q := 19) (i := 3) C 2 dX9_opens_18 rfl rfl rfl ?_
    refine z_iload_n (q := 20) (i := 2) C 1 dX9_opens_19 rfl rfl rfl ?_
    refine z_bipush (q := 22) C (10 : Int32) dX9_opens_20 kb_10 rfl ?_
    refine z_irem (q := 23) C dX9_opens_22 hf rfl fun v13 hf => ?_
    refine z_iast (q := 24) C dX9_opens_23 hf rfl fun σ hf => ?_
    refine z_iload_n (q := 25) (i := 2) C 1 dX9_opens_24 rfl rfl rfl ?_
    refine z_bipush (q := 27) C (10 : Int32) dX9_opens_25 kb_10 rfl ?_
    refine z_idiv (q := 28) C dX9_opens_27 hf rfl fun v14 hf => ?_
    refine z_istore_n (q := 29) (i := 2) (lv' := [(2, .int v14), (0, .ref a0), (3, .int i_2)]) C dX9_opens_28 rfl (by decide) rfl rfl ?_
    refine z_iinc (q := 32) (i := 3) (lv' := [(3, .int (i_2 + (1 : Int32))), (2, .int v14), (0, .ref a0)]) C 2 (i_2 + (1 : Int32)) dX9_opens_29 rfl (kn_1 _) (by decide) rfl rfl ?_
    refine z_goto (q := 4) C dX9_opens_32 (by decide) ?_
    refine z_lv [2, 1, 0] rfl ?_
    have hc1 := zl_c hf hx1
    exact hc1

noncomputable def f_X9_moved_J92 (w0_92 : Int32) (σ : ZT) : Option (Int32 × ZT) :=
  some (w0_92, σ)
noncomputable def f_X9_moved_J79 (a0_79 : Nat) (w0_79 : Int32) (σ : ZT) : Option (Int32 × ZT) :=
  if w0_79 = 0 then
  (f_X9_moved_J92 (-1 : Int32) σ)
  else
  (bnd2 (vc 9 a0_79 σ (f_X9_code a0_79 σ)) fun v21 σ =>
  f_X9_moved_J92 v21 σ)
noncomputable def f_X9_moved (a0 : Nat) (i1 : Int32) (i2 : Int32) (σ : ZT) : Option (Int32 × ZT) :=
  (vc 9 a0 σ (f_X9_opens a0 i1 σ)).bind fun σ =>
  (gR 9 929 a0 σ).bind fun v2 =>
  (ldI 0 v2 i2 σ).bind fun v3 =>
  if v3 < (2 : Int32) then
  ((gR 9 930 a0 σ).bind fun v14 =>
  (ldI 0 v14 i2 σ).bind fun v15 =>
  (gR 9 931 a0 σ).bind fun v16 =>
  (ldI 0 v16 i2 σ).bind fun v17 =>
  (gR 9 932 a0 σ).bind fun v18 =>
  (ldI 0 v18 i2 σ).bind fun v19 =>
  bnd2 (vc 9 a0 σ (f_X9_goesOver a0 v15 v17 v19 σ)) fun v20 σ =>
  f_X9_moved_J79 a0 v20 σ)
  else
  ((gR 9 929 a0 σ).bind fun v4 =>
  (ldI 0 v4 i2 σ).bind fun v5 =>
  if v5 = (2 : Int32) then
  ((gR 9 930 a0 σ).bind fun v9 =>
  (ldI 0 v9 i2 σ).bind fun v10 =>
  (gR 9 932 a0 σ).bind fun v11 =>
  (ldI 0 v11 i2 σ).bind fun v12 =>
  bnd2 (vc 9 a0 σ (f_X9_lifts a0 v10 v12 σ)) fun v13 σ =>
  f_X9_moved_J79 a0 v13 σ)
  else
  ((gR 9 930 a0 σ).bind fun v6 =>
  (ldI 0 v6 i2 σ).bind fun v7 =>
  bnd2 (vc 9 a0 σ (f_X9_drops a0 v7 σ)) fun v8 σ =>
  f_X9_moved_J79 a0 v8 σ))
set_option maxHeartbeats 4000000 in
theorem m_X9_moved {l : Launch} {G : ZG} (a0 : Nat) (i1 : Int32) (i2 : Int32) (σ : ZT) {out : (Int32 × ZT)} (hf : f_X9_moved a0 i1 i2 σ = some out) : ZM l G yX9_moved cX9_moved 4 (some .int) [] 7 [.ref a0, .int i1, .int i2] σ (.returned (some (.int out.1))) out.2 := by
  refine ZM.of [(0, .ref a0), (1, .int i1), (2, .int i2)] rfl (Nat.le_of_ble_eq_true rfl) fun X (C : ZC G RX9 "moved" cX9_moved 4 (some .int) [] X 7) => ?_
  unfold f_X9_moved at hf
  have j92_0 : ∀ (w0_92 : Int32) (σ : ZT), f_X9_moved_J92 w0_92 σ = some out → ZW l G 4 X (ZQ G X (.returned (some (.int out.1))) out.2) σ 92 [] [.int w0_92] := by
    intro w0_92 σ hf
    unfold f_X9_moved_J92 at hf
    exact z_ireturn C rfl dX9_moved_92 (Option.some.inj hf)
  have j79_0 : ∀ (a0_79 : Nat) (w0_79 : Int32) (σ : ZT), f_X9_moved_J79 a0_79 w0_79 σ = some out → ZW l G 4 X (ZQ G X (.returned (some (.int out.1))) out.2) σ 79 [(0, .ref a0_79)] [.int w0_79] := by
    intro a0_79 w0_79 σ hf
    unfold f_X9_moved_J79 at hf
    refine z_istore_n (q := 80) (i := 3) (lv' := [(3, .int w0_79), (0, .ref a0_79)]) C dX9_moved_79 rfl (by decide) rfl rfl ?_
    refine z_iload_n (q := 81) (i := 3) C 0 dX9_moved_80 rfl rfl rfl ?_
    refine z_ifeq (q := 84) (tgt := 91) C dX9_moved_81 (by decide) rfl hf (fun c81 hf => ?_) (fun c81 hf => ?_)
    · refine z_iconst (q := 92) C (-1 : Int32) dX9_moved_91 ki_m1 rfl ?_
      refine z_lv [] rfl ?_
      exact j92_0 (-1 : Int32) σ hf
    · refine z_aload_n (q := 85) (i := 0) C 1 dX9_moved_84 rfl rfl rfl ?_
      refine z_callVi (q := 88) (As := []) C (fun o ho => m_X9_code _ _ ho) zk9 vvX9_364 cdX9_code pnX9 dX9_moved_85 rfl (by decide) (Nat.le_of_ble_eq_true rfl) hf rfl fun v21 σ hf => ?_
      refine z_goto (q := 92) C dX9_moved_88 (by decide) ?_
      refine z_lv [] rfl ?_
      exact j92_0 v21 σ hf
  refine z_aload_n (q := 1) (i := 0) C 0 dX9_moved_0 rfl rfl rfl ?_
  refine z_iload_n (q := 2) (i := 1) C 1 dX9_moved_1 rfl rfl rfl ?_
  refine z_callVv (q := 5) (As := [.int i1]) C (fun o ho => m_X9_opens _ _ _ ho) zk9 vvX9_361 cdX9_opens pnX9 dX9_moved_2 rfl (by decide) (Nat.le_of_ble_eq_true rfl) hf rfl fun σ hf => ?_
  refine z_aload_n (q := 6) (i := 0) C 0 dX9_moved_5 rfl rfl rfl ?_
  refine z_getR (q := 9) C flX9_56 dX9_moved_6 hf rfl fun v2 hf => ?_
  refine z_iload_n (q := 10) (i := 2) C 2 dX9_moved_9 rfl rfl rfl ?_
  refine z_iald (q := 11) C dX9_moved_10 hf rfl fun v3 hf => ?_
  refine z_iconst (q := 12) C (2 : Int32) dX9_moved_11 ki_2 rfl ?_
  refine z_icmpge (q := 15) (tgt := 40) C dX9_moved_12 (by decide) rfl hf (fun c12 hf => ?_) (fun c12 hf => ?_)
  · refine z_aload_n (q := 41) (i := 0) C 0 dX9_moved_40 rfl rfl rfl ?_
    refine z_getR (q := 44) C flX9_56 dX9_moved_41 hf rfl fun v4 hf => ?_
    refine z_iload_n (q := 45) (i := 2) C 2 dX9_moved_44 rfl rfl rfl ?_
    refine z_iald (q := 46) C dX9_moved_45 hf rfl fun v5 hf => ?_
    refine z_iconst (q := 47) C (2 : Int32) dX9_moved_46 ki_2 rfl ?_
    refine z_icmpne (q := 50) (tgt := 69) C dX9_moved_47 (by decide) rfl hf (fun c47 hf => ?_) (fun c47 hf => ?_)
    · refine z_aload_n (q := 70) (i := 0) C 0 dX9_moved_69 rfl rfl rfl ?_
      refine z_aload_n (q := 71) (i := 0) C 0 dX9_moved_70 rfl rfl rfl ?_
      refine z_getR (q := 74) C flX9_59 dX9_moved_71 hf rfl fun v6 hf => ?_
      refine z_iload_n (q := 75) (i := 2) C 2 dX9_moved_74 rfl rfl rfl ?_
      refine z_iald (q := 76) C dX9_moved_75 hf rfl fun v7 hf => ?_
      refine z_callVi (q := 79) (As := [.int v7]) C (fun o ho => m_X9_drops _ _ _ ho) zk9 vvX9_351 cdX9_drops pnX9 dX9_moved_76 rfl (by decide) (Nat.le_of_ble_eq_true rfl) hf rfl fun v8 σ hf => ?_
      refine z_lv [0] rfl ?_
      exact j79_0 a0 v8 σ hf
    · refine z_aload_n (q := 51) (i := 0) C 0 dX9_moved_50 rfl rfl rfl ?_
      refine z_aload_n (q := 52) (i := 0) C 0 dX9_moved_51 rfl rfl rfl ?_
      refine z_getR (q := 55) C flX9_59 dX9_moved_52 hf rfl fun v9 hf => ?_
      refine z_iload_n (q := 56) (i := 2) C 2 dX9_moved_55 rfl rfl rfl ?_
      refine z_iald (q := 57) C dX9_moved_56 hf rfl fun v10 hf => ?_
      refine z_aload_n (q := 58) (i := 0) C 0 dX9_moved_57 rfl rfl rfl ?_
      refine z_getR (q := 61) C flX9_65 dX9_moved_58 hf rfl fun v11 hf => ?_
      refine z_iload_n (q := 62) (i := 2) C 2 dX9_moved_61 rfl rfl rfl ?_
      refine z_iald (q := 63) C dX9_moved_62 hf rfl fun v12 hf => ?_
      refine z_callVi (q := 66) (As := [.int v10, .int v12]) C (fun o ho => m_X9_lifts _ _ _ _ ho) zk9 vvX9_348 cdX9_lifts pnX9 dX9_moved_63 rfl (by decide) (Nat.le_of_ble_eq_true rfl) hf rfl fun v13 σ hf => ?_
      refine z_goto (q := 79) C dX9_moved_66 (by decide) ?_
      refine z_lv [0] rfl ?_
      exact j79_0 a0 v13 σ hf
  · refine z_aload_n (q := 16) (i := 0) C 0 dX9_moved_15 rfl rfl rfl ?_
    refine z_aload_n (q := 17) (i := 0) C 0 dX9_moved_16 rfl rfl rfl ?_
    refine z_getR (q := 20) C flX9_59 dX9_moved_17 hf rfl fun v14 hf => ?_
    refine z_iload_n (q := 21) (i := 2) C 2 dX9_moved_20 rfl rfl rfl ?_
    refine z_iald (q := 22) C dX9_moved_21 hf rfl fun v15 hf => ?_
    refine z_aload_n (q := 23) (i := 0) C 0 dX9_moved_22 rfl rfl rfl ?_
    refine z_getR (q := 26) C flX9_62 dX9_moved_23 hf rfl fun v16 hf => ?_
    refine z_iload_n (q := 27) (i := 2) C 2 dX9_moved_26 rfl rfl rfl ?_
    refine z_iald (q := 28) C dX9_moved_27 hf rfl fun v17 hf => ?_
    refine z_aload_n (q := 29) (i := 0) C 0 dX9_moved_28 rfl rfl rfl ?_
    refine z_getR (q := 32) C flX9_65 dX9_moved_29 hf rfl fun v18 hf => ?_
    refine z_iload_n (q := 33) (i := 2) C 2 dX9_moved_32 rfl rfl rfl ?_
    refine z_iald (q := 34) C dX9_moved_33 hf rfl fun v19 hf => ?_
    refine z_callVi (q := 37) (As := [.int v15, .int v17, .int v19]) C (fun o ho => m_X9_goesOver _ _ _ _ _ ho) zk9 vvX9_338 cdX9_goesOver pnX9 dX9_moved_34 rfl (by decide) (Nat.le_of_ble_eq_true rfl) hf rfl fun v20 σ hf => ?_
    refine z_goto (q := 79) C dX9_moved_37 (by decide) ?_
    refine z_lv [0] rfl ?_
    exact j79_0 a0 v20 σ hf

noncomputable def f_X9_comes_J93_16 (a0_93 : Nat) (i1_93 : Int32) (i2_93 : Int32) (σ : ZT) : Option ((Int32 × ZT) ⊕ ZT) :=
  some (.inl ((i2_93 + (1 : Int32)), σ))
noncomputable def f_X9_comes_L16 (c0_16 : Nat) (c1_16 : Int32) (i_4 : Int32) (σ : ZT) : Option ((Int32 × ZT) ⊕ ZT) :=
  (gI 9 933 c0_16 σ).bind fun v5 =>
  if i_4 < v5 then
  ((gR 9 935 c0_16 σ).bind fun v6 =>
  (ldI 0 v6 c1_16 σ).bind fun v7 =>
  bnd2 (vc 9 c0_16 σ (f_X9_moved c0_16 v7 i_4 σ)) fun v8 σ =>
  if v8 = (-1 : Int32) then
  (f_X9_comes_J93_16 c0_16 c1_16 i_4 σ)
  else
  ((gR 9 934 c0_16 σ).bind fun v9 =>
  (ldI 0 v9 v8 σ).bind fun v10 =>
  if v10 = (-1 : Int32) then
  ((gR 9 934 c0_16 σ).bind fun v11 =>
  (gR 9 934 c0_16 σ).bind fun v12 =>
  (gR 9 935 c0_16 σ).bind fun v13 =>
  (ldI 0 v13 c1_16 σ).bind fun v14 =>
  (ldI 0 v12 v14 σ).bind fun v15 =>
  (stI v11 v8 (v15 + (1 : Int32)) σ).bind fun σ =>
  (gR 9 935 c0_16 σ).bind fun v16 =>
  (gI 9 937 c0_16 σ).bind fun v17 =>
  (stI v16 v17 v8 σ).bind fun σ =>
  (gI 9 937 c0_16 σ).bind fun v18 =>
  (pI 9 937 c0_16 (v18 + (1 : Int32)) σ).bind fun σ =>
  f_X9_comes_J93_16 c0_16 c1_16 i_4 σ)
  else
  (f_X9_comes_J93_16 c0_16 c1_16 i_4 σ)))
  else
  (some (.inr σ))
noncomputable def f_X9_comes_L6 (c0_6 : Nat) (i_2 : Int32) (σ : ZT) : Option ((Int32 × ZT) ⊕ ZT) :=
  (gI 9 937 c0_6 σ).bind fun v3 =>
  if i_2 < v3 then
  ((loopC (fun s : (Int32 × ZT) => f_X9_comes_L16 c0_6 i_2 s.1 s.2) ((0 : Int32), σ)).bind fun σ =>
  some (.inl ((i_2 + (1 : Int32)), σ)))
  else
  (some (.inr σ))
noncomputable def f_X9_comes (a0 : Nat) (σ : ZT) : Option ZT :=
  (vc 9 a0 σ (f_X9_starts a0 σ)).bind fun σ =>
  (loopC (fun s : (Int32 × ZT) => f_X9_comes_L6 a0 s.1 s.2) ((0 : Int32), σ)).bind fun σ =>
  some σ
set_option maxHeartbeats 4000000 in
theorem m_X9_comes {l : Launch} {G : ZG} (a0 : Nat) (σ : ZT) {out : ZT} (hf : f_X9_comes a0 σ = some out) : ZM l G yX9_comes cX9_comes 4 none [] 8 [.ref a0] σ (.returned none) out := by
  refine ZM.of [(0, .ref a0)] rfl (Nat.le_of_ble_eq_true rfl) fun X (C : ZC G RX9 "comes" cX9_comes 4 none [] X 8) => ?_
  unfold f_X9_comes at hf
  refine z_aload_n (q := 1) (i := 0) C 0 dX9_comes_0 rfl rfl rfl ?_
  refine z_callVv (q := 4) (As := []) C (fun o ho => m_X9_starts _ _ ho) zk9 vvX9_376 cdX9_starts pnX9 dX9_comes_1 rfl (by decide) (Nat.le_of_ble_eq_true rfl) hf rfl fun σ hf => ?_
  refine z_iconst (q := 5) C (0 : Int32) dX9_comes_4 ki_0 rfl ?_
  refine z_istore_n (q := 6) (i := 1) (lv' := [(1, .int (0 : Int32)), (0, .ref a0)]) C dX9_comes_5 rfl (by decide) rfl rfl ?_
  refine z_lv [1, 0] rfl ?_
  obtain ⟨r1, hr1, hk1⟩ := Option.bind_eq_some_iff.mp hf
  refine loopC_ind (P := fun s => ZW l G 4 X (ZQ G X (.returned none) out) s.2 6 [(0, .ref a0), (1, .int s.1)] []) (fun s x1 hf hx1 => ?_) hr1
  obtain ⟨i_2, σ⟩ := s
  unfold f_X9_comes_L6 at hf
  try dsimp only at hf
  try dsimp only
  refine z_iload_n (q := 7) (i := 1) C 1 dX9_comes_6 rfl rfl rfl ?_
  refine z_aload_n (q := 8) (i := 0) C 0 dX9_comes_7 rfl rfl rfl ?_
  refine z_getI (q := 11) C flX9_373 dX9_comes_8 hf rfl fun v3 hf => ?_
  refine z_icmpge (q := 14) (tgt := 105) C dX9_comes_11 (by decide) rfl hf (fun c11 hf => ?_) (fun c11 hf => ?_)
  · have e1 := zl_x hf hx1
    have hf := hk1
    rw [← e1] at hf
    try dsimp only at hf
    exact z_return C rfl dX9_comes_105 (Option.some.inj hf)
  · refine z_iconst (q := 15) C (0 : Int32) dX9_comes_14 ki_0 rfl ?_
    refine z_istore_n (q := 16) (i := 2) (lv' := [(2, .int (0 : Int32)), (0, .ref a0), (1, .int i_2)]) C dX9_comes_15 rfl (by decide) rfl rfl ?_
    refine z_lv [1, 2, 0] rfl ?_
    obtain ⟨r2, hr2, hk2⟩ := Option.bind_eq_some_iff.mp hf
    refine loopC_ind (P := fun s => ZW l G 4 X (ZQ G X (.returned none) out) s.2 16 [(0, .ref a0), (1, .int i_2), (2, .int s.1)] []) (fun s x2 hf hx2 => ?_) hr2
    obtain ⟨i_4, σ⟩ := s
    unfold f_X9_comes_L16 at hf
    try dsimp only at hf
    try dsimp only
    have j93_2 : ∀ (i2_93 : Int32) (σ : ZT), f_X9_comes_J93_16 a0 i_2 i2_93 σ = some x2 → ZW l G 4 X (ZQ G X (.returned none) out) σ 93 [(0, .ref a0), (1, .int i_2), (2, .int i2_93)] [] := by
      intro i2_93 σ hf
      unfold f_X9_comes_J93_16 at hf
      refine z_iinc (q := 96) (i := 2) (lv' := [(2, .int (i2_93 + (1 : Int32))), (0, .ref a0), (1, .int i_2)]) C 2 (i2_93 + (1 : Int32)) dX9_comes_93 rfl (kn_1 _) (by decide) rfl rfl ?_
      refine z_goto (q := 16) C dX9_comes_96 (by decide) ?_
      refine z_lv [1, 2, 0] rfl ?_
      have hc2 := zl_c hf hx2
      exact hc2
    refine z_iload_n (q := 17) (i := 2) C 2 dX9_comes_16 rfl rfl rfl ?_
    refine z_aload_n (q := 18) (i := 0) C 0 dX9_comes_17 rfl rfl rfl ?_
    refine z_getI (q := 21) C flX9_354 dX9_comes_18 hf rfl fun v5 hf => ?_
    refine z_icmpge (q := 24) (tgt := 99) C dX9_comes_21 (by decide) rfl hf (fun c21 hf => ?_) (fun c21 hf => ?_)
    · have e2 := zl_x hf hx2
      have hf := hk2
      rw [← e2] at hf
      try dsimp only at hf
      refine z_iinc (q := 102) (i := 1) (lv' := [(1, .int (i_2 + (1 : Int32))), (0, .ref a0), (2, .int i_4)]) C 1 (i_2 + (1 : Int32)) dX9_comes_99 rfl (kn_1 _) (by decide) rfl rfl ?_
      refine z_goto (q := 6) C dX9_comes_102 (by decide) ?_
      refine z_lv [1, 0] rfl ?_
      have hc1 := zl_c hf hx1
      exact hc1
    · refine z_aload_n (q := 25) (i := 0) C 0 dX9_comes_24 rfl rfl rfl ?_
      refine z_aload_n (q := 26) (i := 0) C 0 dX9_comes_25 rfl rfl rfl ?_
      refine z_getR (q := 29) C flX9_72 dX9_comes_26 hf rfl fun v6 hf => ?_
      refine z_iload_n (q := 30) (i := 1) C 1 dX9_comes_29 rfl rfl rfl ?_
      refine z_iald (q := 31) C dX9_comes_30 hf rfl fun v7 hf => ?_
      refine z_iload_n (q := 32) (i := 2) C 2 dX9_comes_31 rfl rfl rfl ?_
      refine z_callVi (q := 35) (As := [.int v7, .int i_4]) C (fun o ho => m_X9_moved _ _ _ _ ho) zk9 vvX9_379 cdX9_moved pnX9 dX9_comes_32 rfl (by decide) (Nat.le_of_ble_eq_true rfl) hf rfl fun v8 σ hf => ?_
      refine z_istore_n (q := 36) (i := 3) (lv' := [(3, .int v8), (0, .ref a0), (1, .int i_2), (2, .int i_4)]) C dX9_comes_35 rfl (by decide) rfl rfl ?_
      refine z_iload_n (q := 37) (i := 3) C 0 dX9_comes_36 rfl rfl rfl ?_
      refine z_iconst (q := 38) C (-1 : Int32) dX9_comes_37 ki_m1 rfl ?_
      refine z_icmpeq (q := 41) (tgt := 93) C dX9_comes_38 (by decide) rfl hf (fun c38 hf => ?_) (fun c38 hf => ?_)
      · refine z_lv [1, 2, 3] rfl ?_
        exact j93_2 i_4 σ hf
      · refine z_aload_n (q := 42) (i := 0) C 1 dX9_comes_41 rfl rfl rfl ?_
        refine z_getR (q := 45) C flX9_69 dX9_comes_42 hf rfl fun v9 hf => ?_
        refine z_iload_n (q := 46) (i := 3) C 0 dX9_comes_45 rfl rfl rfl ?_
        refine z_iald (q := 47) C dX9_comes_46 hf rfl fun v10 hf => ?_
        refine z_iconst (q := 48) C (-1 : Int32) dX9_comes_47 ki_m1 rfl ?_
        refine z_icmpeq (q := 51) (tgt := 54) C dX9_comes_48 (by decide) rfl hf (fun c48 hf => ?_) (fun c48 hf => ?_)
        · refine z_aload_n (q := 55) (i := 0) C 1 dX9_comes_54 rfl rfl rfl ?_
          refine z_getR (q := 58) C flX9_69 dX9_comes_55 hf rfl fun v11 hf => ?_
          refine z_iload_n (q := 59) (i := 3) C 0 dX9_comes_58 rfl rfl rfl ?_
          refine z_aload_n (q := 60) (i := 0) C 1 dX9_comes_59 rfl rfl rfl ?_
          refine z_getR (q := 63) C flX9_69 dX9_comes_60 hf rfl fun v12 hf => ?_
          refine z_aload_n (q := 64) (i := 0) C 1 dX9_comes_63 rfl rfl rfl ?_
          refine z_getR (q := 67) C flX9_72 dX9_comes_64 hf rfl fun v13 hf => ?_
          refine z_iload_n (q := 68) (i := 1) C 2 dX9_comes_67 rfl rfl rfl ?_
          refine z_iald (q := 69) C dX9_comes_68 hf rfl fun v14 hf => ?_
          refine z_iald (q := 70) C dX9_comes_69 hf rfl fun v15 hf => ?_
          refine z_iconst (q := 71) C (1 : Int32) dX9_comes_70 ki_1 rfl ?_
          refine z_iadd (q := 72) C dX9_comes_71 rfl ?_
          refine z_iast (q := 73) C dX9_comes_72 hf rfl fun σ hf => ?_
          refine z_aload_n (q := 74) (i := 0) C 1 dX9_comes_73 rfl rfl rfl ?_
          refine z_getR (q := 77) C flX9_72 dX9_comes_74 hf rfl fun v16 hf => ?_
          refine z_aload_n (q := 78) (i := 0) C 1 dX9_comes_77 rfl rfl rfl ?_
          refine z_getI (q := 81) C flX9_373 dX9_comes_78 hf rfl fun v17 hf => ?_
          refine z_iload_n (q := 82) (i := 3) C 0 dX9_comes_81 rfl rfl rfl ?_
          refine z_iast (q := 83) C dX9_comes_82 hf rfl fun σ hf => ?_
          refine z_aload_n (q := 84) (i := 0) C 1 dX9_comes_83 rfl rfl rfl ?_
          refine z_dup (q := 85) C dX9_comes_84 rfl rfl ?_
          refine z_getI (q := 88) C flX9_373 dX9_comes_85 hf rfl fun v18 hf => ?_
          refine z_iconst (q := 89) C (1 : Int32) dX9_comes_88 ki_1 rfl ?_
          refine z_iadd (q := 90) C dX9_comes_89 rfl ?_
          refine z_putI (q := 93) C puX9_373 dX9_comes_90 hf rfl fun σ hf => ?_
          refine z_lv [1, 2, 3] rfl ?_
          exact j93_2 i_4 σ hf
        · refine z_goto (q := 93) C dX9_comes_51 (by decide) ?_
          refine z_lv [1, 2, 3] rfl ?_
          exact j93_2 i_4 σ hf

noncomputable def f_X9_costOf_J53 (w0_53 : Int32) (σ : ZT) : Option (Int32 × ZT) :=
  some (w0_53, σ)
noncomputable def f_X9_costOf (a0 : Nat) (i1 : Int32) (i2 : Int32) (σ : ZT) : Option (Int32 × ZT) :=
  (gR 9 929 a0 σ).bind fun v1 =>
  (ldI 0 v1 i1 σ).bind fun v2 =>
  if (1 : Int32) < v2 then
  (some ((0 : Int32), σ))
  else
  (if i2 = (1 : Int32) then
  ((gR 9 932 a0 σ).bind fun v6 =>
  (ldI 0 v6 i1 σ).bind fun v7 =>
  bnd2 (vc 9 a0 σ (f_X9_ofBridge a0 v7 (6 : Int32) σ)) fun v8 σ =>
  (gR 9 929 a0 σ).bind fun v9 =>
  (ldI 0 v9 i1 σ).bind fun v10 =>
  f_X9_costOf_J53 (v8 * (v10 + (1 : Int32))) σ)
  else
  ((gR 9 932 a0 σ).bind fun v3 =>
  (ldI 0 v3 i1 σ).bind fun v4 =>
  bnd2 (vc 9 a0 σ (f_X9_ofBridge a0 v4 (7 : Int32) σ)) fun v5 σ =>
  f_X9_costOf_J53 v5 σ))
set_option maxHeartbeats 4000000 in
theorem m_X9_costOf {l : Launch} {G : ZG} (a0 : Nat) (i1 : Int32) (i2 : Int32) (σ : ZT) {out : (Int32 × ZT)} (hf : f_X9_costOf a0 i1 i2 σ = some out) : ZM l G yX9_costOf cX9_costOf 3 (some .int) [] 2 [.ref a0, .int i1, .int i2] σ (.returned (some (.int out.1))) out.2 := by
  refine ZM.of [(0, .ref a0), (1, .int i1), (2, .int i2)] rfl (Nat.le_of_ble_eq_true rfl) fun X (C : ZC G RX9 "costOf" cX9_costOf 3 (some .int) [] X 2) => ?_
  unfold f_X9_costOf at hf
  have j53_0 : ∀ (w0_53 : Int32) (σ : ZT), f_X9_costOf_J53 w0_53 σ = some out → ZW l G 3 X (ZQ G X (.returned (some (.int out.1))) out.2) σ 53 [] [.int w0_53] := by
    intro w0_53 σ hf
    unfold f_X9_costOf_J53 at hf
    exact z_ireturn C rfl dX9_costOf_53 (Option.some.inj hf)
  refine z_aload_n (q := 1) (i := 0) C 0 dX9_costOf_0 rfl rfl rfl ?_
  refine z_getR (q := 4) C flX9_56 dX9_costOf_1 hf rfl fun v1 hf => ?_
  refine z_iload_n (q := 5) (i := 1) C 1 dX9_costOf_4 rfl rfl rfl ?_
  refine z_iald (q := 6) C dX9_costOf_5 hf rfl fun v2 hf => ?_
  refine z_iconst (q := 7) C (1 : Int32) dX9_costOf_6 ki_1 rfl ?_
  refine z_icmple (q := 10) (tgt := 12) C dX9_costOf_7 (by decide) rfl hf (fun c7 hf => ?_) (fun c7 hf => ?_)
  · refine z_iload_n (q := 13) (i := 2) C 2 dX9_costOf_12 rfl rfl rfl ?_
    refine z_iconst (q := 14) C (1 : Int32) dX9_costOf_13 ki_1 rfl ?_
    refine z_icmpne (q := 17) (tgt := 41) C dX9_costOf_14 (by decide) rfl hf (fun c14 hf => ?_) (fun c14 hf => ?_)
    · refine z_aload_n (q := 42) (i := 0) C 0 dX9_costOf_41 rfl rfl rfl ?_
      refine z_aload_n (q := 43) (i := 0) C 0 dX9_costOf_42 rfl rfl rfl ?_
      refine z_getR (q := 46) C flX9_65 dX9_costOf_43 hf rfl fun v3 hf => ?_
      refine z_iload_n (q := 47) (i := 1) C 1 dX9_costOf_46 rfl rfl rfl ?_
      refine z_iald (q := 48) C dX9_costOf_47 hf rfl fun v4 hf => ?_
      refine z_bipush (q := 50) C (7 : Int32) dX9_costOf_48 kb_7 rfl ?_
      refine z_callVi (q := 53) (As := [.int v4, .int (7 : Int32)]) C (fun o ho => m_X9_ofBridge _ _ _ _ ho) zk9 vvX9_282 cdX9_ofBridge pnX9 dX9_costOf_50 rfl (by decide) (Nat.le_of_ble_eq_true rfl) hf rfl fun v5 σ hf => ?_
      refine z_lv [] rfl ?_
      exact j53_0 v5 σ hf
    · refine z_aload_n (q := 18) (i := 0) C 0 dX9_costOf_17 rfl rfl rfl ?_
      refine z_aload_n (q := 19) (i := 0) C 0 dX9_costOf_18 rfl rfl rfl ?_
      refine z_getR (q := 22) C flX9_65 dX9_costOf_19 hf rfl fun v6 hf => ?_
      refine z_iload_n (q := 23) (i := 1) C 1 dX9_costOf_22 rfl rfl rfl ?_
      refine z_iald (q := 24) C dX9_costOf_23 hf rfl fun v7 hf => ?_
      refine z_bipush (q := 26) C (6 : Int32) dX9_costOf_24 kb_6 rfl ?_
      refine z_callVi (q := 29) (As := [.int v7, .int (6 : Int32)]) C (fun o ho => m_X9_ofBridge _ _ _ _ ho) zk9 vvX9_282 cdX9_ofBridge pnX9 dX9_costOf_26 rfl (by decide) (Nat.le_of_ble_eq_true rfl) hf rfl fun v8 σ hf => ?_
      refine z_aload_n (q := 30) (i := 0) C 0 dX9_costOf_29 rfl rfl rfl ?_
      refine z_getR (q := 33) C flX9_56 dX9_costOf_30 hf rfl fun v9 hf => ?_
      refine z_iload_n (q := 34) (i := 1) C 1 dX9_costOf_33 rfl rfl rfl ?_
      refine z_iald (q := 35) C dX9_costOf_34 hf rfl fun v10 hf => ?_
      refine z_iconst (q := 36) C (1 : Int32) dX9_costOf_35 ki_1 rfl ?_
      refine z_iadd (q := 37) C dX9_costOf_36 rfl ?_
      refine z_imul (q := 38) C dX9_costOf_37 rfl ?_
      refine z_goto (q := 53) C dX9_costOf_38 (by decide) ?_
      refine z_lv [] rfl ?_
      exact j53_0 (v8 * (v10 + (1 : Int32))) σ hf
  · refine z_iconst (q := 11) C (0 : Int32) dX9_costOf_10 ki_0 rfl ?_
    exact z_ireturn C rfl dX9_costOf_11 (Option.some.inj hf)

noncomputable def f_X9_lessens_J100_12 (a0_100 : Nat) (i1_100 : Int32) (i2_100 : Int32) (i3_100 : Int32) (i4_100 : Int32) (σ : ZT) : Option ((Int32 × Int32 × ZT) ⊕ (Int32 × ZT)) :=
  some (.inl (i3_100, (i4_100 + (1 : Int32)), σ))
noncomputable def f_X9_lessens_J81_12 (a0_81 : Nat) (i1_81 : Int32) (i2_81 : Int32) (i4_81 : Int32) (i5_81 : Int32) (i6_81 : Int32) (σ : ZT) : Option ((Int32 × Int32 × ZT) ⊕ (Int32 × ZT)) :=
  (gR 9 934 a0_81 σ).bind fun v14 =>
  (stI v14 i5_81 i6_81 σ).bind fun σ =>
  (gR 9 936 a0_81 σ).bind fun v15 =>
  (stZ v15 i5_81 (1 : Int32) σ).bind fun σ =>
  f_X9_lessens_J100_12 a0_81 i1_81 i2_81 (1 : Int32) i4_81 σ
noncomputable def f_X9_lessens_L12 (c0_12 : Nat) (c1_12 : Int32) (c2_12 : Int32) (i_2 : Int32) (i_3 : Int32) (σ : ZT) : Option ((Int32 × Int32 × ZT) ⊕ (Int32 × ZT)) :=
  (gI 9 933 c0_12 σ).bind fun v4 =>
  if i_3 < v4 then
  (bnd2 (vc 9 c0_12 σ (f_X9_moved c0_12 c1_12 i_3 σ)) fun v6 σ =>
  if v6 = (-1 : Int32) then
  (f_X9_lessens_J100_12 c0_12 c1_12 c2_12 i_2 i_3 σ)
  else
  ((gR 9 934 c0_12 σ).bind fun v7 =>
  (ldI 0 v7 c1_12 σ).bind fun v8 =>
  bnd2 (vc 9 c0_12 σ (f_X9_costOf c0_12 i_3 c2_12 σ)) fun v9 σ =>
  (gR 9 934 c0_12 σ).bind fun v10 =>
  (ldI 0 v10 v6 σ).bind fun v11 =>
  if v11 = (-1 : Int32) then
  (f_X9_lessens_J81_12 c0_12 c1_12 c2_12 i_3 v6 (v8 + v9) σ)
  else
  ((gR 9 934 c0_12 σ).bind fun v12 =>
  (ldI 0 v12 v6 σ).bind fun v13 =>
  if (v8 + v9) < v13 then
  (f_X9_lessens_J81_12 c0_12 c1_12 c2_12 i_3 v6 (v8 + v9) σ)
  else
  (f_X9_lessens_J100_12 c0_12 c1_12 c2_12 i_2 i_3 σ))))
  else
  (some (.inr (i_2, σ)))
noncomputable def f_X9_lessens (a0 : Nat) (i1 : Int32) (i2 : Int32) (σ : ZT) : Option (Int32 × ZT) :=
  (gR 9 936 a0 σ).bind fun v1 =>
  (stZ v1 i1 (0 : Int32) σ).bind fun σ =>
  (loopC (fun s : (Int32 × Int32 × ZT) => f_X9_lessens_L12 a0 i1 i2 s.1 s.2.1 s.2.2) ((0 : Int32), (0 : Int32), σ)).bind fun x => (match x with
  | (x16, σ) => (rz x16).bind fun z17 =>
  some (z17, σ))
set_option maxHeartbeats 4000000 in
theorem m_X9_lessens {l : Launch} {G : ZG} (a0 : Nat) (i1 : Int32) (i2 : Int32) (σ : ZT) {out : (Int32 × ZT)} (hf : f_X9_lessens a0 i1 i2 σ = some out) : ZM l G yX9_lessens cX9_lessens 7 (some .boolean) [] 8 [.ref a0, .int i1, .int i2] σ (.returned (some (.int out.1))) out.2 := by
  refine ZM.of [(0, .ref a0), (1, .int i1), (2, .int i2)] rfl (Nat.le_of_ble_eq_true rfl) fun X (C : ZC G RX9 "lessens" cX9_lessens 7 (some .boolean) [] X 8) => ?_
  unfold f_X9_lessens at hf
  refine z_iconst (q := 1) C (0 : Int32) dX9_lessens_0 ki_0 rfl ?_
  refine z_istore_n (q := 2) (i := 3) (lv' := [(3, .int (0 : Int32)), (0, .ref a0), (1, .int i1), (2, .int i2)]) C dX9_lessens_1 rfl (by decide) rfl rfl ?_
  refine z_aload_n (q := 3) (i := 0) C 1 dX9_lessens_2 rfl rfl rfl ?_
  refine z_getR (q := 6) C flX9_75 dX9_lessens_3 hf rfl fun v1 hf => ?_
  refine z_iload_n (q := 7) (i := 1) C 2 dX9_lessens_6 rfl rfl rfl ?_
  refine z_iconst (q := 8) C (0 : Int32) dX9_lessens_7 ki_0 rfl ?_
  refine z_zast (q := 9) C dX9_lessens_8 hf rfl fun σ hf => ?_
  refine z_iconst (q := 10) C (0 : Int32) dX9_lessens_9 ki_0 rfl ?_
  refine z_istore (q := 12) (i := 4) (lv' := [(4, .int (0 : Int32)), (3, .int (0 : Int32)), (0, .ref a0), (1, .int i1), (2, .int i2)]) C dX9_lessens_10 (by decide) rfl rfl ?_
  refine z_lv [2, 3, 4, 1, 0] rfl ?_
  obtain ⟨r1, hr1, hk1⟩ := Option.bind_eq_some_iff.mp hf
  refine loopC_ind (P := fun s => ZW l G 7 X (ZQ G X (.returned (some (.int out.1))) out.2) s.2.2 12 [(0, .ref a0), (1, .int i1), (2, .int i2), (3, .int s.1), (4, .int s.2.1)] []) (fun s x1 hf hx1 => ?_) hr1
  obtain ⟨i_2, i_3, σ⟩ := s
  unfold f_X9_lessens_L12 at hf
  try dsimp only at hf
  try dsimp only
  have j100_1 : ∀ (i3_100 : Int32) (i4_100 : Int32) (σ : ZT), f_X9_lessens_J100_12 a0 i1 i2 i3_100 i4_100 σ = some x1 → ZW l G 7 X (ZQ G X (.returned (some (.int out.1))) out.2) σ 100 [(0, .ref a0), (1, .int i1), (2, .int i2), (3, .int i3_100), (4, .int i4_100)] [] := by
    intro i3_100 i4_100 σ hf
    unfold f_X9_lessens_J100_12 at hf
    refine z_iinc (q := 103) (i := 4) (lv' := [(4, .int (i4_100 + (1 : Int32))), (0, .ref a0), (1, .int i1), (2, .int i2), (3, .int i3_100)]) C 4 (i4_100 + (1 : Int32)) dX9_lessens_100 rfl (kn_1 _) (by decide) rfl rfl ?_
    refine z_goto (q := 12) C dX9_lessens_103 (by decide) ?_
    refine z_lv [1, 2, 3, 4, 0] rfl ?_
    have hc1 := zl_c hf hx1
    exact hc1
  have j81_1 : ∀ (i4_81 : Int32) (i5_81 : Int32) (i6_81 : Int32) (σ : ZT), f_X9_lessens_J81_12 a0 i1 i2 i4_81 i5_81 i6_81 σ = some x1 → ZW l G 7 X (ZQ G X (.returned (some (.int out.1))) out.2) σ 81 [(0, .ref a0), (1, .int i1), (2, .int i2), (4, .int i4_81), (5, .int i5_81), (6, .int i6_81)] [] := by
    intro i4_81 i5_81 i6_81 σ hf
    unfold f_X9_lessens_J81_12 at hf
    refine z_aload_n (q := 82) (i := 0) C 0 dX9_lessens_81 rfl rfl rfl ?_
    refine z_getR (q := 85) C flX9_69 dX9_lessens_82 hf rfl fun v14 hf => ?_
    refine z_iload (q := 87) (i := 5) C 4 dX9_lessens_85 rfl rfl ?_
    refine z_iload (q := 89) (i := 6) C 5 dX9_lessens_87 rfl rfl ?_
    refine z_iast (q := 90) C dX9_lessens_89 hf rfl fun σ hf => ?_
    refine z_aload_n (q := 91) (i := 0) C 0 dX9_lessens_90 rfl rfl rfl ?_
    refine z_getR (q := 94) C flX9_75 dX9_lessens_91 hf rfl fun v15 hf => ?_
    refine z_iload (q := 96) (i := 5) C 4 dX9_lessens_94 rfl rfl ?_
    refine z_iconst (q := 97) C (1 : Int32) dX9_lessens_96 ki_1 rfl ?_
    refine z_zast (q := 98) C dX9_lessens_97 hf rfl fun σ hf => ?_
    refine z_iconst (q := 99) C (1 : Int32) dX9_lessens_98 ki_1 rfl ?_
    refine z_istore_n (q := 100) (i := 3) (lv' := [(3, .int (1 : Int32)), (0, .ref a0), (1, .int i1), (2, .int i2), (4, .int i4_81), (5, .int i5_81), (6, .int i6_81)]) C dX9_lessens_99 rfl (by decide) rfl rfl ?_
    refine z_lv [1, 2, 3, 0, 4] rfl ?_
    exact j100_1 (1 : Int32) i4_81 σ hf
  refine z_iload (q := 14) (i := 4) C 4 dX9_lessens_12 rfl rfl ?_
  refine z_aload_n (q := 15) (i := 0) C 0 dX9_lessens_14 rfl rfl rfl ?_
  refine z_getI (q := 18) C flX9_354 dX9_lessens_15 hf rfl fun v4 hf => ?_
  refine z_icmpge (q := 21) (tgt := 106) C dX9_lessens_18 (by decide) rfl hf (fun c18 hf => ?_) (fun c18 hf => ?_)
  · have e1 := zl_x hf hx1
    have hf := hk1
    rw [← e1] at hf
    try dsimp only at hf
    refine z_iload_n (q := 107) (i := 3) C 3 dX9_lessens_106 rfl rfl rfl ?_
    refine z_rz C hf fun hn hf => ?_
    exact z_zreturn C rfl hn dX9_lessens_107 (Option.some.inj hf)
  · refine z_aload_n (q := 22) (i := 0) C 0 dX9_lessens_21 rfl rfl rfl ?_
    refine z_iload_n (q := 23) (i := 1) C 1 dX9_lessens_22 rfl rfl rfl ?_
    refine z_iload (q := 25) (i := 4) C 4 dX9_lessens_23 rfl rfl ?_
    refine z_callVi (q := 28) (As := [.int i1, .int i_3]) C (fun o ho => m_X9_moved _ _ _ _ ho) zk9 vvX9_379 cdX9_moved pnX9 dX9_lessens_25 rfl (by decide) (Nat.le_of_ble_eq_true rfl) hf rfl fun v6 σ hf => ?_
    refine z_istore (q := 30) (i := 5) (lv' := [(5, .int v6), (0, .ref a0), (1, .int i1), (2, .int i2), (3, .int i_2), (4, .int i_3)]) C dX9_lessens_28 (by decide) rfl rfl ?_
    refine z_iload (q := 32) (i := 5) C 0 dX9_lessens_30 rfl rfl ?_
    refine z_iconst (q := 33) C (-1 : Int32) dX9_lessens_32 ki_m1 rfl ?_
    refine z_icmpne (q := 36) (tgt := 39) C dX9_lessens_33 (by decide) rfl hf (fun c33 hf => ?_) (fun c33 hf => ?_)
    · refine z_aload_n (q := 40) (i := 0) C 1 dX9_lessens_39 rfl rfl rfl ?_
      refine z_getR (q := 43) C flX9_69 dX9_lessens_40 hf rfl fun v7 hf => ?_
      refine z_iload_n (q := 44) (i := 1) C 2 dX9_lessens_43 rfl rfl rfl ?_
      refine z_iald (q := 45) C dX9_lessens_44 hf rfl fun v8 hf => ?_
      refine z_aload_n (q := 46) (i := 0) C 1 dX9_lessens_45 rfl rfl rfl ?_
      refine z_iload (q := 48) (i := 4) C 5 dX9_lessens_46 rfl rfl ?_
      refine z_iload_n (q := 49) (i := 2) C 3 dX9_lessens_48 rfl rfl rfl ?_
      refine z_callVi (q := 52) (As := [.int i_3, .int i2]) C (fun o ho => m_X9_costOf _ _ _ _ ho) zk9 vvX9_391 cdX9_costOf pnX9 dX9_lessens_49 rfl (by decide) (Nat.le_of_ble_eq_true rfl) hf rfl fun v9 σ hf => ?_
      refine z_iadd (q := 53) C dX9_lessens_52 rfl ?_
      refine z_istore (q := 55) (i := 6) (lv' := [(6, .int (v8 + v9)), (5, .int v6), (0, .ref a0), (1, .int i1), (2, .int i2), (3, .int i_2), (4, .int i_3)]) C dX9_lessens_53 (by decide) rfl rfl ?_
      refine z_aload_n (q := 56) (i := 0) C 2 dX9_lessens_55 rfl rfl rfl ?_
      refine z_getR (q := 59) C flX9_69 dX9_lessens_56 hf rfl fun v10 hf => ?_
      refine z_iload (q := 61) (i := 5) C 1 dX9_lessens_59 rfl rfl ?_
      refine z_iald (q := 62) C dX9_lessens_61 hf rfl fun v11 hf => ?_
      refine z_iconst (q := 63) C (-1 : Int32) dX9_lessens_62 ki_m1 rfl ?_
      refine z_icmpeq (q := 66) (tgt := 81) C dX9_lessens_63 (by decide) rfl hf (fun c63 hf => ?_) (fun c63 hf => ?_)
      · refine z_lv [2, 3, 4, 6, 1, 0] rfl ?_
        exact j81_1 i_3 v6 (v8 + v9) σ hf
      · refine z_aload_n (q := 67) (i := 0) C 2 dX9_lessens_66 rfl rfl rfl ?_
        refine z_getR (q := 70) C flX9_69 dX9_lessens_67 hf rfl fun v12 hf => ?_
        refine z_iload (q := 72) (i := 5) C 1 dX9_lessens_70 rfl rfl ?_
        refine z_iald (q := 73) C dX9_lessens_72 hf rfl fun v13 hf => ?_
        refine z_iload (q := 75) (i := 6) C 0 dX9_lessens_73 rfl rfl ?_
        refine z_icmpgt (q := 78) (tgt := 81) C dX9_lessens_75 (by decide) rfl hf (fun c75 hf => ?_) (fun c75 hf => ?_)
        · refine z_lv [2, 3, 4, 6, 1, 0] rfl ?_
          exact j81_1 i_3 v6 (v8 + v9) σ hf
        · refine z_goto (q := 100) C dX9_lessens_78 (by decide) ?_
          refine z_lv [2, 3, 4, 5, 6] rfl ?_
          exact j100_1 i_2 i_3 σ hf
    · refine z_goto (q := 100) C dX9_lessens_36 (by decide) ?_
      refine z_lv [1, 2, 3, 4, 5] rfl ?_
      exact j100_1 i_2 i_3 σ hf

noncomputable def f_X9_isDoneAt (a0 : Nat) (i1 : Int32) (σ : ZT) : Option (Int32 × ZT) :=
  (vc 9 a0 σ (f_X9_opens a0 i1 σ)).bind fun σ =>
  bnd2 (vc 9 a0 σ (f_X9_isDone a0 σ)) fun v2 σ =>
  (rz v2).bind fun z3 =>
  some (z3, σ)
set_option maxHeartbeats 4000000 in
theorem m_X9_isDoneAt {l : Launch} {G : ZG} (a0 : Nat) (i1 : Int32) (σ : ZT) {out : (Int32 × ZT)} (hf : f_X9_isDoneAt a0 i1 σ = some out) : ZM l G yX9_isDoneAt cX9_isDoneAt 2 (some .boolean) [] 3 [.ref a0, .int i1] σ (.returned (some (.int out.1))) out.2 := by
  refine ZM.of [(0, .ref a0), (1, .int i1)] rfl (Nat.le_of_ble_eq_true rfl) fun X (C : ZC G RX9 "isDoneAt" cX9_isDoneAt 2 (some .boolean) [] X 3) => ?_
  unfold f_X9_isDoneAt at hf
  refine z_aload_n (q := 1) (i := 0) C 0 dX9_isDoneAt_0 rfl rfl rfl ?_
  refine z_iload_n (q := 2) (i := 1) C 1 dX9_isDoneAt_1 rfl rfl rfl ?_
  refine z_callVv (q := 5) (As := [.int i1]) C (fun o ho => m_X9_opens _ _ _ ho) zk9 vvX9_361 cdX9_opens pnX9 dX9_isDoneAt_2 rfl (by decide) (Nat.le_of_ble_eq_true rfl) hf rfl fun σ hf => ?_
  refine z_aload_n (q := 6) (i := 0) C 0 dX9_isDoneAt_5 rfl rfl rfl ?_
  refine z_callVi (q := 9) (As := []) C (fun o ho => m_X9_isDone _ _ ho) zk9 vvX9_288 cdX9_isDone pnX9 dX9_isDoneAt_6 rfl (by decide) (Nat.le_of_ble_eq_true rfl) hf rfl fun v2 σ hf => ?_
  refine z_rz C hf fun hn hf => ?_
  exact z_zreturn C rfl hn dX9_isDoneAt_9 (Option.some.inj hf)

noncomputable def f_X9_leastBy_J203_130 (a0_203 : Nat) (i3_203 : Int32) (i4_203 : Int32) (σ : ZT) : Option ((Int32 × Int32 × ZT) ⊕ (Int32 × ZT)) :=
  some (.inl (i3_203, (i4_203 + (1 : Int32)), σ))
noncomputable def f_X9_leastBy_J176_130 (a0_176 : Nat) (i3_176 : Int32) (i4_176 : Int32) (σ : ZT) : Option ((Int32 × Int32 × ZT) ⊕ (Int32 × ZT)) :=
  (gR 9 935 a0_176 σ).bind fun v16 =>
  (ldI 0 v16 i4_176 σ).bind fun v17 =>
  bnd2 (vc 9 a0_176 σ (f_X9_isDoneAt a0_176 v17 σ)) fun v18 σ =>
  if v18 = 0 then
  (f_X9_leastBy_J203_130 a0_176 i3_176 i4_176 σ)
  else
  ((gR 9 934 a0_176 σ).bind fun v19 =>
  (gR 9 935 a0_176 σ).bind fun v20 =>
  (ldI 0 v20 i4_176 σ).bind fun v21 =>
  (ldI 0 v19 v21 σ).bind fun v22 =>
  f_X9_leastBy_J203_130 a0_176 v22 i4_176 σ)
noncomputable def f_X9_leastBy_L130 (c0_130 : Nat) (i_5 : Int32) (i_6 : Int32) (σ : ZT) : Option ((Int32 × Int32 × ZT) ⊕ (Int32 × ZT)) :=
  (gI 9 937 c0_130 σ).bind fun v7 =>
  if i_6 < v7 then
  ((gR 9 934 c0_130 σ).bind fun v8 =>
  (gR 9 935 c0_130 σ).bind fun v9 =>
  (ldI 0 v9 i_6 σ).bind fun v10 =>
  (ldI 0 v8 v10 σ).bind fun v11 =>
  if v11 = (-1 : Int32) then
  (f_X9_leastBy_J203_130 c0_130 i_5 i_6 σ)
  else
  (if i_5 = (-1 : Int32) then
  (f_X9_leastBy_J176_130 c0_130 i_5 i_6 σ)
  else
  ((gR 9 934 c0_130 σ).bind fun v12 =>
  (gR 9 935 c0_130 σ).bind fun v13 =>
  (ldI 0 v13 i_6 σ).bind fun v14 =>
  (ldI 0 v12 v14 σ).bind fun v15 =>
  if v15 < i_5 then
  (f_X9_leastBy_J176_130 c0_130 i_5 i_6 σ)
  else
  (f_X9_leastBy_J203_130 c0_130 i_5 i_6 σ))))
  else
  (some (.inr (i_5, σ)))
noncomputable def f_X9_leastBy_J116_70 (a0_116 : Nat) (i1_116 : Int32) (i2_116 : Int32) (i3_116 : Int32) (σ : ZT) : Option ((Int32 × Int32 × ZT) ⊕ (Int32 × ZT)) :=
  some (.inl (i2_116, (i3_116 + (1 : Int32)), σ))
noncomputable def f_X9_leastBy_J115_70 (a0_115 : Nat) (i1_115 : Int32) (i3_115 : Int32) (w0_115 : Int32) (σ : ZT) : Option ((Int32 × Int32 × ZT) ⊕ (Int32 × ZT)) :=
  f_X9_leastBy_J116_70 a0_115 i1_115 w0_115 i3_115 σ
noncomputable def f_X9_leastBy_J110_70 (a0_110 : Nat) (i1_110 : Int32) (i3_110 : Int32) (σ : ZT) : Option ((Int32 × Int32 × ZT) ⊕ (Int32 × ZT)) :=
  f_X9_leastBy_J115_70 a0_110 i1_110 i3_110 (1 : Int32) σ
noncomputable def f_X9_leastBy_L70 (c0_70 : Nat) (c1_70 : Int32) (i_24 : Int32) (i_25 : Int32) (σ : ZT) : Option ((Int32 × Int32 × ZT) ⊕ (Int32 × ZT)) :=
  (gI 9 937 c0_70 σ).bind fun v26 =>
  if i_25 < v26 then
  ((gR 9 936 c0_70 σ).bind fun v27 =>
  (gR 9 935 c0_70 σ).bind fun v28 =>
  (ldI 0 v28 i_25 σ).bind fun v29 =>
  (ldI 4 v27 v29 σ).bind fun v30 =>
  if v30 = 0 then
  (f_X9_leastBy_J116_70 c0_70 c1_70 i_24 i_25 σ)
  else
  ((gR 9 935 c0_70 σ).bind fun v31 =>
  (ldI 0 v31 i_25 σ).bind fun v32 =>
  bnd2 (vc 9 c0_70 σ (f_X9_lessens c0_70 v32 c1_70 σ)) fun v33 σ =>
  if v33 = 0 then
  (if i_24 = 0 then
  (f_X9_leastBy_J115_70 c0_70 c1_70 i_25 (0 : Int32) σ)
  else
  (f_X9_leastBy_J110_70 c0_70 c1_70 i_25 σ))
  else
  (f_X9_leastBy_J110_70 c0_70 c1_70 i_25 σ)))
  else
  (some (.inr (i_24, σ)))
noncomputable def f_X9_leastBy_L62 (c0_62 : Nat) (c1_62 : Int32) (i_4 : Int32) (σ : ZT) : Option ((Int32 × ZT) ⊕ ZT) :=
  if i_4 = 0 then
  (some (.inr σ))
  else
  ((loopC (fun s : (Int32 × Int32 × ZT) => f_X9_leastBy_L70 c0_62 c1_62 s.1 s.2.1 s.2.2) ((0 : Int32), (0 : Int32), σ)).bind fun x => (match x with
  | (x34, σ) => some (.inl (x34, σ))))
noncomputable def f_X9_leastBy_J53_6 (a0_53 : Nat) (i1_53 : Int32) (i2_53 : Int32) (w0_53 : Int32) (w1_53 : Int32) (w2_53 : Nat) (σ : ZT) : Option ((Int32 × ZT) ⊕ ZT) :=
  (stZ w2_53 w1_53 w0_53 σ).bind fun σ =>
  some (.inl ((i2_53 + (1 : Int32)), σ))
noncomputable def f_X9_leastBy_J33_6 (a0_33 : Nat) (i1_33 : Int32) (i2_33 : Int32) (w0_33 : Int32) (w1_33 : Int32) (w2_33 : Nat) (σ : ZT) : Option ((Int32 × ZT) ⊕ ZT) :=
  (stI w2_33 w1_33 w0_33 σ).bind fun σ =>
  (gR 9 936 a0_33 σ).bind fun v57 =>
  (gR 9 935 a0_33 σ).bind fun v58 =>
  (ldI 0 v58 i2_33 σ).bind fun v59 =>
  if i2_33 = 0 then
  (f_X9_leastBy_J53_6 a0_33 i1_33 i2_33 (1 : Int32) v59 v57 σ)
  else
  (f_X9_leastBy_J53_6 a0_33 i1_33 i2_33 (0 : Int32) v59 v57 σ)
noncomputable def f_X9_leastBy_L6 (c0_6 : Nat) (c1_6 : Int32) (i_2 : Int32) (σ : ZT) : Option ((Int32 × ZT) ⊕ ZT) :=
  (gI 9 937 c0_6 σ).bind fun v3 =>
  if i_2 < v3 then
  ((gR 9 934 c0_6 σ).bind fun v54 =>
  (gR 9 935 c0_6 σ).bind fun v55 =>
  (ldI 0 v55 i_2 σ).bind fun v56 =>
  if i_2 = 0 then
  (f_X9_leastBy_J33_6 c0_6 c1_6 i_2 (0 : Int32) v56 v54 σ)
  else
  (f_X9_leastBy_J33_6 c0_6 c1_6 i_2 (-1 : Int32) v56 v54 σ))
  else
  (some (.inr σ))
noncomputable def f_X9_leastBy (a0 : Nat) (i1 : Int32) (σ : ZT) : Option (Int32 × ZT) :=
  (vc 9 a0 σ (f_X9_comes a0 σ)).bind fun σ =>
  (loopC (fun s : (Int32 × ZT) => f_X9_leastBy_L6 a0 i1 s.1 s.2) ((0 : Int32), σ)).bind fun σ =>
  (loopC (fun s : (Int32 × ZT) => f_X9_leastBy_L62 a0 i1 s.1 s.2) ((1 : Int32), σ)).bind fun σ =>
  (loopC (fun s : (Int32 × Int32 × ZT) => f_X9_leastBy_L130 a0 s.1 s.2.1 s.2.2) ((-1 : Int32), (0 : Int32), σ)).bind fun x => (match x with
  | (x109, σ) => some (x109, σ))
set_option maxHeartbeats 4000000 in
theorem m_X9_leastBy {l : Launch} {G : ZG} (a0 : Nat) (i1 : Int32) (σ : ZT) {out : (Int32 × ZT)} (hf : f_X9_leastBy a0 i1 σ = some out) : ZM l G yX9_leastBy cX9_leastBy 5 (some .int) [] 9 [.ref a0, .int i1] σ (.returned (some (.int out.1))) out.2 := by
  refine ZM.of [(0, .ref a0), (1, .int i1)] rfl (Nat.le_of_ble_eq_true rfl) fun X (C : ZC G RX9 "leastBy" cX9_leastBy 5 (some .int) [] X 9) => ?_
  unfold f_X9_leastBy at hf
  refine z_aload_n (q := 1) (i := 0) C 0 dX9_leastBy_0 rfl rfl rfl ?_
  refine z_callVv (q := 4) (As := []) C (fun o ho => m_X9_comes _ _ ho) zk9 vvX9_385 cdX9_comes pnX9 dX9_leastBy_1 rfl (by decide) (Nat.le_of_ble_eq_true rfl) hf rfl fun σ hf => ?_
  refine z_iconst (q := 5) C (0 : Int32) dX9_leastBy_4 ki_0 rfl ?_
  refine z_istore_n (q := 6) (i := 2) (lv' := [(2, .int (0 : Int32)), (0, .ref a0), (1, .int i1)]) C dX9_leastBy_5 rfl (by decide) rfl rfl ?_
  refine z_lv [1, 2, 0] rfl ?_
  obtain ⟨r1, hr1, hk1⟩ := Option.bind_eq_some_iff.mp hf
  refine loopC_ind (P := fun s => ZW l G 5 X (ZQ G X (.returned (some (.int out.1))) out.2) s.2 6 [(0, .ref a0), (1, .int i1), (2, .int s.1)] []) (fun s x1 hf hx1 => ?_) hr1
  obtain ⟨i_2, σ⟩ := s
  unfold f_X9_leastBy_L6 at hf
  try dsimp only at hf
  try dsimp only
  have j53_1 : ∀ (i2_53 : Int32) (w0_53 : Int32) (w1_53 : Int32) (w2_53 : Nat) (σ : ZT), f_X9_leastBy_J53_6 a0 i1 i2_53 w0_53 w1_53 w2_53 σ = some x1 → ZW l G 5 X (ZQ G X (.returned (some (.int out.1))) out.2) σ 53 [(0, .ref a0), (1, .int i1), (2, .int i2_53)] [.int w0_53, .int w1_53, .ref w2_53] := by
    intro i2_53 w0_53 w1_53 w2_53 σ hf
    unfold f_X9_leastBy_J53_6 at hf
    refine z_zast (q := 54) C dX9_leastBy_53 hf rfl fun σ hf => ?_
    refine z_iinc (q := 57) (i := 2) (lv' := [(2, .int (i2_53 + (1 : Int32))), (0, .ref a0), (1, .int i1)]) C 2 (i2_53 + (1 : Int32)) dX9_leastBy_54 rfl (kn_1 _) (by decide) rfl rfl ?_
    refine z_goto (q := 6) C dX9_leastBy_57 (by decide) ?_
    refine z_lv [1, 2, 0] rfl ?_
    have hc1 := zl_c hf hx1
    exact hc1
  have j33_1 : ∀ (i2_33 : Int32) (w0_33 : Int32) (w1_33 : Int32) (w2_33 : Nat) (σ : ZT), f_X9_leastBy_J33_6 a0 i1 i2_33 w0_33 w1_33 w2_33 σ = some x1 → ZW l G 5 X (ZQ G X (.returned (some (.int out.1))) out.2) σ 33 [(0, .ref a0), (1, .int i1), (2, .int i2_33)] [.int w0_33, .int w1_33, .ref w2_33] := by
    intro i2_33 w0_33 w1_33 w2_33 σ hf
    unfold f_X9_leastBy_J33_6 at hf
    refine z_iast (q := 34) C dX9_leastBy_33 hf rfl fun σ hf => ?_
    refine z_aload_n (q := 35) (i := 0) C 0 dX9_leastBy_34 rfl rfl rfl ?_
    refine z_getR (q := 38) C flX9_75 dX9_leastBy_35 hf rfl fun v36 hf => ?_
    refine z_aload_n (q := 39) (i := 0) C 0 dX9_leastBy_38 rfl rfl rfl ?_
    refine z_getR (q := 42) C flX9_72 dX9_leastBy_39 hf rfl fun v37 hf => ?_
    refine z_iload_n (q := 43) (i := 2) C 2 dX9_leastBy_42 rfl rfl rfl ?_
    refine z_iald (q := 44) C dX9_leastBy_43 hf rfl fun v38 hf => ?_
    refine z_iload_n (q := 45) (i := 2) C 2 dX9_leastBy_44 rfl rfl rfl ?_
    refine z_ifne (q := 48) (tgt := 52) C dX9_leastBy_45 (by decide) rfl hf (fun c45 hf => ?_) (fun c45 hf => ?_)
    · refine z_iconst (q := 53) C (0 : Int32) dX9_leastBy_52 ki_0 rfl ?_
      exact j53_1 i2_33 (0 : Int32) v38 v36 σ hf
    · refine z_iconst (q := 49) C (1 : Int32) dX9_leastBy_48 ki_1 rfl ?_
      refine z_goto (q := 53) C dX9_leastBy_49 (by decide) ?_
      exact j53_1 i2_33 (1 : Int32) v38 v36 σ hf
  refine z_iload_n (q := 7) (i := 2) C 2 dX9_leastBy_6 rfl rfl rfl ?_
  refine z_aload_n (q := 8) (i := 0) C 0 dX9_leastBy_7 rfl rfl rfl ?_
  refine z_getI (q := 11) C flX9_373 dX9_leastBy_8 hf rfl fun v3 hf => ?_
  refine z_icmpge (q := 14) (tgt := 60) C dX9_leastBy_11 (by decide) rfl hf (fun c11 hf => ?_) (fun c11 hf => ?_)
  · have e1 := zl_x hf hx1
    have hf := hk1
    rw [← e1] at hf
    try dsimp only at hf
    refine z_iconst (q := 61) C (1 : Int32) dX9_leastBy_60 ki_1 rfl ?_
    refine z_istore_n (q := 62) (i := 2) (lv' := [(2, .int (1 : Int32)), (0, .ref a0), (1, .int i1)]) C dX9_leastBy_61 rfl (by decide) rfl rfl ?_
    refine z_lv [1, 2, 0] rfl ?_
    obtain ⟨r1, hr1, hk1⟩ := Option.bind_eq_some_iff.mp hf
    refine loopC_ind (P := fun s => ZW l G 5 X (ZQ G X (.returned (some (.int out.1))) out.2) s.2 62 [(0, .ref a0), (1, .int i1), (2, .int s.1)] []) (fun s x1 hf hx1 => ?_) hr1
    obtain ⟨i_4, σ⟩ := s
    unfold f_X9_leastBy_L62 at hf
    try dsimp only at hf
    try dsimp only
    refine z_iload_n (q := 63) (i := 2) C 2 dX9_leastBy_62 rfl rfl rfl ?_
    refine z_ifeq (q := 66) (tgt := 125) C dX9_leastBy_63 (by decide) rfl hf (fun c63 hf => ?_) (fun c63 hf => ?_)
    · have e1 := zl_x hf hx1
      have hf := hk1
      rw [← e1] at hf
      try dsimp only at hf
      refine z_iconst (q := 126) C (-1 : Int32) dX9_leastBy_125 ki_m1 rfl ?_
      refine z_istore_n (q := 127) (i := 3) (lv' := [(3, .int (-1 : Int32)), (0, .ref a0), (1, .int i1), (2, .int i_4)]) C dX9_leastBy_126 rfl (by decide) rfl rfl ?_
      refine z_iconst (q := 128) C (0 : Int32) dX9_leastBy_127 ki_0 rfl ?_
      refine z_istore (q := 130) (i := 4) (lv' := [(4, .int (0 : Int32)), (3, .int (-1 : Int32)), (0, .ref a0), (1, .int i1), (2, .int i_4)]) C dX9_leastBy_128 (by decide) rfl rfl ?_
      refine z_lv [2, 1, 0] rfl ?_
      obtain ⟨r1, hr1, hk1⟩ := Option.bind_eq_some_iff.mp hf
      refine loopC_ind (P := fun s => ZW l G 5 X (ZQ G X (.returned (some (.int out.1))) out.2) s.2.2 130 [(0, .ref a0), (3, .int s.1), (4, .int s.2.1)] []) (fun s x1 hf hx1 => ?_) hr1
      obtain ⟨i_5, i_6, σ⟩ := s
      unfold f_X9_leastBy_L130 at hf
      try dsimp only at hf
      try dsimp only
      have j203_1 : ∀ (i3_203 : Int32) (i4_203 : Int32) (σ : ZT), f_X9_leastBy_J203_130 a0 i3_203 i4_203 σ = some x1 → ZW l G 5 X (ZQ G X (.returned (some (.int out.1))) out.2) σ 203 [(0, .ref a0), (3, .int i3_203), (4, .int i4_203)] [] := by
        intro i3_203 i4_203 σ hf
        unfold f_X9_leastBy_J203_130 at hf
        refine z_iinc (q := 206) (i := 4) (lv' := [(4, .int (i4_203 + (1 : Int32))), (0, .ref a0), (3, .int i3_203)]) C 2 (i4_203 + (1 : Int32)) dX9_leastBy_203 rfl (kn_1 _) (by decide) rfl rfl ?_
        refine z_goto (q := 130) C dX9_leastBy_206 (by decide) ?_
        refine z_lv [1, 2, 0] rfl ?_
        have hc1 := zl_c hf hx1
        exact hc1
      have j176_1 : ∀ (i3_176 : Int32) (i4_176 : Int32) (σ : ZT), f_X9_leastBy_J176_130 a0 i3_176 i4_176 σ = some x1 → ZW l G 5 X (ZQ G X (.returned (some (.int out.1))) out.2) σ 176 [(0, .ref a0), (3, .int i3_176), (4, .int i4_176)] [] := by
        intro i3_176 i4_176 σ hf
        unfold f_X9_leastBy_J176_130 at hf
        refine z_aload_n (q := 177) (i := 0) C 0 dX9_leastBy_176 rfl rfl rfl ?_
        refine z_aload_n (q := 178) (i := 0) C 0 dX9_leastBy_177 rfl rfl rfl ?_
        refine z_getR (q := 181) C flX9_72 dX9_leastBy_178 hf rfl fun v16 hf => ?_
        refine z_iload (q := 183) (i := 4) C 2 dX9_leastBy_181 rfl rfl ?_
        refine z_iald (q := 184) C dX9_leastBy_183 hf rfl fun v17 hf => ?_
        refine z_callVi (q := 187) (As := [.int v17]) C (fun o ho => m_X9_isDoneAt _ _ _ ho) zk9 vvX9_382 cdX9_isDoneAt pnX9 dX9_leastBy_184 rfl (by decide) (Nat.le_of_ble_eq_true rfl) hf rfl fun v18 σ hf => ?_
        refine z_ifeq (q := 190) (tgt := 203) C dX9_leastBy_187 (by decide) rfl hf (fun c187 hf => ?_) (fun c187 hf => ?_)
        · exact j203_1 i3_176 i4_176 σ hf
        · refine z_aload_n (q := 191) (i := 0) C 0 dX9_leastBy_190 rfl rfl rfl ?_
          refine z_getR (q := 194) C flX9_69 dX9_leastBy_191 hf rfl fun v19 hf => ?_
          refine z_aload_n (q := 195) (i := 0) C 0 dX9_leastBy_194 rfl rfl rfl ?_
          refine z_getR (q := 198) C flX9_72 dX9_leastBy_195 hf rfl fun v20 hf => ?_
          refine z_iload (q := 200) (i := 4) C 2 dX9_leastBy_198 rfl rfl ?_
          refine z_iald (q := 201) C dX9_leastBy_200 hf rfl fun v21 hf => ?_
          refine z_iald (q := 202) C dX9_leastBy_201 hf rfl fun v22 hf => ?_
          refine z_istore_n (q := 203) (i := 3) (lv' := [(3, .int v22), (0, .ref a0), (4, .int i4_176)]) C dX9_leastBy_202 rfl (by decide) rfl rfl ?_
          refine z_lv [1, 0, 2] rfl ?_
          exact j203_1 v22 i4_176 σ hf
      refine z_iload (q := 132) (i := 4) C 2 dX9_leastBy_130 rfl rfl ?_
      refine z_aload_n (q := 133) (i := 0) C 0 dX9_leastBy_132 rfl rfl rfl ?_
      refine z_getI (q := 136) C flX9_373 dX9_leastBy_133 hf rfl fun v7 hf => ?_
      refine z_icmpge (q := 139) (tgt := 209) C dX9_leastBy_136 (by decide) rfl hf (fun c136 hf => ?_) (fun c136 hf => ?_)
      · have e1 := zl_x hf hx1
        have hf := hk1
        rw [← e1] at hf
        try dsimp only at hf
        refine z_iload_n (q := 210) (i := 3) C 1 dX9_leastBy_209 rfl rfl rfl ?_
        exact z_ireturn C rfl dX9_leastBy_210 (Option.some.inj hf)
      · refine z_aload_n (q := 140) (i := 0) C 0 dX9_leastBy_139 rfl rfl rfl ?_
        refine z_getR (q := 143) C flX9_69 dX9_leastBy_140 hf rfl fun v8 hf => ?_
        refine z_aload_n (q := 144) (i := 0) C 0 dX9_leastBy_143 rfl rfl rfl ?_
        refine z_getR (q := 147) C flX9_72 dX9_leastBy_144 hf rfl fun v9 hf => ?_
        refine z_iload (q := 149) (i := 4) C 2 dX9_leastBy_147 rfl rfl ?_
        refine z_iald (q := 150) C dX9_leastBy_149 hf rfl fun v10 hf => ?_
        refine z_iald (q := 151) C dX9_leastBy_150 hf rfl fun v11 hf => ?_
        refine z_iconst (q := 152) C (-1 : Int32) dX9_leastBy_151 ki_m1 rfl ?_
        refine z_icmpeq (q := 155) (tgt := 203) C dX9_leastBy_152 (by decide) rfl hf (fun c152 hf => ?_) (fun c152 hf => ?_)
        · exact j203_1 i_5 i_6 σ hf
        · refine z_iload_n (q := 156) (i := 3) C 1 dX9_leastBy_155 rfl rfl rfl ?_
          refine z_iconst (q := 157) C (-1 : Int32) dX9_leastBy_156 ki_m1 rfl ?_
          refine z_icmpeq (q := 160) (tgt := 176) C dX9_leastBy_157 (by decide) rfl hf (fun c157 hf => ?_) (fun c157 hf => ?_)
          · exact j176_1 i_5 i_6 σ hf
          · refine z_aload_n (q := 161) (i := 0) C 0 dX9_leastBy_160 rfl rfl rfl ?_
            refine z_getR (q := 164) C flX9_69 dX9_leastBy_161 hf rfl fun v12 hf => ?_
            refine z_aload_n (q := 165) (i := 0) C 0 dX9_leastBy_164 rfl rfl rfl ?_
            refine z_getR (q := 168) C flX9_72 dX9_leastBy_165 hf rfl fun v13 hf => ?_
            refine z_iload (q := 170) (i := 4) C 2 dX9_leastBy_168 rfl rfl ?_
            refine z_iald (q := 171) C dX9_leastBy_170 hf rfl fun v14 hf => ?_
            refine z_iald (q := 172) C dX9_leastBy_171 hf rfl fun v15 hf => ?_
            refine z_iload_n (q := 173) (i := 3) C 1 dX9_leastBy_172 rfl rfl rfl ?_
            refine z_icmpge (q := 176) (tgt := 203) C dX9_leastBy_173 (by decide) rfl hf (fun c173 hf => ?_) (fun c173 hf => ?_)
            · exact j203_1 i_5 i_6 σ hf
            · exact j176_1 i_5 i_6 σ hf
    · refine z_iconst (q := 67) C (0 : Int32) dX9_leastBy_66 ki_0 rfl ?_
      refine z_istore_n (q := 68) (i := 2) (lv' := [(2, .int (0 : Int32)), (0, .ref a0), (1, .int i1)]) C dX9_leastBy_67 rfl (by decide) rfl rfl ?_
      refine z_iconst (q := 69) C (0 : Int32) dX9_leastBy_68 ki_0 rfl ?_
      refine z_istore_n (q := 70) (i := 3) (lv' := [(3, .int (0 : Int32)), (2, .int (0 : Int32)), (0, .ref a0), (1, .int i1)]) C dX9_leastBy_69 rfl (by decide) rfl rfl ?_
      refine z_lv [2, 3, 1, 0] rfl ?_
      obtain ⟨r2, hr2, hk2⟩ := Option.bind_eq_some_iff.mp hf
      refine loopC_ind (P := fun s => ZW l G 5 X (ZQ G X (.returned (some (.int out.1))) out.2) s.2.2 70 [(0, .ref a0), (1, .int i1), (2, .int s.1), (3, .int s.2.1)] []) (fun s x2 hf hx2 => ?_) hr2
      obtain ⟨i_23, i_24, σ⟩ := s
      unfold f_X9_leastBy_L70 at hf
      try dsimp only at hf
      try dsimp only
      have j116_2 : ∀ (i2_116 : Int32) (i3_116 : Int32) (σ : ZT), f_X9_leastBy_J116_70 a0 i1 i2_116 i3_116 σ = some x2 → ZW l G 5 X (ZQ G X (.returned (some (.int out.1))) out.2) σ 116 [(0, .ref a0), (1, .int i1), (2, .int i2_116), (3, .int i3_116)] [] := by
        intro i2_116 i3_116 σ hf
        unfold f_X9_leastBy_J116_70 at hf
        refine z_iinc (q := 119) (i := 3) (lv' := [(3, .int (i3_116 + (1 : Int32))), (0, .ref a0), (1, .int i1), (2, .int i2_116)]) C 3 (i3_116 + (1 : Int32)) dX9_leastBy_116 rfl (kn_1 _) (by decide) rfl rfl ?_
        refine z_goto (q := 70) C dX9_leastBy_119 (by decide) ?_
        refine z_lv [1, 2, 3, 0] rfl ?_
        have hc2 := zl_c hf hx2
        exact hc2
      have j115_2 : ∀ (i3_115 : Int32) (w0_115 : Int32) (σ : ZT), f_X9_leastBy_J115_70 a0 i1 i3_115 w0_115 σ = some x2 → ZW l G 5 X (ZQ G X (.returned (some (.int out.1))) out.2) σ 115 [(0, .ref a0), (1, .int i1), (3, .int i3_115)] [.int w0_115] := by
        intro i3_115 w0_115 σ hf
        unfold f_X9_leastBy_J115_70 at hf
        refine z_istore_n (q := 116) (i := 2) (lv' := [(2, .int w0_115), (0, .ref a0), (1, .int i1), (3, .int i3_115)]) C dX9_leastBy_115 rfl (by decide) rfl rfl ?_
        refine z_lv [1, 2, 0, 3] rfl ?_
        exact j116_2 w0_115 i3_115 σ hf
      have j110_2 : ∀ (i3_110 : Int32) (σ : ZT), f_X9_leastBy_J110_70 a0 i1 i3_110 σ = some x2 → ZW l G 5 X (ZQ G X (.returned (some (.int out.1))) out.2) σ 110 [(0, .ref a0), (1, .int i1), (3, .int i3_110)] [] := by
        intro i3_110 σ hf
        unfold f_X9_leastBy_J110_70 at hf
        refine z_iconst (q := 111) C (1 : Int32) dX9_leastBy_110 ki_1 rfl ?_
        refine z_goto (q := 115) C dX9_leastBy_111 (by decide) ?_
        exact j115_2 i3_110 (1 : Int32) σ hf
      refine z_iload_n (q := 71) (i := 3) C 3 dX9_leastBy_70 rfl rfl rfl ?_
      refine z_aload_n (q := 72) (i := 0) C 0 dX9_leastBy_71 rfl rfl rfl ?_
      refine z_getI (q := 75) C flX9_373 dX9_leastBy_72 hf rfl fun v25 hf => ?_
      refine z_icmpge (q := 78) (tgt := 122) C dX9_leastBy_75 (by decide) rfl hf (fun c75 hf => ?_) (fun c75 hf => ?_)
      · have e2 := zl_x hf hx2
        have hf := hk2
        rw [← e2] at hf
        try dsimp only at hf
        refine z_goto (q := 62) C dX9_leastBy_122 (by decide) ?_
        refine z_lv [0, 1, 2] rfl ?_
        have hc1 := zl_c hf hx1
        exact hc1
      · refine z_aload_n (q := 79) (i := 0) C 0 dX9_leastBy_78 rfl rfl rfl ?_
        refine z_getR (q := 82) C flX9_75 dX9_leastBy_79 hf rfl fun v26 hf => ?_
        refine z_aload_n (q := 83) (i := 0) C 0 dX9_leastBy_82 rfl rfl rfl ?_
        refine z_getR (q := 86) C flX9_72 dX9_leastBy_83 hf rfl fun v27 hf => ?_
        refine z_iload_n (q := 87) (i := 3) C 3 dX9_leastBy_86 rfl rfl rfl ?_
        refine z_iald (q := 88) C dX9_leastBy_87 hf rfl fun v28 hf => ?_
        refine z_zald (q := 89) C dX9_leastBy_88 hf rfl fun v29 hf => ?_
        refine z_ifeq (q := 92) (tgt := 116) C dX9_leastBy_89 (by decide) rfl hf (fun c89 hf => ?_) (fun c89 hf => ?_)
        · exact j116_2 i_23 i_24 σ hf
        · refine z_aload_n (q := 93) (i := 0) C 0 dX9_leastBy_92 rfl rfl rfl ?_
          refine z_aload_n (q := 94) (i := 0) C 0 dX9_leastBy_93 rfl rfl rfl ?_
          refine z_getR (q := 97) C flX9_72 dX9_leastBy_94 hf rfl fun v30 hf => ?_
          refine z_iload_n (q := 98) (i := 3) C 3 dX9_leastBy_97 rfl rfl rfl ?_
          refine z_iald (q := 99) C dX9_leastBy_98 hf rfl fun v31 hf => ?_
          refine z_iload_n (q := 100) (i := 1) C 1 dX9_leastBy_99 rfl rfl rfl ?_
          refine z_callVi (q := 103) (As := [.int v31, .int i1]) C (fun o ho => m_X9_lessens _ _ _ _ ho) zk9 vvX9_388 cdX9_lessens pnX9 dX9_leastBy_100 rfl (by decide) (Nat.le_of_ble_eq_true rfl) hf rfl fun v32 σ hf => ?_
          refine z_ifne (q := 106) (tgt := 110) C dX9_leastBy_103 (by decide) rfl hf (fun c103 hf => ?_) (fun c103 hf => ?_)
          · refine z_lv [0, 1, 3] rfl ?_
            exact j110_2 i_24 σ hf
          · refine z_iload_n (q := 107) (i := 2) C 2 dX9_leastBy_106 rfl rfl rfl ?_
            refine z_ifeq (q := 110) (tgt := 114) C dX9_leastBy_107 (by decide) rfl hf (fun c107 hf => ?_) (fun c107 hf => ?_)
            · refine z_iconst (q := 115) C (0 : Int32) dX9_leastBy_114 ki_0 rfl ?_
              refine z_lv [0, 1, 3] rfl ?_
              exact j115_2 i_24 (0 : Int32) σ hf
            · refine z_lv [0, 1, 3] rfl ?_
              exact j110_2 i_24 σ hf
  · refine z_aload_n (q := 15) (i := 0) C 0 dX9_leastBy_14 rfl rfl rfl ?_
    refine z_getR (q := 18) C flX9_69 dX9_leastBy_15 hf rfl fun v33 hf => ?_
    refine z_aload_n (q := 19) (i := 0) C 0 dX9_leastBy_18 rfl rfl rfl ?_
    refine z_getR (q := 22) C flX9_72 dX9_leastBy_19 hf rfl fun v34 hf => ?_
    refine z_iload_n (q := 23) (i := 2) C 2 dX9_leastBy_22 rfl rfl rfl ?_
    refine z_iald (q := 24) C dX9_leastBy_23 hf rfl fun v35 hf => ?_
    refine z_iload_n (q := 25) (i := 2) C 2 dX9_leastBy_24 rfl rfl rfl ?_
    refine z_ifne (q := 28) (tgt := 32) C dX9_leastBy_25 (by decide) rfl hf (fun c25 hf => ?_) (fun c25 hf => ?_)
    · refine z_iconst (q := 33) C (-1 : Int32) dX9_leastBy_32 ki_m1 rfl ?_
      exact j33_1 i_2 (-1 : Int32) v35 v33 σ hf
    · refine z_iconst (q := 29) C (0 : Int32) dX9_leastBy_28 ki_0 rfl ?_
      refine z_goto (q := 33) C dX9_leastBy_29 (by decide) ?_
      exact j33_1 i_2 (0 : Int32) v35 v33 σ hf

noncomputable def f_X9_fewestMoves_L2 (c0_2 : Nat) (i_1 : Int32) (σ : ZT) : Option ((Int32 × ZT) ⊕ ((Int32 × ZT) ⊕ ZT)) :=
  (gI 9 937 c0_2 σ).bind fun v2 =>
  if i_1 < v2 then
  ((gR 9 935 c0_2 σ).bind fun v3 =>
  (ldI 0 v3 i_1 σ).bind fun v4 =>
  bnd2 (vc 9 c0_2 σ (f_X9_isDoneAt c0_2 v4 σ)) fun v5 σ =>
  if v5 = 0 then
  (some (.inl ((i_1 + (1 : Int32)), σ)))
  else
  ((gR 9 934 c0_2 σ).bind fun v6 =>
  (gR 9 935 c0_2 σ).bind fun v7 =>
  (ldI 0 v7 i_1 σ).bind fun v8 =>
  (ldI 0 v6 v8 σ).bind fun v9 =>
  some (.inr (.inl (v9, σ)))))
  else
  (some (.inr (.inr σ)))
noncomputable def f_X9_fewestMoves (a0 : Nat) (σ : ZT) : Option (Int32 × ZT) :=
  (loopC (fun s : (Int32 × ZT) => f_X9_fewestMoves_L2 a0 s.1 s.2) ((0 : Int32), σ)).bind fun x => (match x with
  | .inl o => some o
  | .inr σ => some ((-1 : Int32), σ))
set_option maxHeartbeats 4000000 in
theorem m_X9_fewestMoves {l : Launch} {G : ZG} (a0 : Nat) (σ : ZT) {out : (Int32 × ZT)} (hf : f_X9_fewestMoves a0 σ = some out) : ZM l G yX9_fewestMoves cX9_fewestMoves 2 (some .int) [] 4 [.ref a0] σ (.returned (some (.int out.1))) out.2 := by
  refine ZM.of [(0, .ref a0)] rfl (Nat.le_of_ble_eq_true rfl) fun X (C : ZC G RX9 "fewestMoves" cX9_fewestMoves 2 (some .int) [] X 4) => ?_
  unfold f_X9_fewestMoves at hf
  refine z_iconst (q := 1) C (0 : Int32) dX9_fewestMoves_0 ki_0 rfl ?_
  refine z_istore_n (q := 2) (i := 1) (lv' := [(1, .int (0 : Int32)), (0, .ref a0)]) C dX9_fewestMoves_1 rfl (by decide) rfl rfl ?_
  refine z_lv [1, 0] rfl ?_
  obtain ⟨r1, hr1, hk1⟩ := Option.bind_eq_some_iff.mp hf
  refine loopC_ind (P := fun s => ZW l G 2 X (ZQ G X (.returned (some (.int out.1))) out.2) s.2 2 [(0, .ref a0), (1, .int s.1)] []) (fun s x1 hf hx1 => ?_) hr1
  obtain ⟨i_1, σ⟩ := s
  unfold f_X9_fewestMoves_L2 at hf
  try dsimp only at hf
  try dsimp only
  refine z_iload_n (q := 3) (i := 1) C 1 dX9_fewestMoves_2 rfl rfl rfl ?_
  refine z_aload_n (q := 4) (i := 0) C 0 dX9_fewestMoves_3 rfl rfl rfl ?_
  refine z_getI (q := 7) C flX9_373 dX9_fewestMoves_4 hf rfl fun v2 hf => ?_
  refine z_icmpge (q := 10) (tgt := 41) C dX9_fewestMoves_7 (by decide) rfl hf (fun c7 hf => ?_) (fun c7 hf => ?_)
  · have e1 := zl_x hf hx1
    have hf := hk1
    rw [← e1] at hf
    try dsimp only at hf
    refine z_iconst (q := 42) C (-1 : Int32) dX9_fewestMoves_41 ki_m1 rfl ?_
    exact z_ireturn C rfl dX9_fewestMoves_42 (Option.some.inj hf)
  · refine z_aload_n (q := 11) (i := 0) C 0 dX9_fewestMoves_10 rfl rfl rfl ?_
    refine z_aload_n (q := 12) (i := 0) C 0 dX9_fewestMoves_11 rfl rfl rfl ?_
    refine z_getR (q := 15) C flX9_72 dX9_fewestMoves_12 hf rfl fun v3 hf => ?_
    refine z_iload_n (q := 16) (i := 1) C 1 dX9_fewestMoves_15 rfl rfl rfl ?_
    refine z_iald (q := 17) C dX9_fewestMoves_16 hf rfl fun v4 hf => ?_
    refine z_callVi (q := 20) (As := [.int v4]) C (fun o ho => m_X9_isDoneAt _ _ _ ho) zk9 vvX9_382 cdX9_isDoneAt pnX9 dX9_fewestMoves_17 rfl (by decide) (Nat.le_of_ble_eq_true rfl) hf rfl fun v5 σ hf => ?_
    refine z_ifeq (q := 23) (tgt := 35) C dX9_fewestMoves_20 (by decide) rfl hf (fun c20 hf => ?_) (fun c20 hf => ?_)
    · refine z_iinc (q := 38) (i := 1) (lv' := [(1, .int (i_1 + (1 : Int32))), (0, .ref a0)]) C 1 (i_1 + (1 : Int32)) dX9_fewestMoves_35 rfl (kn_1 _) (by decide) rfl rfl ?_
      refine z_goto (q := 2) C dX9_fewestMoves_38 (by decide) ?_
      refine z_lv [1, 0] rfl ?_
      have hc1 := zl_c hf hx1
      exact hc1
    · refine z_aload_n (q := 24) (i := 0) C 0 dX9_fewestMoves_23 rfl rfl rfl ?_
      refine z_getR (q := 27) C flX9_69 dX9_fewestMoves_24 hf rfl fun v6 hf => ?_
      refine z_aload_n (q := 28) (i := 0) C 0 dX9_fewestMoves_27 rfl rfl rfl ?_
      refine z_getR (q := 31) C flX9_72 dX9_fewestMoves_28 hf rfl fun v7 hf => ?_
      refine z_iload_n (q := 32) (i := 1) C 1 dX9_fewestMoves_31 rfl rfl rfl ?_
      refine z_iald (q := 33) C dX9_fewestMoves_32 hf rfl fun v8 hf => ?_
      refine z_iald (q := 34) C dX9_fewestMoves_33 hf rfl fun v9 hf => ?_
      have e1 := zl_x hf hx1
      have hf := hk1
      rw [← e1] at hf
      try dsimp only at hf
      exact z_ireturn C rfl dX9_fewestMoves_34 (Option.some.inj hf)

noncomputable def f_X9_least_J9 (a0_9 : Nat) (σ : ZT) : Option (Int32 × ZT) :=
  bnd2 (vc 9 a0_9 σ (f_X9_refuse a0_9 (1 : Int32) σ)) fun v6 σ =>
  some (v6, σ)
noncomputable def f_X9_least (a0 : Nat) (i1 : Int32) (σ : ZT) : Option (Int32 × ZT) :=
  if i1 < 0 then
  (f_X9_least_J9 a0 σ)
  else
  (if (2 : Int32) < i1 then
  (f_X9_least_J9 a0 σ)
  else
  (if 0 < i1 then
  (bnd2 (vc 9 a0 σ (f_X9_leastBy a0 i1 σ)) fun v4 σ =>
  bnd2 (vc 9 a0 σ (f_X9_orNone a0 v4 σ)) fun v5 σ =>
  some (v5, σ))
  else
  ((vc 9 a0 σ (f_X9_comes a0 σ)).bind fun σ =>
  bnd2 (vc 9 a0 σ (f_X9_fewestMoves a0 σ)) fun v2 σ =>
  bnd2 (vc 9 a0 σ (f_X9_orNone a0 v2 σ)) fun v3 σ =>
  some (v3, σ))))
set_option maxHeartbeats 4000000 in
theorem m_X9_least {l : Launch} {G : ZG} (a0 : Nat) (i1 : Int32) (σ : ZT) {out : (Int32 × ZT)} (hf : f_X9_least a0 i1 σ = some out) : ZM l G yX9_least cX9_least 2 (some .int) [] 10 [.ref a0, .int i1] σ (.returned (some (.int out.1))) out.2 := by
  refine ZM.of [(0, .ref a0), (1, .int i1)] rfl (Nat.le_of_ble_eq_true rfl) fun X (C : ZC G RX9 "least" cX9_least 2 (some .int) [] X 10) => ?_
  unfold f_X9_least at hf
  have j9_0 : ∀ (a0_9 : Nat) (σ : ZT), f_X9_least_J9 a0_9 σ = some out → ZW l G 2 X (ZQ G X (.returned (some (.int out.1))) out.2) σ 9 [(0, .ref a0_9)] [] := by
    intro a0_9 σ hf
    unfold f_X9_least_J9 at hf
    refine z_aload_n (q := 10) (i := 0) C 0 dX9_least_9 rfl rfl rfl ?_
    refine z_iconst (q := 11) C (1 : Int32) dX9_least_10 ki_1 rfl ?_
    refine z_callVi (q := 14) (As := [.int (1 : Int32)]) C (fun o ho => m_X9_refuse _ _ _ ho) zk9 vvX9_103 cdX9_refuse pnX9 dX9_least_11 rfl (by decide) (Nat.le_of_ble_eq_true rfl) hf rfl fun v6 σ hf => ?_
    exact z_ireturn C rfl dX9_least_14 (Option.some.inj hf)
  refine z_iload_n (q := 1) (i := 1) C 1 dX9_least_0 rfl rfl rfl ?_
  refine z_iflt (q := 4) (tgt := 9) C dX9_least_1 (by decide) rfl hf (fun c1 hf => ?_) (fun c1 hf => ?_)
  · refine z_lv [0] rfl ?_
    exact j9_0 a0 σ hf
  · refine z_iload_n (q := 5) (i := 1) C 1 dX9_least_4 rfl rfl rfl ?_
    refine z_iconst (q := 6) C (2 : Int32) dX9_least_5 ki_2 rfl ?_
    refine z_icmple (q := 9) (tgt := 15) C dX9_least_6 (by decide) rfl hf (fun c6 hf => ?_) (fun c6 hf => ?_)
    · refine z_iload_n (q := 16) (i := 1) C 1 dX9_least_15 rfl rfl rfl ?_
      refine z_ifle (q := 19) (tgt := 29) C dX9_least_16 (by decide) rfl hf (fun c16 hf => ?_) (fun c16 hf => ?_)
      · refine z_aload_n (q := 30) (i := 0) C 0 dX9_least_29 rfl rfl rfl ?_
        refine z_callVv (q := 33) (As := []) C (fun o ho => m_X9_comes _ _ ho) zk9 vvX9_385 cdX9_comes pnX9 dX9_least_30 rfl (by decide) (Nat.le_of_ble_eq_true rfl) hf rfl fun σ hf => ?_
        refine z_aload_n (q := 34) (i := 0) C 0 dX9_least_33 rfl rfl rfl ?_
        refine z_aload_n (q := 35) (i := 0) C 0 dX9_least_34 rfl rfl rfl ?_
        refine z_callVi (q := 38) (As := []) C (fun o ho => m_X9_fewestMoves _ _ ho) zk9 vvX9_397 cdX9_fewestMoves pnX9 dX9_least_35 rfl (by decide) (Nat.le_of_ble_eq_true rfl) hf rfl fun v2 σ hf => ?_
        refine z_callVi (q := 41) (As := [.int v2]) C (fun o ho => m_X9_orNone _ _ _ ho) zk9 vvX9_300 cdX9_orNone pnX9 dX9_least_38 rfl (by decide) (Nat.le_of_ble_eq_true rfl) hf rfl fun v3 σ hf => ?_
        exact z_ireturn C rfl dX9_least_41 (Option.some.inj hf)
      · refine z_aload_n (q := 20) (i := 0) C 0 dX9_least_19 rfl rfl rfl ?_
        refine z_aload_n (q := 21) (i := 0) C 0 dX9_least_20 rfl rfl rfl ?_
        refine z_iload_n (q := 22) (i := 1) C 1 dX9_least_21 rfl rfl rfl ?_
        refine z_callVi (q := 25) (As := [.int i1]) C (fun o ho => m_X9_leastBy _ _ _ ho) zk9 vvX9_394 cdX9_leastBy pnX9 dX9_least_22 rfl (by decide) (Nat.le_of_ble_eq_true rfl) hf rfl fun v4 σ hf => ?_
        refine z_callVi (q := 28) (As := [.int v4]) C (fun o ho => m_X9_orNone _ _ _ ho) zk9 vvX9_300 cdX9_orNone pnX9 dX9_least_25 rfl (by decide) (Nat.le_of_ble_eq_true rfl) hf rfl fun v5 σ hf => ?_
        exact z_ireturn C rfl dX9_least_28 (Option.some.inj hf)
    · refine z_lv [0] rfl ?_
      exact j9_0 a0 σ hf

noncomputable def f_X9_leavesLess_J70_9 (a0_70 : Nat) (i1_70 : Int32) (i2_70 : Int32) (i3_70 : Int32) (σ : ZT) : Option ((Int32 × Int32 × ZT) ⊕ (Int32 × ZT)) :=
  some (.inl (i2_70, (i3_70 + (1 : Int32)), σ))
noncomputable def f_X9_leavesLess_J60_9 (a0_60 : Nat) (i1_60 : Int32) (i3_60 : Int32) (i4_60 : Int32) (σ : ZT) : Option ((Int32 × Int32 × ZT) ⊕ (Int32 × ZT)) :=
  (gR 9 934 a0_60 σ).bind fun v13 =>
  (ldI 0 v13 i4_60 σ).bind fun v14 =>
  f_X9_leavesLess_J70_9 a0_60 i1_60 (v14 + (1 : Int32)) i3_60 σ
noncomputable def f_X9_leavesLess_L9 (c0_9 : Nat) (c1_9 : Int32) (i_3 : Int32) (i_4 : Int32) (σ : ZT) : Option ((Int32 × Int32 × ZT) ⊕ (Int32 × ZT)) :=
  (gI 9 933 c0_9 σ).bind fun v5 =>
  if i_4 < v5 then
  (bnd2 (vc 9 c0_9 σ (f_X9_moved c0_9 c1_9 i_4 σ)) fun v8 σ =>
  if v8 = (-1 : Int32) then
  (f_X9_leavesLess_J70_9 c0_9 c1_9 i_3 i_4 σ)
  else
  ((gR 9 934 c0_9 σ).bind fun v9 =>
  (ldI 0 v9 v8 σ).bind fun v10 =>
  if v10 = (-1 : Int32) then
  (f_X9_leavesLess_J70_9 c0_9 c1_9 i_3 i_4 σ)
  else
  (if i_3 = (-1 : Int32) then
  (f_X9_leavesLess_J60_9 c0_9 c1_9 i_4 v8 σ)
  else
  ((gR 9 934 c0_9 σ).bind fun v11 =>
  (ldI 0 v11 v8 σ).bind fun v12 =>
  if (v12 + (1 : Int32)) < i_3 then
  (f_X9_leavesLess_J60_9 c0_9 c1_9 i_4 v8 σ)
  else
  (f_X9_leavesLess_J70_9 c0_9 c1_9 i_3 i_4 σ)))))
  else
  (some (.inr (i_3, σ)))
noncomputable def f_X9_leavesLess_J91 (a0_91 : Nat) (i1_91 : Int32) (i2_91 : Int32) (w0_91 : Int32) (σ : ZT) : Option (Int32 × ZT) :=
  (gR 9 934 a0_91 σ).bind fun v18 =>
  (stI v18 i1_91 i2_91 σ).bind fun σ =>
  (rz w0_91).bind fun z19 =>
  some (z19, σ)
noncomputable def f_X9_leavesLess (a0 : Nat) (i1 : Int32) (σ : ZT) : Option (Int32 × ZT) :=
  (gR 9 934 a0 σ).bind fun v1 =>
  (ldI 0 v1 i1 σ).bind fun v2 =>
  (loopC (fun s : (Int32 × Int32 × ZT) => f_X9_leavesLess_L9 a0 i1 s.1 s.2.1 s.2.2) (v2, (0 : Int32), σ)).bind fun x => (match x with
  | (x15, σ) => (gR 9 934 a0 σ).bind fun v16 =>
  (ldI 0 v16 i1 σ).bind fun v17 =>
  if x15 = v17 then
  (f_X9_leavesLess_J91 a0 i1 x15 (0 : Int32) σ)
  else
  (f_X9_leavesLess_J91 a0 i1 x15 (1 : Int32) σ))
set_option maxHeartbeats 4000000 in
theorem m_X9_leavesLess {l : Launch} {G : ZG} (a0 : Nat) (i1 : Int32) (σ : ZT) {out : (Int32 × ZT)} (hf : f_X9_leavesLess a0 i1 σ = some out) : ZM l G yX9_leavesLess cX9_leavesLess 5 (some .boolean) [] 8 [.ref a0, .int i1] σ (.returned (some (.int out.1))) out.2 := by
  refine ZM.of [(0, .ref a0), (1, .int i1)] rfl (Nat.le_of_ble_eq_true rfl) fun X (C : ZC G RX9 "leavesLess" cX9_leavesLess 5 (some .boolean) [] X 8) => ?_
  unfold f_X9_leavesLess at hf
  have j91_0 : ∀ (a0_91 : Nat) (i1_91 : Int32) (i2_91 : Int32) (w0_91 : Int32) (σ : ZT), f_X9_leavesLess_J91 a0_91 i1_91 i2_91 w0_91 σ = some out → ZW l G 5 X (ZQ G X (.returned (some (.int out.1))) out.2) σ 91 [(0, .ref a0_91), (1, .int i1_91), (2, .int i2_91)] [.int w0_91] := by
    intro a0_91 i1_91 i2_91 w0_91 σ hf
    unfold f_X9_leavesLess_J91 at hf
    refine z_istore_n (q := 92) (i := 3) (lv' := [(3, .int w0_91), (0, .ref a0_91), (1, .int i1_91), (2, .int i2_91)]) C dX9_leavesLess_91 rfl (by decide) rfl rfl ?_
    refine z_aload_n (q := 93) (i := 0) C 1 dX9_leavesLess_92 rfl rfl rfl ?_
    refine z_getR (q := 96) C flX9_69 dX9_leavesLess_93 hf rfl fun v15 hf => ?_
    refine z_iload_n (q := 97) (i := 1) C 2 dX9_leavesLess_96 rfl rfl rfl ?_
    refine z_iload_n (q := 98) (i := 2) C 3 dX9_leavesLess_97 rfl rfl rfl ?_
    refine z_iast (q := 99) C dX9_leavesLess_98 hf rfl fun σ hf => ?_
    refine z_iload_n (q := 100) (i := 3) C 0 dX9_leavesLess_99 rfl rfl rfl ?_
    refine z_rz C hf fun hn hf => ?_
    exact z_zreturn C rfl hn dX9_leavesLess_100 (Option.some.inj hf)
  refine z_aload_n (q := 1) (i := 0) C 0 dX9_leavesLess_0 rfl rfl rfl ?_
  refine z_getR (q := 4) C flX9_69 dX9_leavesLess_1 hf rfl fun v1 hf => ?_
  refine z_iload_n (q := 5) (i := 1) C 1 dX9_leavesLess_4 rfl rfl rfl ?_
  refine z_iald (q := 6) C dX9_leavesLess_5 hf rfl fun v2 hf => ?_
  refine z_istore_n (q := 7) (i := 2) (lv' := [(2, .int v2), (0, .ref a0), (1, .int i1)]) C dX9_leavesLess_6 rfl (by decide) rfl rfl ?_
  refine z_iconst (q := 8) C (0 : Int32) dX9_leavesLess_7 ki_0 rfl ?_
  refine z_istore_n (q := 9) (i := 3) (lv' := [(3, .int (0 : Int32)), (2, .int v2), (0, .ref a0), (1, .int i1)]) C dX9_leavesLess_8 rfl (by decide) rfl rfl ?_
  refine z_lv [2, 3, 1, 0] rfl ?_
  obtain ⟨r1, hr1, hk1⟩ := Option.bind_eq_some_iff.mp hf
  refine loopC_ind (P := fun s => ZW l G 5 X (ZQ G X (.returned (some (.int out.1))) out.2) s.2.2 9 [(0, .ref a0), (1, .int i1), (2, .int s.1), (3, .int s.2.1)] []) (fun s x1 hf hx1 => ?_) hr1
  obtain ⟨i_3, i_4, σ⟩ := s
  unfold f_X9_leavesLess_L9 at hf
  try dsimp only at hf
  try dsimp only
  have j70_1 : ∀ (i2_70 : Int32) (i3_70 : Int32) (σ : ZT), f_X9_leavesLess_J70_9 a0 i1 i2_70 i3_70 σ = some x1 → ZW l G 5 X (ZQ G X (.returned (some (.int out.1))) out.2) σ 70 [(0, .ref a0), (1, .int i1), (2, .int i2_70), (3, .int i3_70)] [] := by
    intro i2_70 i3_70 σ hf
    unfold f_X9_leavesLess_J70_9 at hf
    refine z_iinc (q := 73) (i := 3) (lv' := [(3, .int (i3_70 + (1 : Int32))), (0, .ref a0), (1, .int i1), (2, .int i2_70)]) C 3 (i3_70 + (1 : Int32)) dX9_leavesLess_70 rfl (kn_1 _) (by decide) rfl rfl ?_
    refine z_goto (q := 9) C dX9_leavesLess_73 (by decide) ?_
    refine z_lv [1, 2, 3, 0] rfl ?_
    have hc1 := zl_c hf hx1
    exact hc1
  have j60_1 : ∀ (i3_60 : Int32) (i4_60 : Int32) (σ : ZT), f_X9_leavesLess_J60_9 a0 i1 i3_60 i4_60 σ = some x1 → ZW l G 5 X (ZQ G X (.returned (some (.int out.1))) out.2) σ 60 [(0, .ref a0), (1, .int i1), (3, .int i3_60), (4, .int i4_60)] [] := by
    intro i3_60 i4_60 σ hf
    unfold f_X9_leavesLess_J60_9 at hf
    refine z_aload_n (q := 61) (i := 0) C 0 dX9_leavesLess_60 rfl rfl rfl ?_
    refine z_getR (q := 64) C flX9_69 dX9_leavesLess_61 hf rfl fun v13 hf => ?_
    refine z_iload (q := 66) (i := 4) C 3 dX9_leavesLess_64 rfl rfl ?_
    refine z_iald (q := 67) C dX9_leavesLess_66 hf rfl fun v14 hf => ?_
    refine z_iconst (q := 68) C (1 : Int32) dX9_leavesLess_67 ki_1 rfl ?_
    refine z_iadd (q := 69) C dX9_leavesLess_68 rfl ?_
    refine z_istore_n (q := 70) (i := 2) (lv' := [(2, .int (v14 + (1 : Int32))), (0, .ref a0), (1, .int i1), (3, .int i3_60), (4, .int i4_60)]) C dX9_leavesLess_69 rfl (by decide) rfl rfl ?_
    refine z_lv [1, 2, 0, 3] rfl ?_
    exact j70_1 (v14 + (1 : Int32)) i3_60 σ hf
  refine z_iload_n (q := 10) (i := 3) C 3 dX9_leavesLess_9 rfl rfl rfl ?_
  refine z_aload_n (q := 11) (i := 0) C 0 dX9_leavesLess_10 rfl rfl rfl ?_
  refine z_getI (q := 14) C flX9_354 dX9_leavesLess_11 hf rfl fun v5 hf => ?_
  refine z_icmpge (q := 17) (tgt := 76) C dX9_leavesLess_14 (by decide) rfl hf (fun c14 hf => ?_) (fun c14 hf => ?_)
  · have e1 := zl_x hf hx1
    have hf := hk1
    rw [← e1] at hf
    try dsimp only at hf
    refine z_iload_n (q := 77) (i := 2) C 2 dX9_leavesLess_76 rfl rfl rfl ?_
    refine z_aload_n (q := 78) (i := 0) C 0 dX9_leavesLess_77 rfl rfl rfl ?_
    refine z_getR (q := 81) C flX9_69 dX9_leavesLess_78 hf rfl fun v6 hf => ?_
    refine z_iload_n (q := 82) (i := 1) C 1 dX9_leavesLess_81 rfl rfl rfl ?_
    refine z_iald (q := 83) C dX9_leavesLess_82 hf rfl fun v7 hf => ?_
    refine z_icmpeq (q := 86) (tgt := 90) C dX9_leavesLess_83 (by decide) rfl hf (fun c83 hf => ?_) (fun c83 hf => ?_)
    · refine z_iconst (q := 91) C (0 : Int32) dX9_leavesLess_90 ki_0 rfl ?_
      refine z_lv [0, 1, 2] rfl ?_
      exact j91_0 a0 i1 i_3 (0 : Int32) σ hf
    · refine z_iconst (q := 87) C (1 : Int32) dX9_leavesLess_86 ki_1 rfl ?_
      refine z_goto (q := 91) C dX9_leavesLess_87 (by decide) ?_
      refine z_lv [0, 1, 2] rfl ?_
      exact j91_0 a0 i1 i_3 (1 : Int32) σ hf
  · refine z_aload_n (q := 18) (i := 0) C 0 dX9_leavesLess_17 rfl rfl rfl ?_
    refine z_iload_n (q := 19) (i := 1) C 1 dX9_leavesLess_18 rfl rfl rfl ?_
    refine z_iload_n (q := 20) (i := 3) C 3 dX9_leavesLess_19 rfl rfl rfl ?_
    refine z_callVi (q := 23) (As := [.int i1, .int i_4]) C (fun o ho => m_X9_moved _ _ _ _ ho) zk9 vvX9_379 cdX9_moved pnX9 dX9_leavesLess_20 rfl (by decide) (Nat.le_of_ble_eq_true rfl) hf rfl fun v8 σ hf => ?_
    refine z_istore (q := 25) (i := 4) (lv' := [(4, .int v8), (0, .ref a0), (1, .int i1), (2, .int i_3), (3, .int i_4)]) C dX9_leavesLess_23 (by decide) rfl rfl ?_
    refine z_iload (q := 27) (i := 4) C 0 dX9_leavesLess_25 rfl rfl ?_
    refine z_iconst (q := 28) C (-1 : Int32) dX9_leavesLess_27 ki_m1 rfl ?_
    refine z_icmpeq (q := 31) (tgt := 70) C dX9_leavesLess_28 (by decide) rfl hf (fun c28 hf => ?_) (fun c28 hf => ?_)
    · refine z_lv [1, 2, 3, 4] rfl ?_
      exact j70_1 i_3 i_4 σ hf
    · refine z_aload_n (q := 32) (i := 0) C 1 dX9_leavesLess_31 rfl rfl rfl ?_
      refine z_getR (q := 35) C flX9_69 dX9_leavesLess_32 hf rfl fun v9 hf => ?_
      refine z_iload (q := 37) (i := 4) C 0 dX9_leavesLess_35 rfl rfl ?_
      refine z_iald (q := 38) C dX9_leavesLess_37 hf rfl fun v10 hf => ?_
      refine z_iconst (q := 39) C (-1 : Int32) dX9_leavesLess_38 ki_m1 rfl ?_
      refine z_icmpeq (q := 42) (tgt := 70) C dX9_leavesLess_39 (by decide) rfl hf (fun c39 hf => ?_) (fun c39 hf => ?_)
      · refine z_lv [1, 2, 3, 4] rfl ?_
        exact j70_1 i_3 i_4 σ hf
      · refine z_iload_n (q := 43) (i := 2) C 3 dX9_leavesLess_42 rfl rfl rfl ?_
        refine z_iconst (q := 44) C (-1 : Int32) dX9_leavesLess_43 ki_m1 rfl ?_
        refine z_icmpeq (q := 47) (tgt := 60) C dX9_leavesLess_44 (by decide) rfl hf (fun c44 hf => ?_) (fun c44 hf => ?_)
        · refine z_lv [1, 2, 4, 0] rfl ?_
          exact j60_1 i_4 v8 σ hf
        · refine z_aload_n (q := 48) (i := 0) C 1 dX9_leavesLess_47 rfl rfl rfl ?_
          refine z_getR (q := 51) C flX9_69 dX9_leavesLess_48 hf rfl fun v11 hf => ?_
          refine z_iload (q := 53) (i := 4) C 0 dX9_leavesLess_51 rfl rfl ?_
          refine z_iald (q := 54) C dX9_leavesLess_53 hf rfl fun v12 hf => ?_
          refine z_iconst (q := 55) C (1 : Int32) dX9_leavesLess_54 ki_1 rfl ?_
          refine z_iadd (q := 56) C dX9_leavesLess_55 rfl ?_
          refine z_iload_n (q := 57) (i := 2) C 3 dX9_leavesLess_56 rfl rfl rfl ?_
          refine z_icmpge (q := 60) (tgt := 70) C dX9_leavesLess_57 (by decide) rfl hf (fun c57 hf => ?_) (fun c57 hf => ?_)
          · refine z_lv [1, 2, 3, 4] rfl ?_
            exact j70_1 i_3 i_4 σ hf
          · refine z_lv [1, 2, 4, 0] rfl ?_
            exact j60_1 i_4 v8 σ hf

noncomputable def f_X9_leaves_J101_60 (a0_101 : Nat) (i1_101 : Int32) (i2_101 : Int32) (σ : ZT) : Option ((Int32 × Int32 × ZT) ⊕ (Int32 × ZT)) :=
  some (.inl (i1_101, (i2_101 + (-1 : Int32)), σ))
noncomputable def f_X9_leaves_J100_60 (a0_100 : Nat) (i2_100 : Int32) (w0_100 : Int32) (σ : ZT) : Option ((Int32 × Int32 × ZT) ⊕ (Int32 × ZT)) :=
  f_X9_leaves_J101_60 a0_100 w0_100 i2_100 σ
noncomputable def f_X9_leaves_J95_60 (a0_95 : Nat) (i2_95 : Int32) (σ : ZT) : Option ((Int32 × Int32 × ZT) ⊕ (Int32 × ZT)) :=
  f_X9_leaves_J100_60 a0_95 i2_95 (1 : Int32) σ
noncomputable def f_X9_leaves_L60 (c0_60 : Nat) (i_5 : Int32) (i_6 : Int32) (σ : ZT) : Option ((Int32 × Int32 × ZT) ⊕ (Int32 × ZT)) :=
  if i_6 < 0 then
  (some (.inr (i_5, σ)))
  else
  ((gR 9 934 c0_60 σ).bind fun v7 =>
  (gR 9 935 c0_60 σ).bind fun v8 =>
  (ldI 0 v8 i_6 σ).bind fun v9 =>
  (ldI 0 v7 v9 σ).bind fun v10 =>
  if v10 = 0 then
  (f_X9_leaves_J101_60 c0_60 i_5 i_6 σ)
  else
  ((gR 9 935 c0_60 σ).bind fun v11 =>
  (ldI 0 v11 i_6 σ).bind fun v12 =>
  bnd2 (vc 9 c0_60 σ (f_X9_leavesLess c0_60 v12 σ)) fun v13 σ =>
  if v13 = 0 then
  (if i_5 = 0 then
  (f_X9_leaves_J100_60 c0_60 i_6 (0 : Int32) σ)
  else
  (f_X9_leaves_J95_60 c0_60 i_6 σ))
  else
  (f_X9_leaves_J95_60 c0_60 i_6 σ)))
noncomputable def f_X9_leaves_L47 (c0_47 : Nat) (i_3 : Int32) (σ : ZT) : Option ((Int32 × ZT) ⊕ ZT) :=
  if i_3 = 0 then
  (some (.inr σ))
  else
  ((gI 9 937 c0_47 σ).bind fun v4 =>
  (loopC (fun s : (Int32 × Int32 × ZT) => f_X9_leaves_L60 c0_47 s.1 s.2.1 s.2.2) ((0 : Int32), (v4 - (1 : Int32)), σ)).bind fun x => (match x with
  | (x14, σ) => some (.inl (x14, σ))))
noncomputable def f_X9_leaves_J38_2 (a0_38 : Nat) (i1_38 : Int32) (w0_38 : Int32) (w1_38 : Int32) (w2_38 : Nat) (σ : ZT) : Option ((Int32 × ZT) ⊕ ZT) :=
  (stI w2_38 w1_38 w0_38 σ).bind fun σ =>
  some (.inl ((i1_38 + (1 : Int32)), σ))
noncomputable def f_X9_leaves_L2 (c0_2 : Nat) (i_1 : Int32) (σ : ZT) : Option ((Int32 × ZT) ⊕ ZT) :=
  (gI 9 937 c0_2 σ).bind fun v2 =>
  if i_1 < v2 then
  ((gR 9 934 c0_2 σ).bind fun v15 =>
  (gR 9 935 c0_2 σ).bind fun v16 =>
  (ldI 0 v16 i_1 σ).bind fun v17 =>
  (gR 9 935 c0_2 σ).bind fun v18 =>
  (ldI 0 v18 i_1 σ).bind fun v19 =>
  bnd2 (vc 9 c0_2 σ (f_X9_isDoneAt c0_2 v19 σ)) fun v20 σ =>
  if v20 = 0 then
  (f_X9_leaves_J38_2 c0_2 i_1 (-1 : Int32) v17 v15 σ)
  else
  (f_X9_leaves_J38_2 c0_2 i_1 (0 : Int32) v17 v15 σ))
  else
  (some (.inr σ))
noncomputable def f_X9_leaves (a0 : Nat) (σ : ZT) : Option ZT :=
  (loopC (fun s : (Int32 × ZT) => f_X9_leaves_L2 a0 s.1 s.2) ((0 : Int32), σ)).bind fun σ =>
  (loopC (fun s : (Int32 × ZT) => f_X9_leaves_L47 a0 s.1 s.2) ((1 : Int32), σ)).bind fun σ =>
  some σ
set_option maxHeartbeats 4000000 in
theorem m_X9_leaves {l : Launch} {G : ZG} (a0 : Nat) (σ : ZT) {out : ZT} (hf : f_X9_leaves a0 σ = some out) : ZM l G yX9_leaves cX9_leaves 3 none [] 9 [.ref a0] σ (.returned none) out := by
  refine ZM.of [(0, .ref a0)] rfl (Nat.le_of_ble_eq_true rfl) fun X (C : ZC G RX9 "leaves" cX9_leaves 3 none [] X 9) => ?_
  unfold f_X9_leaves at hf
  refine z_iconst (q := 1) C (0 : Int32) dX9_leaves_0 ki_0 rfl ?_
  refine z_istore_n (q := 2) (i := 1) (lv' := [(1, .int (0 : Int32)), (0, .ref a0)]) C dX9_leaves_1 rfl (by decide) rfl rfl ?_
  refine z_lv [1, 0] rfl ?_
  obtain ⟨r1, hr1, hk1⟩ := Option.bind_eq_some_iff.mp hf
  refine loopC_ind (P := fun s => ZW l G 3 X (ZQ G X (.returned none) out) s.2 2 [(0, .ref a0), (1, .int s.1)] []) (fun s x1 hf hx1 => ?_) hr1
  obtain ⟨i_1, σ⟩ := s
  unfold f_X9_leaves_L2 at hf
  try dsimp only at hf
  try dsimp only
  have j38_1 : ∀ (i1_38 : Int32) (w0_38 : Int32) (w1_38 : Int32) (w2_38 : Nat) (σ : ZT), f_X9_leaves_J38_2 a0 i1_38 w0_38 w1_38 w2_38 σ = some x1 → ZW l G 3 X (ZQ G X (.returned none) out) σ 38 [(0, .ref a0), (1, .int i1_38)] [.int w0_38, .int w1_38, .ref w2_38] := by
    intro i1_38 w0_38 w1_38 w2_38 σ hf
    unfold f_X9_leaves_J38_2 at hf
    refine z_iast (q := 39) C dX9_leaves_38 hf rfl fun σ hf => ?_
    refine z_iinc (q := 42) (i := 1) (lv' := [(1, .int (i1_38 + (1 : Int32))), (0, .ref a0)]) C 1 (i1_38 + (1 : Int32)) dX9_leaves_39 rfl (kn_1 _) (by decide) rfl rfl ?_
    refine z_goto (q := 2) C dX9_leaves_42 (by decide) ?_
    refine z_lv [1, 0] rfl ?_
    have hc1 := zl_c hf hx1
    exact hc1
  refine z_iload_n (q := 3) (i := 1) C 1 dX9_leaves_2 rfl rfl rfl ?_
  refine z_aload_n (q := 4) (i := 0) C 0 dX9_leaves_3 rfl rfl rfl ?_
  refine z_getI (q := 7) C flX9_373 dX9_leaves_4 hf rfl fun v2 hf => ?_
  refine z_icmpge (q := 10) (tgt := 45) C dX9_leaves_7 (by decide) rfl hf (fun c7 hf => ?_) (fun c7 hf => ?_)
  · have e1 := zl_x hf hx1
    have hf := hk1
    rw [← e1] at hf
    try dsimp only at hf
    refine z_iconst (q := 46) C (1 : Int32) dX9_leaves_45 ki_1 rfl ?_
    refine z_istore_n (q := 47) (i := 1) (lv' := [(1, .int (1 : Int32)), (0, .ref a0)]) C dX9_leaves_46 rfl (by decide) rfl rfl ?_
    refine z_lv [1, 0] rfl ?_
    obtain ⟨r1, hr1, hk1⟩ := Option.bind_eq_some_iff.mp hf
    refine loopC_ind (P := fun s => ZW l G 3 X (ZQ G X (.returned none) out) s.2 47 [(0, .ref a0), (1, .int s.1)] []) (fun s x1 hf hx1 => ?_) hr1
    obtain ⟨i_3, σ⟩ := s
    unfold f_X9_leaves_L47 at hf
    try dsimp only at hf
    try dsimp only
    refine z_iload_n (q := 48) (i := 1) C 1 dX9_leaves_47 rfl rfl rfl ?_
    refine z_ifeq (q := 51) (tgt := 110) C dX9_leaves_48 (by decide) rfl hf (fun c48 hf => ?_) (fun c48 hf => ?_)
    · have e1 := zl_x hf hx1
      have hf := hk1
      rw [← e1] at hf
      try dsimp only at hf
      exact z_return C rfl dX9_leaves_110 (Option.some.inj hf)
    · refine z_iconst (q := 52) C (0 : Int32) dX9_leaves_51 ki_0 rfl ?_
      refine z_istore_n (q := 53) (i := 1) (lv' := [(1, .int (0 : Int32)), (0, .ref a0)]) C dX9_leaves_52 rfl (by decide) rfl rfl ?_
      refine z_aload_n (q := 54) (i := 0) C 1 dX9_leaves_53 rfl rfl rfl ?_
      refine z_getI (q := 57) C flX9_373 dX9_leaves_54 hf rfl fun v4 hf => ?_
      refine z_iconst (q := 58) C (1 : Int32) dX9_leaves_57 ki_1 rfl ?_
      refine z_isub (q := 59) C dX9_leaves_58 rfl ?_
      refine z_istore_n (q := 60) (i := 2) (lv' := [(2, .int (v4 - (1 : Int32))), (1, .int (0 : Int32)), (0, .ref a0)]) C dX9_leaves_59 rfl (by decide) rfl rfl ?_
      refine z_lv [2, 1, 0] rfl ?_
      obtain ⟨r2, hr2, hk2⟩ := Option.bind_eq_some_iff.mp hf
      refine loopC_ind (P := fun s => ZW l G 3 X (ZQ G X (.returned none) out) s.2.2 60 [(0, .ref a0), (1, .int s.1), (2, .int s.2.1)] []) (fun s x2 hf hx2 => ?_) hr2
      obtain ⟨i_5, i_6, σ⟩ := s
      unfold f_X9_leaves_L60 at hf
      try dsimp only at hf
      try dsimp only
      have j101_2 : ∀ (i1_101 : Int32) (i2_101 : Int32) (σ : ZT), f_X9_leaves_J101_60 a0 i1_101 i2_101 σ = some x2 → ZW l G 3 X (ZQ G X (.returned none) out) σ 101 [(0, .ref a0), (1, .int i1_101), (2, .int i2_101)] [] := by
        intro i1_101 i2_101 σ hf
        unfold f_X9_leaves_J101_60 at hf
        refine z_iinc (q := 104) (i := 2) (lv' := [(2, .int (i2_101 + (-1 : Int32))), (0, .ref a0), (1, .int i1_101)]) C 2 (i2_101 + (-1 : Int32)) dX9_leaves_101 rfl (kn_m1 _) (by decide) rfl rfl ?_
        refine z_goto (q := 60) C dX9_leaves_104 (by decide) ?_
        refine z_lv [1, 2, 0] rfl ?_
        have hc2 := zl_c hf hx2
        exact hc2
      have j100_2 : ∀ (i2_100 : Int32) (w0_100 : Int32) (σ : ZT), f_X9_leaves_J100_60 a0 i2_100 w0_100 σ = some x2 → ZW l G 3 X (ZQ G X (.returned none) out) σ 100 [(0, .ref a0), (2, .int i2_100)] [.int w0_100] := by
        intro i2_100 w0_100 σ hf
        unfold f_X9_leaves_J100_60 at hf
        refine z_istore_n (q := 101) (i := 1) (lv' := [(1, .int w0_100), (0, .ref a0), (2, .int i2_100)]) C dX9_leaves_100 rfl (by decide) rfl rfl ?_
        refine z_lv [1, 0, 2] rfl ?_
        exact j101_2 w0_100 i2_100 σ hf
      have j95_2 : ∀ (i2_95 : Int32) (σ : ZT), f_X9_leaves_J95_60 a0 i2_95 σ = some x2 → ZW l G 3 X (ZQ G X (.returned none) out) σ 95 [(0, .ref a0), (2, .int i2_95)] [] := by
        intro i2_95 σ hf
        unfold f_X9_leaves_J95_60 at hf
        refine z_iconst (q := 96) C (1 : Int32) dX9_leaves_95 ki_1 rfl ?_
        refine z_goto (q := 100) C dX9_leaves_96 (by decide) ?_
        exact j100_2 i2_95 (1 : Int32) σ hf
      refine z_iload_n (q := 61) (i := 2) C 2 dX9_leaves_60 rfl rfl rfl ?_
      refine z_iflt (q := 64) (tgt := 107) C dX9_leaves_61 (by decide) rfl hf (fun c61 hf => ?_) (fun c61 hf => ?_)
      · have e2 := zl_x hf hx2
        have hf := hk2
        rw [← e2] at hf
        try dsimp only at hf
        refine z_goto (q := 47) C dX9_leaves_107 (by decide) ?_
        refine z_lv [0, 1] rfl ?_
        have hc1 := zl_c hf hx1
        exact hc1
      · refine z_aload_n (q := 65) (i := 0) C 0 dX9_leaves_64 rfl rfl rfl ?_
        refine z_getR (q := 68) C flX9_69 dX9_leaves_65 hf rfl fun v7 hf => ?_
        refine z_aload_n (q := 69) (i := 0) C 0 dX9_leaves_68 rfl rfl rfl ?_
        refine z_getR (q := 72) C flX9_72 dX9_leaves_69 hf rfl fun v8 hf => ?_
        refine z_iload_n (q := 73) (i := 2) C 2 dX9_leaves_72 rfl rfl rfl ?_
        refine z_iald (q := 74) C dX9_leaves_73 hf rfl fun v9 hf => ?_
        refine z_iald (q := 75) C dX9_leaves_74 hf rfl fun v10 hf => ?_
        refine z_ifeq (q := 78) (tgt := 101) C dX9_leaves_75 (by decide) rfl hf (fun c75 hf => ?_) (fun c75 hf => ?_)
        · exact j101_2 i_5 i_6 σ hf
        · refine z_aload_n (q := 79) (i := 0) C 0 dX9_leaves_78 rfl rfl rfl ?_
          refine z_aload_n (q := 80) (i := 0) C 0 dX9_leaves_79 rfl rfl rfl ?_
          refine z_getR (q := 83) C flX9_72 dX9_leaves_80 hf rfl fun v11 hf => ?_
          refine z_iload_n (q := 84) (i := 2) C 2 dX9_leaves_83 rfl rfl rfl ?_
          refine z_iald (q := 85) C dX9_leaves_84 hf rfl fun v12 hf => ?_
          refine z_callVi (q := 88) (As := [.int v12]) C (fun o ho => m_X9_leavesLess _ _ _ ho) zk9 vvX9_400 cdX9_leavesLess pnX9 dX9_leaves_85 rfl (by decide) (Nat.le_of_ble_eq_true rfl) hf rfl fun v13 σ hf => ?_
          refine z_ifne (q := 91) (tgt := 95) C dX9_leaves_88 (by decide) rfl hf (fun c88 hf => ?_) (fun c88 hf => ?_)
          · refine z_lv [0, 2] rfl ?_
            exact j95_2 i_6 σ hf
          · refine z_iload_n (q := 92) (i := 1) C 1 dX9_leaves_91 rfl rfl rfl ?_
            refine z_ifeq (q := 95) (tgt := 99) C dX9_leaves_92 (by decide) rfl hf (fun c92 hf => ?_) (fun c92 hf => ?_)
            · refine z_iconst (q := 100) C (0 : Int32) dX9_leaves_99 ki_0 rfl ?_
              refine z_lv [0, 2] rfl ?_
              exact j100_2 i_6 (0 : Int32) σ hf
            · refine z_lv [0, 2] rfl ?_
              exact j95_2 i_6 σ hf
  · refine z_aload_n (q := 11) (i := 0) C 0 dX9_leaves_10 rfl rfl rfl ?_
    refine z_getR (q := 14) C flX9_69 dX9_leaves_11 hf rfl fun v14 hf => ?_
    refine z_aload_n (q := 15) (i := 0) C 0 dX9_leaves_14 rfl rfl rfl ?_
    refine z_getR (q := 18) C flX9_72 dX9_leaves_15 hf rfl fun v15 hf => ?_
    refine z_iload_n (q := 19) (i := 1) C 1 dX9_leaves_18 rfl rfl rfl ?_
    refine z_iald (q := 20) C dX9_leaves_19 hf rfl fun v16 hf => ?_
    refine z_aload_n (q := 21) (i := 0) C 0 dX9_leaves_20 rfl rfl rfl ?_
    refine z_aload_n (q := 22) (i := 0) C 0 dX9_leaves_21 rfl rfl rfl ?_
    refine z_getR (q := 25) C flX9_72 dX9_leaves_22 hf rfl fun v17 hf => ?_
    refine z_iload_n (q := 26) (i := 1) C 1 dX9_leaves_25 rfl rfl rfl ?_
    refine z_iald (q := 27) C dX9_leaves_26 hf rfl fun v18 hf => ?_
    refine z_callVi (q := 30) (As := [.int v18]) C (fun o ho => m_X9_isDoneAt _ _ _ ho) zk9 vvX9_382 cdX9_isDoneAt pnX9 dX9_leaves_27 rfl (by decide) (Nat.le_of_ble_eq_true rfl) hf rfl fun v19 σ hf => ?_
    refine z_ifeq (q := 33) (tgt := 37) C dX9_leaves_30 (by decide) rfl hf (fun c30 hf => ?_) (fun c30 hf => ?_)
    · refine z_iconst (q := 38) C (-1 : Int32) dX9_leaves_37 ki_m1 rfl ?_
      exact j38_1 i_1 (-1 : Int32) v16 v14 σ hf
    · refine z_iconst (q := 34) C (0 : Int32) dX9_leaves_33 ki_0 rfl ?_
      refine z_goto (q := 38) C dX9_leaves_34 (by decide) ?_
      exact j38_1 i_1 (0 : Int32) v16 v14 σ hf

noncomputable def f_X9_first_J78_54 (a0_78 : Nat) (i1_78 : Int32) (i2_78 : Int32) (i3_78 : Int32) (σ : ZT) : Option ((Int32 × Int32 × ZT) ⊕ (Int32 × Int32 × ZT)) :=
  bnd2 (vc 9 a0_78 σ (f_X9_moved a0_78 i1_78 (i3_78 + (1 : Int32)) σ)) fun v28 σ =>
  some (.inl ((i3_78 + (1 : Int32)), v28, σ))
noncomputable def f_X9_first_L54 (c0_54 : Nat) (c1_54 : Int32) (c2_54 : Int32) (i_13 : Int32) (i_14 : Int32) (σ : ZT) : Option ((Int32 × Int32 × ZT) ⊕ (Int32 × Int32 × ZT)) :=
  if i_14 = (-1 : Int32) then
  (f_X9_first_J78_54 c0_54 c1_54 c2_54 i_13 σ)
  else
  ((gR 9 934 c0_54 σ).bind fun v15 =>
  (ldI 0 v15 i_14 σ).bind fun v16 =>
  (gR 9 934 c0_54 σ).bind fun v17 =>
  (ldI 0 v17 c1_54 σ).bind fun v18 =>
  if v16 = (v18 - (1 : Int32)) then
  (some (.inr (i_13, i_14, σ)))
  else
  (f_X9_first_J78_54 c0_54 c1_54 c2_54 i_13 σ))
noncomputable def f_X9_first_L35 (c0_35 : Nat) (i_7 : Int32) (i_8 : Int32) (σ : ZT) : Option ((Int32 × Int32 × ZT) ⊕ (Int32 × ZT)) :=
  (gR 9 934 c0_35 σ).bind fun v9 =>
  (ldI 0 v9 i_7 σ).bind fun v10 =>
  if 0 < v10 then
  (bnd2 (vc 9 c0_35 σ (f_X9_moved c0_35 i_7 (0 : Int32) σ)) fun v12 σ =>
  (loopC (fun s : (Int32 × Int32 × ZT) => f_X9_first_L54 c0_35 i_7 i_8 s.1 s.2.1 s.2.2) ((0 : Int32), v12, σ)).bind fun x => (match x with
  | (x29, x30, σ) => (gR 9 940 c0_35 σ).bind fun v31 =>
  (gR 9 929 c0_35 σ).bind fun v32 =>
  (ldI 0 v32 x29 σ).bind fun v33 =>
  (gR 9 930 c0_35 σ).bind fun v34 =>
  (ldI 0 v34 x29 σ).bind fun v35 =>
  (gR 9 931 c0_35 σ).bind fun v36 =>
  (ldI 0 v36 x29 σ).bind fun v37 =>
  (gR 9 932 c0_35 σ).bind fun v38 =>
  (ldI 0 v38 x29 σ).bind fun v39 =>
  (stI v31 i_8 ((((((1000 : Int32) * v33) + ((100 : Int32) * v35)) + ((10 : Int32) * (v37 + (1 : Int32)))) + v39) + (1 : Int32)) σ).bind fun σ =>
  some (.inl (x30, (i_8 + (1 : Int32)), σ))))
  else
  (some (.inr (i_8, σ)))
noncomputable def f_X9_first (a0 : Nat) (σ : ZT) : Option (Int32 × ZT) :=
  (vc 9 a0 σ (f_X9_comes a0 σ)).bind fun σ =>
  (vc 9 a0 σ (f_X9_leaves a0 σ)).bind fun σ =>
  (gR 9 934 a0 σ).bind fun v3 =>
  (gI 9 938 a0 σ).bind fun v4 =>
  (ldI 0 v3 v4 σ).bind fun v5 =>
  if v5 = (-1 : Int32) then
  (bnd2 (vc 9 a0 σ (f_X9_refuse a0 (6 : Int32) σ)) fun v42 σ =>
  some (v42, σ))
  else
  ((gI 9 938 a0 σ).bind fun v6 =>
  (loopC (fun s : (Int32 × Int32 × ZT) => f_X9_first_L35 a0 s.1 s.2.1 s.2.2) (v6, (0 : Int32), σ)).bind fun x => (match x with
  | (x40, σ) => (pI 9 939 a0 x40 σ).bind fun σ =>
  bnd2 (vc 9 a0 σ (f_X9_gives a0 x40 σ)) fun v41 σ =>
  some (v41, σ)))
set_option maxHeartbeats 4000000 in
theorem m_X9_first {l : Launch} {G : ZG} (a0 : Nat) (σ : ZT) {out : (Int32 × ZT)} (hf : f_X9_first a0 σ = some out) : ZM l G yX9_first cX9_first 5 (some .int) [] 10 [.ref a0] σ (.returned (some (.int out.1))) out.2 := by
  refine ZM.of [(0, .ref a0)] rfl (Nat.le_of_ble_eq_true rfl) fun X (C : ZC G RX9 "first" cX9_first 5 (some .int) [] X 10) => ?_
  unfold f_X9_first at hf
  refine z_aload_n (q := 1) (i := 0) C 0 dX9_first_0 rfl rfl rfl ?_
  refine z_callVv (q := 4) (As := []) C (fun o ho => m_X9_comes _ _ ho) zk9 vvX9_385 cdX9_comes pnX9 dX9_first_1 rfl (by decide) (Nat.le_of_ble_eq_true rfl) hf rfl fun σ hf => ?_
  refine z_aload_n (q := 5) (i := 0) C 0 dX9_first_4 rfl rfl rfl ?_
  refine z_callVv (q := 8) (As := []) C (fun o ho => m_X9_leaves _ _ ho) zk9 vvX9_403 cdX9_leaves pnX9 dX9_first_5 rfl (by decide) (Nat.le_of_ble_eq_true rfl) hf rfl fun σ hf => ?_
  refine z_aload_n (q := 9) (i := 0) C 0 dX9_first_8 rfl rfl rfl ?_
  refine z_getR (q := 12) C flX9_69 dX9_first_9 hf rfl fun v3 hf => ?_
  refine z_aload_n (q := 13) (i := 0) C 0 dX9_first_12 rfl rfl rfl ?_
  refine z_getI (q := 16) C flX9_370 dX9_first_13 hf rfl fun v4 hf => ?_
  refine z_iald (q := 17) C dX9_first_16 hf rfl fun v5 hf => ?_
  refine z_iconst (q := 18) C (-1 : Int32) dX9_first_17 ki_m1 rfl ?_
  refine z_icmpne (q := 21) (tgt := 28) C dX9_first_18 (by decide) rfl hf (fun c18 hf => ?_) (fun c18 hf => ?_)
  · refine z_aload_n (q := 29) (i := 0) C 0 dX9_first_28 rfl rfl rfl ?_
    refine z_getI (q := 32) C flX9_370 dX9_first_29 hf rfl fun v6 hf => ?_
    refine z_istore_n (q := 33) (i := 1) (lv' := [(1, .int v6), (0, .ref a0)]) C dX9_first_32 rfl (by decide) rfl rfl ?_
    refine z_iconst (q := 34) C (0 : Int32) dX9_first_33 ki_0 rfl ?_
    refine z_istore_n (q := 35) (i := 2) (lv' := [(2, .int (0 : Int32)), (1, .int v6), (0, .ref a0)]) C dX9_first_34 rfl (by decide) rfl rfl ?_
    refine z_lv [2, 1, 0] rfl ?_
    obtain ⟨r1, hr1, hk1⟩ := Option.bind_eq_some_iff.mp hf
    refine loopC_ind (P := fun s => ZW l G 5 X (ZQ G X (.returned (some (.int out.1))) out.2) s.2.2 35 [(0, .ref a0), (1, .int s.1), (2, .int s.2.1)] []) (fun s x1 hf hx1 => ?_) hr1
    obtain ⟨i_7, i_8, σ⟩ := s
    unfold f_X9_first_L35 at hf
    try dsimp only at hf
    try dsimp only
    refine z_aload_n (q := 36) (i := 0) C 0 dX9_first_35 rfl rfl rfl ?_
    refine z_getR (q := 39) C flX9_69 dX9_first_36 hf rfl fun v9 hf => ?_
    refine z_iload_n (q := 40) (i := 1) C 1 dX9_first_39 rfl rfl rfl ?_
    refine z_iald (q := 41) C dX9_first_40 hf rfl fun v10 hf => ?_
    refine z_ifle (q := 44) (tgt := 148) C dX9_first_41 (by decide) rfl hf (fun c41 hf => ?_) (fun c41 hf => ?_)
    · have e1 := zl_x hf hx1
      have hf := hk1
      rw [← e1] at hf
      try dsimp only at hf
      refine z_aload_n (q := 149) (i := 0) C 0 dX9_first_148 rfl rfl rfl ?_
      refine z_iload_n (q := 150) (i := 2) C 2 dX9_first_149 rfl rfl rfl ?_
      refine z_putI (q := 153) C puX9_79 dX9_first_150 hf rfl fun σ hf => ?_
      refine z_aload_n (q := 154) (i := 0) C 0 dX9_first_153 rfl rfl rfl ?_
      refine z_iload_n (q := 155) (i := 2) C 2 dX9_first_154 rfl rfl rfl ?_
      refine z_callVi (q := 158) (As := [.int i_8]) C (fun o ho => m_X9_gives _ _ _ ho) zk9 vvX9_107 cdX9_gives pnX9 dX9_first_155 rfl (by decide) (Nat.le_of_ble_eq_true rfl) hf rfl fun v11 σ hf => ?_
      exact z_ireturn C rfl dX9_first_158 (Option.some.inj hf)
    · refine z_iconst (q := 45) C (0 : Int32) dX9_first_44 ki_0 rfl ?_
      refine z_istore_n (q := 46) (i := 3) (lv' := [(3, .int (0 : Int32)), (0, .ref a0), (1, .int i_7), (2, .int i_8)]) C dX9_first_45 rfl (by decide) rfl rfl ?_
      refine z_aload_n (q := 47) (i := 0) C 1 dX9_first_46 rfl rfl rfl ?_
      refine z_iload_n (q := 48) (i := 1) C 2 dX9_first_47 rfl rfl rfl ?_
      refine z_iload_n (q := 49) (i := 3) C 0 dX9_first_48 rfl rfl rfl ?_
      refine z_callVi (q := 52) (As := [.int i_7, .int (0 : Int32)]) C (fun o ho => m_X9_moved _ _ _ _ ho) zk9 vvX9_379 cdX9_moved pnX9 dX9_first_49 rfl (by decide) (Nat.le_of_ble_eq_true rfl) hf rfl fun v12 σ hf => ?_
      refine z_istore (q := 54) (i := 4) (lv' := [(4, .int v12), (3, .int (0 : Int32)), (0, .ref a0), (1, .int i_7), (2, .int i_8)]) C dX9_first_52 (by decide) rfl rfl ?_
      refine z_lv [2, 3, 4, 1, 0] rfl ?_
      obtain ⟨r2, hr2, hk2⟩ := Option.bind_eq_some_iff.mp hf
      refine loopC_ind (P := fun s => ZW l G 5 X (ZQ G X (.returned (some (.int out.1))) out.2) s.2.2 54 [(0, .ref a0), (1, .int i_7), (2, .int i_8), (3, .int s.1), (4, .int s.2.1)] []) (fun s x2 hf hx2 => ?_) hr2
      obtain ⟨i_13, i_14, σ⟩ := s
      unfold f_X9_first_L54 at hf
      try dsimp only at hf
      try dsimp only
      have j78_2 : ∀ (i3_78 : Int32) (σ : ZT), f_X9_first_J78_54 a0 i_7 i_8 i3_78 σ = some x2 → ZW l G 5 X (ZQ G X (.returned (some (.int out.1))) out.2) σ 78 [(0, .ref a0), (1, .int i_7), (2, .int i_8), (3, .int i3_78)] [] := by
        intro i3_78 σ hf
        unfold f_X9_first_J78_54 at hf
        refine z_iinc (q := 81) (i := 3) (lv' := [(3, .int (i3_78 + (1 : Int32))), (0, .ref a0), (1, .int i_7), (2, .int i_8)]) C 3 (i3_78 + (1 : Int32)) dX9_first_78 rfl (kn_1 _) (by decide) rfl rfl ?_
        refine z_aload_n (q := 82) (i := 0) C 1 dX9_first_81 rfl rfl rfl ?_
        refine z_iload_n (q := 83) (i := 1) C 2 dX9_first_82 rfl rfl rfl ?_
        refine z_iload_n (q := 84) (i := 3) C 0 dX9_first_83 rfl rfl rfl ?_
        refine z_callVi (q := 87) (As := [.int i_7, .int (i3_78 + (1 : Int32))]) C (fun o ho => m_X9_moved _ _ _ _ ho) zk9 vvX9_379 cdX9_moved pnX9 dX9_first_84 rfl (by decide) (Nat.le_of_ble_eq_true rfl) hf rfl fun v28 σ hf => ?_
        refine z_istore (q := 89) (i := 4) (lv' := [(4, .int v28), (3, .int (i3_78 + (1 : Int32))), (0, .ref a0), (1, .int i_7), (2, .int i_8)]) C dX9_first_87 (by decide) rfl rfl ?_
        refine z_goto (q := 54) C dX9_first_89 (by decide) ?_
        refine z_lv [2, 3, 4, 1, 0] rfl ?_
        have hc2 := zl_c hf hx2
        exact hc2
      refine z_iload (q := 56) (i := 4) C 4 dX9_first_54 rfl rfl ?_
      refine z_iconst (q := 57) C (-1 : Int32) dX9_first_56 ki_m1 rfl ?_
      refine z_icmpeq (q := 60) (tgt := 78) C dX9_first_57 (by decide) rfl hf (fun c57 hf => ?_) (fun c57 hf => ?_)
      · refine z_lv [0, 1, 2, 3] rfl ?_
        exact j78_2 i_13 σ hf
      · refine z_aload_n (q := 61) (i := 0) C 0 dX9_first_60 rfl rfl rfl ?_
        refine z_getR (q := 64) C flX9_69 dX9_first_61 hf rfl fun v15 hf => ?_
        refine z_iload (q := 66) (i := 4) C 4 dX9_first_64 rfl rfl ?_
        refine z_iald (q := 67) C dX9_first_66 hf rfl fun v16 hf => ?_
        refine z_aload_n (q := 68) (i := 0) C 0 dX9_first_67 rfl rfl rfl ?_
        refine z_getR (q := 71) C flX9_69 dX9_first_68 hf rfl fun v17 hf => ?_
        refine z_iload_n (q := 72) (i := 1) C 1 dX9_first_71 rfl rfl rfl ?_
        refine z_iald (q := 73) C dX9_first_72 hf rfl fun v18 hf => ?_
        refine z_iconst (q := 74) C (1 : Int32) dX9_first_73 ki_1 rfl ?_
        refine z_isub (q := 75) C dX9_first_74 rfl ?_
        refine z_icmpeq (q := 78) (tgt := 92) C dX9_first_75 (by decide) rfl hf (fun c75 hf => ?_) (fun c75 hf => ?_)
        · have e2 := zl_x hf hx2
          have hf := hk2
          rw [← e2] at hf
          try dsimp only at hf
          refine z_aload_n (q := 93) (i := 0) C 0 dX9_first_92 rfl rfl rfl ?_
          refine z_getR (q := 96) C flX9_82 dX9_first_93 hf rfl fun v19 hf => ?_
          refine z_iload_n (q := 97) (i := 2) C 2 dX9_first_96 rfl rfl rfl ?_
          refine z_sipush (q := 100) C (1000 : Int32) dX9_first_97 ks_1000 rfl ?_
          refine z_aload_n (q := 101) (i := 0) C 0 dX9_first_100 rfl rfl rfl ?_
          refine z_getR (q := 104) C flX9_56 dX9_first_101 hf rfl fun v20 hf => ?_
          refine z_iload_n (q := 105) (i := 3) C 3 dX9_first_104 rfl rfl rfl ?_
          refine z_iald (q := 106) C dX9_first_105 hf rfl fun v21 hf => ?_
          refine z_imul (q := 107) C dX9_first_106 rfl ?_
          refine z_bipush (q := 109) C (100 : Int32) dX9_first_107 kb_100 rfl ?_
          refine z_aload_n (q := 110) (i := 0) C 0 dX9_first_109 rfl rfl rfl ?_
          refine z_getR (q := 113) C flX9_59 dX9_first_110 hf rfl fun v22 hf => ?_
          refine z_iload_n (q := 114) (i := 3) C 3 dX9_first_113 rfl rfl rfl ?_
          refine z_iald (q := 115) C dX9_first_114 hf rfl fun v23 hf => ?_
          refine z_imul (q := 116) C dX9_first_115 rfl ?_
          refine z_iadd (q := 117) C dX9_first_116 rfl ?_
          refine z_bipush (q := 119) C (10 : Int32) dX9_first_117 kb_10 rfl ?_
          refine z_aload_n (q := 120) (i := 0) C 0 dX9_first_119 rfl rfl rfl ?_
          refine z_getR (q := 123) C flX9_62 dX9_first_120 hf rfl fun v24 hf => ?_
          refine z_iload_n (q := 124) (i := 3) C 3 dX9_first_123 rfl rfl rfl ?_
          refine z_iald (q := 125) C dX9_first_124 hf rfl fun v25 hf => ?_
          refine z_iconst (q := 126) C (1 : Int32) dX9_first_125 ki_1 rfl ?_
          refine z_iadd (q := 127) C dX9_first_126 rfl ?_
          refine z_imul (q := 128) C dX9_first_127 rfl ?_
          refine z_iadd (q := 129) C dX9_first_128 rfl ?_
          refine z_aload_n (q := 130) (i := 0) C 0 dX9_first_129 rfl rfl rfl ?_
          refine z_getR (q := 133) C flX9_65 dX9_first_130 hf rfl fun v26 hf => ?_
          refine z_iload_n (q := 134) (i := 3) C 3 dX9_first_133 rfl rfl rfl ?_
          refine z_iald (q := 135) C dX9_first_134 hf rfl fun v27 hf => ?_
          refine z_iadd (q := 136) C dX9_first_135 rfl ?_
          refine z_iconst (q := 137) C (1 : Int32) dX9_first_136 ki_1 rfl ?_
          refine z_iadd (q := 138) C dX9_first_137 rfl ?_
          refine z_iast (q := 139) C dX9_first_138 hf rfl fun σ hf => ?_
          refine z_iinc (q := 142) (i := 2) (lv' := [(2, .int (i_8 + (1 : Int32))), (0, .ref a0), (1, .int i_7), (3, .int i_13), (4, .int i_14)]) C 2 (i_8 + (1 : Int32)) dX9_first_139 rfl (kn_1 _) (by decide) rfl rfl ?_
          refine z_iload (q := 144) (i := 4) C 4 dX9_first_142 rfl rfl ?_
          refine z_istore_n (q := 145) (i := 1) (lv' := [(1, .int i_14), (2, .int (i_8 + (1 : Int32))), (0, .ref a0), (3, .int i_13), (4, .int i_14)]) C dX9_first_144 rfl (by decide) rfl rfl ?_
          refine z_goto (q := 35) C dX9_first_145 (by decide) ?_
          refine z_lv [2, 0, 1] rfl ?_
          have hc1 := zl_c hf hx1
          exact hc1
        · refine z_lv [0, 1, 2, 3] rfl ?_
          exact j78_2 i_13 σ hf
  · refine z_aload_n (q := 22) (i := 0) C 0 dX9_first_21 rfl rfl rfl ?_
    refine z_bipush (q := 24) C (6 : Int32) dX9_first_22 kb_6 rfl ?_
    refine z_callVi (q := 27) (As := [.int (6 : Int32)]) C (fun o ho => m_X9_refuse _ _ _ ho) zk9 vvX9_103 cdX9_refuse pnX9 dX9_first_24 rfl (by decide) (Nat.le_of_ble_eq_true rfl) hf rfl fun v29 σ hf => ?_
    exact z_ireturn C rfl dX9_first_27 (Option.some.inj hf)

noncomputable def f_X9_firstAt_J9 (a0_9 : Nat) (σ : ZT) : Option (Int32 × ZT) :=
  bnd2 (vc 9 a0_9 σ (f_X9_refuse a0_9 (1 : Int32) σ)) fun v12 σ =>
  some (v12, σ)
noncomputable def f_X9_firstAt_J27 (a0_27 : Nat) (σ : ZT) : Option (Int32 × ZT) :=
  bnd2 (vc 9 a0_27 σ (f_X9_refuse a0_27 (6 : Int32) σ)) fun v13 σ =>
  some (v13, σ)
noncomputable def f_X9_firstAt_J101 (w0_101 : Int32) (σ : ZT) : Option (Int32 × ZT) :=
  some (w0_101, σ)
noncomputable def f_X9_firstAt_J96 (w0_96 : Int32) (w1_96 : Nat) (σ : ZT) : Option (Int32 × ZT) :=
  bnd2 (vc 9 w1_96 σ (f_X9_orNone w1_96 (w0_96 - (1 : Int32)) σ)) fun v14 σ =>
  f_X9_firstAt_J101 v14 σ
noncomputable def f_X9_firstAt (a0 : Nat) (i1 : Int32) (i2 : Int32) (σ : ZT) : Option (Int32 × ZT) :=
  if i2 < 0 then
  (f_X9_firstAt_J9 a0 σ)
  else
  (if (3 : Int32) < i2 then
  (f_X9_firstAt_J9 a0 σ)
  else
  (if i1 < 0 then
  (f_X9_firstAt_J27 a0 σ)
  else
  ((gI 9 939 a0 σ).bind fun v1 =>
  if i1 < v1 then
  ((gR 9 940 a0 σ).bind fun v2 =>
  (ldI 0 v2 i1 σ).bind fun v3 =>
  if i2 = 0 then
  ((zidiv v3 (1000 : Int32)).bind fun v10 =>
  bnd2 (vc 9 a0 σ (f_X9_gives a0 v10 σ)) fun v11 σ =>
  f_X9_firstAt_J101 v11 σ)
  else
  (if i2 = (1 : Int32) then
  ((zidiv v3 (100 : Int32)).bind fun v7 =>
  (zirem v7 (10 : Int32)).bind fun v8 =>
  bnd2 (vc 9 a0 σ (f_X9_gives a0 v8 σ)) fun v9 σ =>
  f_X9_firstAt_J101 v9 σ)
  else
  (if i2 = (2 : Int32) then
  ((zidiv v3 (10 : Int32)).bind fun v5 =>
  (zirem v5 (10 : Int32)).bind fun v6 =>
  f_X9_firstAt_J96 v6 a0 σ)
  else
  ((zirem v3 (10 : Int32)).bind fun v4 =>
  f_X9_firstAt_J96 v4 a0 σ))))
  else
  (f_X9_firstAt_J27 a0 σ))))
set_option maxHeartbeats 4000000 in
theorem m_X9_firstAt {l : Launch} {G : ZG} (a0 : Nat) (i1 : Int32) (i2 : Int32) (σ : ZT) {out : (Int32 × ZT)} (hf : f_X9_firstAt a0 i1 i2 σ = some out) : ZM l G yX9_firstAt cX9_firstAt 4 (some .int) [] 3 [.ref a0, .int i1, .int i2] σ (.returned (some (.int out.1))) out.2 := by
  refine ZM.of [(0, .ref a0), (1, .int i1), (2, .int i2)] rfl (Nat.le_of_ble_eq_true rfl) fun X (C : ZC G RX9 "firstAt" cX9_firstAt 4 (some .int) [] X 3) => ?_
  unfold f_X9_firstAt at hf
  have j101_0 : ∀ (w0_101 : Int32) (σ : ZT), f_X9_firstAt_J101 w0_101 σ = some out → ZW l G 4 X (ZQ G X (.returned (some (.int out.1))) out.2) σ 101 [] [.int w0_101] := by
    intro w0_101 σ hf
    unfold f_X9_firstAt_J101 at hf
    exact z_ireturn C rfl dX9_firstAt_101 (Option.some.inj hf)
  have j96_0 : ∀ (w0_96 : Int32) (w1_96 : Nat) (σ : ZT), f_X9_firstAt_J96 w0_96 w1_96 σ = some out → ZW l G 4 X (ZQ G X (.returned (some (.int out.1))) out.2) σ 96 [] [.int w0_96, .ref w1_96] := by
    intro w0_96 w1_96 σ hf
    unfold f_X9_firstAt_J96 at hf
    refine z_iconst (q := 97) C (1 : Int32) dX9_firstAt_96 ki_1 rfl ?_
    refine z_isub (q := 98) C dX9_firstAt_97 rfl ?_
    refine z_callVi (q := 101) (As := [.int (w0_96 - (1 : Int32))]) C (fun o ho => m_X9_orNone _ _ _ ho) zk9 vvX9_300 cdX9_orNone pnX9 dX9_firstAt_98 rfl (by decide) (Nat.le_of_ble_eq_true rfl) hf rfl fun v14 σ hf => ?_
    exact j101_0 v14 σ hf
  have j27_0 : ∀ (a0_27 : Nat) (σ : ZT), f_X9_firstAt_J27 a0_27 σ = some out → ZW l G 4 X (ZQ G X (.returned (some (.int out.1))) out.2) σ 27 [(0, .ref a0_27)] [] := by
    intro a0_27 σ hf
    unfold f_X9_firstAt_J27 at hf
    refine z_aload_n (q := 28) (i := 0) C 0 dX9_firstAt_27 rfl rfl rfl ?_
    refine z_bipush (q := 30) C (6 : Int32) dX9_firstAt_28 kb_6 rfl ?_
    refine z_callVi (q := 33) (As := [.int (6 : Int32)]) C (fun o ho => m_X9_refuse _ _ _ ho) zk9 vvX9_103 cdX9_refuse pnX9 dX9_firstAt_30 rfl (by decide) (Nat.le_of_ble_eq_true rfl) hf rfl fun v13 σ hf => ?_
    exact z_ireturn C rfl dX9_firstAt_33 (Option.some.inj hf)
  have j9_0 : ∀ (a0_9 : Nat) (σ : ZT), f_X9_firstAt_J9 a0_9 σ = some out → ZW l G 4 X (ZQ G X (.returned (some (.int out.1))) out.2) σ 9 [(0, .ref a0_9)] [] := by
    intro a0_9 σ hf
    unfold f_X9_firstAt_J9 at hf
    refine z_aload_n (q := 10) (i := 0) C 0 dX9_firstAt_9 rfl rfl rfl ?_
    refine z_iconst (q := 11) C (1 : Int32) dX9_firstAt_10 ki_1 rfl ?_
    refine z_callVi (q := 14) (As := [.int (1 : Int32)]) C (fun o ho => m_X9_refuse _ _ _ ho) zk9 vvX9_103 cdX9_refuse pnX9 dX9_firstAt_11 rfl (by decide) (Nat.le_of_ble_eq_true rfl) hf rfl fun v12 σ hf => ?_
    exact z_ireturn C rfl dX9_firstAt_14 (Option.some.inj hf)
  refine z_iload_n (q := 1) (i := 2) C 2 dX9_firstAt_0 rfl rfl rfl ?_
  refine z_iflt (q := 4) (tgt := 9) C dX9_firstAt_1 (by decide) rfl hf (fun c1 hf => ?_) (fun c1 hf => ?_)
  · refine z_lv [0] rfl ?_
    exact j9_0 a0 σ hf
  · refine z_iload_n (q := 5) (i := 2) C 2 dX9_firstAt_4 rfl rfl rfl ?_
    refine z_iconst (q := 6) C (3 : Int32) dX9_firstAt_5 ki_3 rfl ?_
    refine z_icmple (q := 9) (tgt := 15) C dX9_firstAt_6 (by decide) rfl hf (fun c6 hf => ?_) (fun c6 hf => ?_)
    · refine z_iload_n (q := 16) (i := 1) C 1 dX9_firstAt_15 rfl rfl rfl ?_
      refine z_iflt (q := 19) (tgt := 27) C dX9_firstAt_16 (by decide) rfl hf (fun c16 hf => ?_) (fun c16 hf => ?_)
      · refine z_lv [0] rfl ?_
        exact j27_0 a0 σ hf
      · refine z_iload_n (q := 20) (i := 1) C 1 dX9_firstAt_19 rfl rfl rfl ?_
        refine z_aload_n (q := 21) (i := 0) C 0 dX9_firstAt_20 rfl rfl rfl ?_
        refine z_getI (q := 24) C flX9_79 dX9_firstAt_21 hf rfl fun v1 hf => ?_
        refine z_icmplt (q := 27) (tgt := 34) C dX9_firstAt_24 (by decide) rfl hf (fun c24 hf => ?_) (fun c24 hf => ?_)
        · refine z_aload_n (q := 35) (i := 0) C 0 dX9_firstAt_34 rfl rfl rfl ?_
          refine z_getR (q := 38) C flX9_82 dX9_firstAt_35 hf rfl fun v2 hf => ?_
          refine z_iload_n (q := 39) (i := 1) C 1 dX9_firstAt_38 rfl rfl rfl ?_
          refine z_iald (q := 40) C dX9_firstAt_39 hf rfl fun v3 hf => ?_
          refine z_istore_n (q := 41) (i := 3) (lv' := [(3, .int v3), (0, .ref a0), (1, .int i1), (2, .int i2)]) C dX9_firstAt_40 rfl (by decide) rfl rfl ?_
          refine z_iload_n (q := 42) (i := 2) C 3 dX9_firstAt_41 rfl rfl rfl ?_
          refine z_ifne (q := 45) (tgt := 57) C dX9_firstAt_42 (by decide) rfl hf (fun c42 hf => ?_) (fun c42 hf => ?_)
          · refine z_iload_n (q := 58) (i := 2) C 3 dX9_firstAt_57 rfl rfl rfl ?_
            refine z_iconst (q := 59) C (1 : Int32) dX9_firstAt_58 ki_1 rfl ?_
            refine z_icmpne (q := 62) (tgt := 76) C dX9_firstAt_59 (by decide) rfl hf (fun c59 hf => ?_) (fun c59 hf => ?_)
            · refine z_aload_n (q := 77) (i := 0) C 1 dX9_firstAt_76 rfl rfl rfl ?_
              refine z_iload_n (q := 78) (i := 2) C 3 dX9_firstAt_77 rfl rfl rfl ?_
              refine z_iconst (q := 79) C (2 : Int32) dX9_firstAt_78 ki_2 rfl ?_
              refine z_icmpne (q := 82) (tgt := 92) C dX9_firstAt_79 (by decide) rfl hf (fun c79 hf => ?_) (fun c79 hf => ?_)
              · refine z_iload_n (q := 93) (i := 3) C 0 dX9_firstAt_92 rfl rfl rfl ?_
                refine z_bipush (q := 95) C (10 : Int32) dX9_firstAt_93 kb_10 rfl ?_
                refine z_irem (q := 96) C dX9_firstAt_95 hf rfl fun v4 hf => ?_
                refine z_lv [] rfl ?_
                exact j96_0 v4 a0 σ hf
              · refine z_iload_n (q := 83) (i := 3) C 0 dX9_firstAt_82 rfl rfl rfl ?_
                refine z_bipush (q := 85) C (10 : Int32) dX9_firstAt_83 kb_10 rfl ?_
                refine z_idiv (q := 86) C dX9_firstAt_85 hf rfl fun v5 hf => ?_
                refine z_bipush (q := 88) C (10 : Int32) dX9_firstAt_86 kb_10 rfl ?_
                refine z_irem (q := 89) C dX9_firstAt_88 hf rfl fun v6 hf => ?_
                refine z_goto (q := 96) C dX9_firstAt_89 (by decide) ?_
                refine z_lv [] rfl ?_
                exact j96_0 v6 a0 σ hf
            · refine z_aload_n (q := 63) (i := 0) C 1 dX9_firstAt_62 rfl rfl rfl ?_
              refine z_iload_n (q := 64) (i := 3) C 0 dX9_firstAt_63 rfl rfl rfl ?_
              refine z_bipush (q := 66) C (100 : Int32) dX9_firstAt_64 kb_100 rfl ?_
              refine z_idiv (q := 67) C dX9_firstAt_66 hf rfl fun v7 hf => ?_
              refine z_bipush (q := 69) C (10 : Int32) dX9_firstAt_67 kb_10 rfl ?_
              refine z_irem (q := 70) C dX9_firstAt_69 hf rfl fun v8 hf => ?_
              refine z_callVi (q := 73) (As := [.int v8]) C (fun o ho => m_X9_gives _ _ _ ho) zk9 vvX9_107 cdX9_gives pnX9 dX9_firstAt_70 rfl (by decide) (Nat.le_of_ble_eq_true rfl) hf rfl fun v9 σ hf => ?_
              refine z_goto (q := 101) C dX9_firstAt_73 (by decide) ?_
              refine z_lv [] rfl ?_
              exact j101_0 v9 σ hf
          · refine z_aload_n (q := 46) (i := 0) C 1 dX9_firstAt_45 rfl rfl rfl ?_
            refine z_iload_n (q := 47) (i := 3) C 0 dX9_firstAt_46 rfl rfl rfl ?_
            refine z_sipush (q := 50) C (1000 : Int32) dX9_firstAt_47 ks_1000 rfl ?_
            refine z_idiv (q := 51) C dX9_firstAt_50 hf rfl fun v10 hf => ?_
            refine z_callVi (q := 54) (As := [.int v10]) C (fun o ho => m_X9_gives _ _ _ ho) zk9 vvX9_107 cdX9_gives pnX9 dX9_firstAt_51 rfl (by decide) (Nat.le_of_ble_eq_true rfl) hf rfl fun v11 σ hf => ?_
            refine z_goto (q := 101) C dX9_firstAt_54 (by decide) ?_
            refine z_lv [] rfl ?_
            exact j101_0 v11 σ hf
        · refine z_lv [0] rfl ?_
          exact j27_0 a0 σ hf
    · refine z_lv [0] rfl ?_
      exact j9_0 a0 σ hf

noncomputable def f_X9_reach_L22 (c0_22 : Nat) (c1_22 : Int32) (i_3 : Int32) (i_4 : Int32) (σ : ZT) : Option ((Int32 × Int32 × ZT) ⊕ (Int32 × ZT)) :=
  (gI 9 937 c0_22 σ).bind fun v5 =>
  if i_4 < v5 then
  ((gR 9 935 c0_22 σ).bind fun v7 =>
  (ldI 0 v7 i_4 σ).bind fun v8 =>
  (vc 9 c0_22 σ (f_X9_opens c0_22 v8 σ)).bind fun σ =>
  (gR 9 924 c0_22 σ).bind fun v10 =>
  (ldI 0 v10 c1_22 σ).bind fun v11 =>
  some (.inl ((i_3 ||| ((1 : Int32) <<< (v11 &&& 31))), (i_4 + (1 : Int32)), σ)))
  else
  (some (.inr (i_3, σ)))
noncomputable def f_X9_reach (a0 : Nat) (i1 : Int32) (σ : ZT) : Option (Int32 × ZT) :=
  bnd2 (vc 9 a0 σ (f_X9_isPerson a0 i1 σ)) fun v1 σ =>
  if v1 = 0 then
  (bnd2 (vc 9 a0 σ (f_X9_refuse a0 (1 : Int32) σ)) fun v14 σ =>
  some (v14, σ))
  else
  ((vc 9 a0 σ (f_X9_comes a0 σ)).bind fun σ =>
  (loopC (fun s : (Int32 × Int32 × ZT) => f_X9_reach_L22 a0 i1 s.1 s.2.1 s.2.2) ((0 : Int32), (0 : Int32), σ)).bind fun x => (match x with
  | (x12, σ) => bnd2 (vc 9 a0 σ (f_X9_gives a0 x12 σ)) fun v13 σ =>
  some (v13, σ)))
set_option maxHeartbeats 4000000 in
theorem m_X9_reach {l : Launch} {G : ZG} (a0 : Nat) (i1 : Int32) (σ : ZT) {out : (Int32 × ZT)} (hf : f_X9_reach a0 i1 σ = some out) : ZM l G yX9_reach cX9_reach 4 (some .int) [] 9 [.ref a0, .int i1] σ (.returned (some (.int out.1))) out.2 := by
  refine ZM.of [(0, .ref a0), (1, .int i1)] rfl (Nat.le_of_ble_eq_true rfl) fun X (C : ZC G RX9 "reach" cX9_reach 4 (some .int) [] X 9) => ?_
  unfold f_X9_reach at hf
  refine z_aload_n (q := 1) (i := 0) C 0 dX9_reach_0 rfl rfl rfl ?_
  refine z_iload_n (q := 2) (i := 1) C 1 dX9_reach_1 rfl rfl rfl ?_
  refine z_callVi (q := 5) (As := [.int i1]) C (fun o ho => m_X9_isPerson _ _ _ ho) zk9 vvX9_297 cdX9_isPerson pnX9 dX9_reach_2 rfl (by decide) (Nat.le_of_ble_eq_true rfl) hf rfl fun v1 σ hf => ?_
  refine z_ifne (q := 8) (tgt := 14) C dX9_reach_5 (by decide) rfl hf (fun c5 hf => ?_) (fun c5 hf => ?_)
  · refine z_aload_n (q := 15) (i := 0) C 0 dX9_reach_14 rfl rfl rfl ?_
    refine z_callVv (q := 18) (As := []) C (fun o ho => m_X9_comes _ _ ho) zk9 vvX9_385 cdX9_comes pnX9 dX9_reach_15 rfl (by decide) (Nat.le_of_ble_eq_true rfl) hf rfl fun σ hf => ?_
    refine z_iconst (q := 19) C (0 : Int32) dX9_reach_18 ki_0 rfl ?_
    refine z_istore_n (q := 20) (i := 2) (lv' := [(2, .int (0 : Int32)), (0, .ref a0), (1, .int i1)]) C dX9_reach_19 rfl (by decide) rfl rfl ?_
    refine z_iconst (q := 21) C (0 : Int32) dX9_reach_20 ki_0 rfl ?_
    refine z_istore_n (q := 22) (i := 3) (lv' := [(3, .int (0 : Int32)), (2, .int (0 : Int32)), (0, .ref a0), (1, .int i1)]) C dX9_reach_21 rfl (by decide) rfl rfl ?_
    refine z_lv [2, 3, 1, 0] rfl ?_
    obtain ⟨r1, hr1, hk1⟩ := Option.bind_eq_some_iff.mp hf
    refine loopC_ind (P := fun s => ZW l G 4 X (ZQ G X (.returned (some (.int out.1))) out.2) s.2.2 22 [(0, .ref a0), (1, .int i1), (2, .int s.1), (3, .int s.2.1)] []) (fun s x1 hf hx1 => ?_) hr1
    obtain ⟨i_3, i_4, σ⟩ := s
    unfold f_X9_reach_L22 at hf
    try dsimp only at hf
    try dsimp only
    refine z_iload_n (q := 23) (i := 3) C 3 dX9_reach_22 rfl rfl rfl ?_
    refine z_aload_n (q := 24) (i := 0) C 0 dX9_reach_23 rfl rfl rfl ?_
    refine z_getI (q := 27) C flX9_373 dX9_reach_24 hf rfl fun v5 hf => ?_
    refine z_icmpge (q := 30) (tgt := 57) C dX9_reach_27 (by decide) rfl hf (fun c27 hf => ?_) (fun c27 hf => ?_)
    · have e1 := zl_x hf hx1
      have hf := hk1
      rw [← e1] at hf
      try dsimp only at hf
      refine z_aload_n (q := 58) (i := 0) C 0 dX9_reach_57 rfl rfl rfl ?_
      refine z_iload_n (q := 59) (i := 2) C 2 dX9_reach_58 rfl rfl rfl ?_
      refine z_callVi (q := 62) (As := [.int i_3]) C (fun o ho => m_X9_gives _ _ _ ho) zk9 vvX9_107 cdX9_gives pnX9 dX9_reach_59 rfl (by decide) (Nat.le_of_ble_eq_true rfl) hf rfl fun v6 σ hf => ?_
      exact z_ireturn C rfl dX9_reach_62 (Option.some.inj hf)
    · refine z_aload_n (q := 31) (i := 0) C 0 dX9_reach_30 rfl rfl rfl ?_
      refine z_aload_n (q := 32) (i := 0) C 0 dX9_reach_31 rfl rfl rfl ?_
      refine z_getR (q := 35) C flX9_72 dX9_reach_32 hf rfl fun v7 hf => ?_
      refine z_iload_n (q := 36) (i := 3) C 3 dX9_reach_35 rfl rfl rfl ?_
      refine z_iald (q := 37) C dX9_reach_36 hf rfl fun v8 hf => ?_
      refine z_callVv (q := 40) (As := [.int v8]) C (fun o ho => m_X9_opens _ _ _ ho) zk9 vvX9_361 cdX9_opens pnX9 dX9_reach_37 rfl (by decide) (Nat.le_of_ble_eq_true rfl) hf rfl fun σ hf => ?_
      refine z_iload_n (q := 41) (i := 2) C 2 dX9_reach_40 rfl rfl rfl ?_
      refine z_iconst (q := 42) C (1 : Int32) dX9_reach_41 ki_1 rfl ?_
      refine z_aload_n (q := 43) (i := 0) C 0 dX9_reach_42 rfl rfl rfl ?_
      refine z_getR (q := 46) C flX9_47 dX9_reach_43 hf rfl fun v10 hf => ?_
      refine z_iload_n (q := 47) (i := 1) C 1 dX9_reach_46 rfl rfl rfl ?_
      refine z_iald (q := 48) C dX9_reach_47 hf rfl fun v11 hf => ?_
      refine z_ishl (q := 49) C dX9_reach_48 rfl ?_
      refine z_ior (q := 50) C dX9_reach_49 rfl ?_
      refine z_istore_n (q := 51) (i := 2) (lv' := [(2, .int (i_3 ||| ((1 : Int32) <<< (v11 &&& 31)))), (0, .ref a0), (1, .int i1), (3, .int i_4)]) C dX9_reach_50 rfl (by decide) rfl rfl ?_
      refine z_iinc (q := 54) (i := 3) (lv' := [(3, .int (i_4 + (1 : Int32))), (2, .int (i_3 ||| ((1 : Int32) <<< (v11 &&& 31)))), (0, .ref a0), (1, .int i1)]) C 3 (i_4 + (1 : Int32)) dX9_reach_51 rfl (kn_1 _) (by decide) rfl rfl ?_
      refine z_goto (q := 22) C dX9_reach_54 (by decide) ?_
      refine z_lv [2, 3, 1, 0] rfl ?_
      have hc1 := zl_c hf hx1
      exact hc1
  · refine z_aload_n (q := 9) (i := 0) C 0 dX9_reach_8 rfl rfl rfl ?_
    refine z_iconst (q := 10) C (1 : Int32) dX9_reach_9 ki_1 rfl ?_
    refine z_callVi (q := 13) (As := [.int (1 : Int32)]) C (fun o ho => m_X9_refuse _ _ _ ho) zk9 vvX9_103 cdX9_refuse pnX9 dX9_reach_10 rfl (by decide) (Nat.le_of_ble_eq_true rfl) hf rfl fun v12 σ hf => ?_
    exact z_ireturn C rfl dX9_reach_13 (Option.some.inj hf)

noncomputable def f_X9_fewest_L28 (c0_28 : Nat) (c1_28 : Int32) (c2_28 : Int32) (i_4 : Int32) (σ : ZT) : Option ((Int32 × ZT) ⊕ ((Int32 × ZT) ⊕ ZT)) :=
  (gI 9 937 c0_28 σ).bind fun v5 =>
  if i_4 < v5 then
  ((gR 9 935 c0_28 σ).bind fun v7 =>
  (ldI 0 v7 i_4 σ).bind fun v8 =>
  (vc 9 c0_28 σ (f_X9_opens c0_28 v8 σ)).bind fun σ =>
  (gR 9 924 c0_28 σ).bind fun v10 =>
  (ldI 0 v10 c1_28 σ).bind fun v11 =>
  if v11 = c2_28 then
  ((gR 9 934 c0_28 σ).bind fun v12 =>
  (gR 9 935 c0_28 σ).bind fun v13 =>
  (ldI 0 v13 i_4 σ).bind fun v14 =>
  (ldI 0 v12 v14 σ).bind fun v15 =>
  bnd2 (vc 9 c0_28 σ (f_X9_gives c0_28 v15 σ)) fun v16 σ =>
  some (.inr (.inl (v16, σ))))
  else
  (some (.inl ((i_4 + (1 : Int32)), σ))))
  else
  (some (.inr (.inr σ)))
noncomputable def f_X9_fewest_J16 (a0_16 : Nat) (σ : ZT) : Option (Int32 × ZT) :=
  bnd2 (vc 9 a0_16 σ (f_X9_refuse a0_16 (1 : Int32) σ)) fun v18 σ =>
  some (v18, σ)
noncomputable def f_X9_fewest (a0 : Nat) (i1 : Int32) (i2 : Int32) (σ : ZT) : Option (Int32 × ZT) :=
  bnd2 (vc 9 a0 σ (f_X9_isPerson a0 i1 σ)) fun v1 σ =>
  if v1 = 0 then
  (f_X9_fewest_J16 a0 σ)
  else
  (bnd2 (vc 9 a0 σ (f_X9_isPlace a0 i2 σ)) fun v2 σ =>
  if v2 = 0 then
  (f_X9_fewest_J16 a0 σ)
  else
  ((vc 9 a0 σ (f_X9_comes a0 σ)).bind fun σ =>
  (loopC (fun s : (Int32 × ZT) => f_X9_fewest_L28 a0 i1 i2 s.1 s.2) ((0 : Int32), σ)).bind fun x => (match x with
  | .inl o => some o
  | .inr σ => bnd2 (vc 9 a0 σ (f_X9_refuse a0 (6 : Int32) σ)) fun v17 σ =>
  some (v17, σ))))
set_option maxHeartbeats 4000000 in
theorem m_X9_fewest {l : Launch} {G : ZG} (a0 : Nat) (i1 : Int32) (i2 : Int32) (σ : ZT) {out : (Int32 × ZT)} (hf : f_X9_fewest a0 i1 i2 σ = some out) : ZM l G yX9_fewest cX9_fewest 4 (some .int) [] 9 [.ref a0, .int i1, .int i2] σ (.returned (some (.int out.1))) out.2 := by
  refine ZM.of [(0, .ref a0), (1, .int i1), (2, .int i2)] rfl (Nat.le_of_ble_eq_true rfl) fun X (C : ZC G RX9 "fewest" cX9_fewest 4 (some .int) [] X 9) => ?_
  unfold f_X9_fewest at hf
  have j16_0 : ∀ (a0_16 : Nat) (σ : ZT), f_X9_fewest_J16 a0_16 σ = some out → ZW l G 4 X (ZQ G X (.returned (some (.int out.1))) out.2) σ 16 [(0, .ref a0_16)] [] := by
    intro a0_16 σ hf
    unfold f_X9_fewest_J16 at hf
    refine z_aload_n (q := 17) (i := 0) C 0 dX9_fewest_16 rfl rfl rfl ?_
    refine z_iconst (q := 18) C (1 : Int32) dX9_fewest_17 ki_1 rfl ?_
    refine z_callVi (q := 21) (As := [.int (1 : Int32)]) C (fun o ho => m_X9_refuse _ _ _ ho) zk9 vvX9_103 cdX9_refuse pnX9 dX9_fewest_18 rfl (by decide) (Nat.le_of_ble_eq_true rfl) hf rfl fun v17 σ hf => ?_
    exact z_ireturn C rfl dX9_fewest_21 (Option.some.inj hf)
  refine z_aload_n (q := 1) (i := 0) C 0 dX9_fewest_0 rfl rfl rfl ?_
  refine z_iload_n (q := 2) (i := 1) C 1 dX9_fewest_1 rfl rfl rfl ?_
  refine z_callVi (q := 5) (As := [.int i1]) C (fun o ho => m_X9_isPerson _ _ _ ho) zk9 vvX9_297 cdX9_isPerson pnX9 dX9_fewest_2 rfl (by decide) (Nat.le_of_ble_eq_true rfl) hf rfl fun v1 σ hf => ?_
  refine z_ifeq (q := 8) (tgt := 16) C dX9_fewest_5 (by decide) rfl hf (fun c5 hf => ?_) (fun c5 hf => ?_)
  · refine z_lv [0] rfl ?_
    exact j16_0 a0 σ hf
  · refine z_aload_n (q := 9) (i := 0) C 0 dX9_fewest_8 rfl rfl rfl ?_
    refine z_iload_n (q := 10) (i := 2) C 2 dX9_fewest_9 rfl rfl rfl ?_
    refine z_callVi (q := 13) (As := [.int i2]) C (fun o ho => m_X9_isPlace _ _ _ ho) zk9 vvX9_303 cdX9_isPlace pnX9 dX9_fewest_10 rfl (by decide) (Nat.le_of_ble_eq_true rfl) hf rfl fun v2 σ hf => ?_
    refine z_ifne (q := 16) (tgt := 22) C dX9_fewest_13 (by decide) rfl hf (fun c13 hf => ?_) (fun c13 hf => ?_)
    · refine z_aload_n (q := 23) (i := 0) C 0 dX9_fewest_22 rfl rfl rfl ?_
      refine z_callVv (q := 26) (As := []) C (fun o ho => m_X9_comes _ _ ho) zk9 vvX9_385 cdX9_comes pnX9 dX9_fewest_23 rfl (by decide) (Nat.le_of_ble_eq_true rfl) hf rfl fun σ hf => ?_
      refine z_iconst (q := 27) C (0 : Int32) dX9_fewest_26 ki_0 rfl ?_
      refine z_istore_n (q := 28) (i := 3) (lv' := [(3, .int (0 : Int32)), (0, .ref a0), (1, .int i1), (2, .int i2)]) C dX9_fewest_27 rfl (by decide) rfl rfl ?_
      refine z_lv [1, 2, 3, 0] rfl ?_
      obtain ⟨r1, hr1, hk1⟩ := Option.bind_eq_some_iff.mp hf
      refine loopC_ind (P := fun s => ZW l G 4 X (ZQ G X (.returned (some (.int out.1))) out.2) s.2 28 [(0, .ref a0), (1, .int i1), (2, .int i2), (3, .int s.1)] []) (fun s x1 hf hx1 => ?_) hr1
      obtain ⟨i_4, σ⟩ := s
      unfold f_X9_fewest_L28 at hf
      try dsimp only at hf
      try dsimp only
      refine z_iload_n (q := 29) (i := 3) C 3 dX9_fewest_28 rfl rfl rfl ?_
      refine z_aload_n (q := 30) (i := 0) C 0 dX9_fewest_29 rfl rfl rfl ?_
      refine z_getI (q := 33) C flX9_373 dX9_fewest_30 hf rfl fun v5 hf => ?_
      refine z_icmpge (q := 36) (tgt := 78) C dX9_fewest_33 (by decide) rfl hf (fun c33 hf => ?_) (fun c33 hf => ?_)
      · have e1 := zl_x hf hx1
        have hf := hk1
        rw [← e1] at hf
        try dsimp only at hf
        refine z_aload_n (q := 79) (i := 0) C 0 dX9_fewest_78 rfl rfl rfl ?_
        refine z_bipush (q := 81) C (6 : Int32) dX9_fewest_79 kb_6 rfl ?_
        refine z_callVi (q := 84) (As := [.int (6 : Int32)]) C (fun o ho => m_X9_refuse _ _ _ ho) zk9 vvX9_103 cdX9_refuse pnX9 dX9_fewest_81 rfl (by decide) (Nat.le_of_ble_eq_true rfl) hf rfl fun v6 σ hf => ?_
        exact z_ireturn C rfl dX9_fewest_84 (Option.some.inj hf)
      · refine z_aload_n (q := 37) (i := 0) C 0 dX9_fewest_36 rfl rfl rfl ?_
        refine z_aload_n (q := 38) (i := 0) C 0 dX9_fewest_37 rfl rfl rfl ?_
        refine z_getR (q := 41) C flX9_72 dX9_fewest_38 hf rfl fun v7 hf => ?_
        refine z_iload_n (q := 42) (i := 3) C 3 dX9_fewest_41 rfl rfl rfl ?_
        refine z_iald (q := 43) C dX9_fewest_42 hf rfl fun v8 hf => ?_
        refine z_callVv (q := 46) (As := [.int v8]) C (fun o ho => m_X9_opens _ _ _ ho) zk9 vvX9_361 cdX9_opens pnX9 dX9_fewest_43 rfl (by decide) (Nat.le_of_ble_eq_true rfl) hf rfl fun σ hf => ?_
        refine z_aload_n (q := 47) (i := 0) C 0 dX9_fewest_46 rfl rfl rfl ?_
        refine z_getR (q := 50) C flX9_47 dX9_fewest_47 hf rfl fun v10 hf => ?_
        refine z_iload_n (q := 51) (i := 1) C 1 dX9_fewest_50 rfl rfl rfl ?_
        refine z_iald (q := 52) C dX9_fewest_51 hf rfl fun v11 hf => ?_
        refine z_iload_n (q := 53) (i := 2) C 2 dX9_fewest_52 rfl rfl rfl ?_
        refine z_icmpne (q := 56) (tgt := 72) C dX9_fewest_53 (by decide) rfl hf (fun c53 hf => ?_) (fun c53 hf => ?_)
        · refine z_iinc (q := 75) (i := 3) (lv' := [(3, .int (i_4 + (1 : Int32))), (0, .ref a0), (1, .int i1), (2, .int i2)]) C 3 (i_4 + (1 : Int32)) dX9_fewest_72 rfl (kn_1 _) (by decide) rfl rfl ?_
          refine z_goto (q := 28) C dX9_fewest_75 (by decide) ?_
          refine z_lv [1, 2, 3, 0] rfl ?_
          have hc1 := zl_c hf hx1
          exact hc1
        · refine z_aload_n (q := 57) (i := 0) C 0 dX9_fewest_56 rfl rfl rfl ?_
          refine z_aload_n (q := 58) (i := 0) C 0 dX9_fewest_57 rfl rfl rfl ?_
          refine z_getR (q := 61) C flX9_69 dX9_fewest_58 hf rfl fun v12 hf => ?_
          refine z_aload_n (q := 62) (i := 0) C 0 dX9_fewest_61 rfl rfl rfl ?_
          refine z_getR (q := 65) C flX9_72 dX9_fewest_62 hf rfl fun v13 hf => ?_
          refine z_iload_n (q := 66) (i := 3) C 3 dX9_fewest_65 rfl rfl rfl ?_
          refine z_iald (q := 67) C dX9_fewest_66 hf rfl fun v14 hf => ?_
          refine z_iald (q := 68) C dX9_fewest_67 hf rfl fun v15 hf => ?_
          refine z_callVi (q := 71) (As := [.int v15]) C (fun o ho => m_X9_gives _ _ _ ho) zk9 vvX9_107 cdX9_gives pnX9 dX9_fewest_68 rfl (by decide) (Nat.le_of_ble_eq_true rfl) hf rfl fun v16 σ hf => ?_
          have e1 := zl_x hf hx1
          have hf := hk1
          rw [← e1] at hf
          try dsimp only at hf
          exact z_ireturn C rfl dX9_fewest_71 (Option.some.inj hf)
    · refine z_lv [0] rfl ?_
      exact j16_0 a0 σ hf

noncomputable def f_X9_states (a0 : Nat) (σ : ZT) : Option (Int32 × ZT) :=
  (vc 9 a0 σ (f_X9_comes a0 σ)).bind fun σ =>
  (gI 9 937 a0 σ).bind fun v2 =>
  bnd2 (vc 9 a0 σ (f_X9_gives a0 v2 σ)) fun v3 σ =>
  some (v3, σ)
set_option maxHeartbeats 4000000 in
theorem m_X9_states {l : Launch} {G : ZG} (a0 : Nat) (σ : ZT) {out : (Int32 × ZT)} (hf : f_X9_states a0 σ = some out) : ZM l G yX9_states cX9_states 1 (some .int) [] 9 [.ref a0] σ (.returned (some (.int out.1))) out.2 := by
  refine ZM.of [(0, .ref a0)] rfl (Nat.le_of_ble_eq_true rfl) fun X (C : ZC G RX9 "states" cX9_states 1 (some .int) [] X 9) => ?_
  unfold f_X9_states at hf
  refine z_aload_n (q := 1) (i := 0) C 0 dX9_states_0 rfl rfl rfl ?_
  refine z_callVv (q := 4) (As := []) C (fun o ho => m_X9_comes _ _ ho) zk9 vvX9_385 cdX9_comes pnX9 dX9_states_1 rfl (by decide) (Nat.le_of_ble_eq_true rfl) hf rfl fun σ hf => ?_
  refine z_aload_n (q := 5) (i := 0) C 0 dX9_states_4 rfl rfl rfl ?_
  refine z_aload_n (q := 6) (i := 0) C 0 dX9_states_5 rfl rfl rfl ?_
  refine z_getI (q := 9) C flX9_373 dX9_states_6 hf rfl fun v2 hf => ?_
  refine z_callVi (q := 12) (As := [.int v2]) C (fun o ho => m_X9_gives _ _ _ ho) zk9 vvX9_107 cdX9_gives pnX9 dX9_states_9 rfl (by decide) (Nat.le_of_ble_eq_true rfl) hf rfl fun v3 σ hf => ?_
  exact z_ireturn C rfl dX9_states_12 (Option.some.inj hf)

noncomputable def f_X9_most_J75_46 (a0_75 : Nat) (i1_75 : Int32) (i2_75 : Int32) (i3_75 : Int32) (i5_75 : Int32) (w0_75 : Int32) (w1_75 : Int32) (σ : ZT) : Option ((Int32 × Int32 × ZT) ⊕ (Int32 × ZT)) :=
  some (.inl ((w1_75 + w0_75), (i5_75 + (1 : Int32)), σ))
noncomputable def f_X9_most_L46 (c0_46 : Nat) (c1_46 : Int32) (c2_46 : Int32) (c3_46 : Int32) (i_10 : Int32) (i_11 : Int32) (σ : ZT) : Option ((Int32 × Int32 × ZT) ⊕ (Int32 × ZT)) :=
  (gR 9 900 c0_46 σ).bind fun v12 =>
  (ldI 0 v12 (2 : Int32) σ).bind fun v13 =>
  if i_11 < v13 then
  ((gR 9 924 c0_46 σ).bind fun v14 =>
  (ldI 0 v14 i_11 σ).bind fun v15 =>
  if v15 = c1_46 then
  (f_X9_most_J75_46 c0_46 c1_46 c2_46 c3_46 i_11 (1 : Int32) i_10 σ)
  else
  (f_X9_most_J75_46 c0_46 c1_46 c2_46 c3_46 i_11 (0 : Int32) i_10 σ))
  else
  (some (.inr (i_10, σ)))
noncomputable def f_X9_most_J96_22 (a0_96 : Nat) (i1_96 : Int32) (i3_96 : Int32) (w0_96 : Int32) (σ : ZT) : Option ((Int32 × Int32 × ZT) ⊕ (Int32 × ZT)) :=
  some (.inl (w0_96, (i3_96 + (1 : Int32)), σ))
noncomputable def f_X9_most_L22 (c0_22 : Nat) (c1_22 : Int32) (i_3 : Int32) (i_4 : Int32) (σ : ZT) : Option ((Int32 × Int32 × ZT) ⊕ (Int32 × ZT)) :=
  (gI 9 937 c0_22 σ).bind fun v5 =>
  if i_4 < v5 then
  ((gR 9 935 c0_22 σ).bind fun v7 =>
  (ldI 0 v7 i_4 σ).bind fun v8 =>
  (vc 9 c0_22 σ (f_X9_opens c0_22 v8 σ)).bind fun σ =>
  (loopC (fun s : (Int32 × Int32 × ZT) => f_X9_most_L46 c0_22 c1_22 i_3 i_4 s.1 s.2.1 s.2.2) ((0 : Int32), (0 : Int32), σ)).bind fun x => (match x with
  | (x16, σ) => if i_3 < x16 then
  (f_X9_most_J96_22 c0_22 c1_22 i_4 x16 σ)
  else
  (f_X9_most_J96_22 c0_22 c1_22 i_4 i_3 σ)))
  else
  (some (.inr (i_3, σ)))
noncomputable def f_X9_most (a0 : Nat) (i1 : Int32) (σ : ZT) : Option (Int32 × ZT) :=
  bnd2 (vc 9 a0 σ (f_X9_isPlace a0 i1 σ)) fun v1 σ =>
  if v1 = 0 then
  (bnd2 (vc 9 a0 σ (f_X9_refuse a0 (1 : Int32) σ)) fun v19 σ =>
  some (v19, σ))
  else
  ((vc 9 a0 σ (f_X9_comes a0 σ)).bind fun σ =>
  (loopC (fun s : (Int32 × Int32 × ZT) => f_X9_most_L22 a0 i1 s.1 s.2.1 s.2.2) ((0 : Int32), (0 : Int32), σ)).bind fun x => (match x with
  | (x17, σ) => bnd2 (vc 9 a0 σ (f_X9_gives a0 x17 σ)) fun v18 σ =>
  some (v18, σ)))
set_option maxHeartbeats 4000000 in
theorem m_X9_most {l : Launch} {G : ZG} (a0 : Nat) (i1 : Int32) (σ : ZT) {out : (Int32 × ZT)} (hf : f_X9_most a0 i1 σ = some out) : ZM l G yX9_most cX9_most 6 (some .int) [] 9 [.ref a0, .int i1] σ (.returned (some (.int out.1))) out.2 := by
  refine ZM.of [(0, .ref a0), (1, .int i1)] rfl (Nat.le_of_ble_eq_true rfl) fun X (C : ZC G RX9 "most" cX9_most 6 (some .int) [] X 9) => ?_
  unfold f_X9_most at hf
  refine z_aload_n (q := 1) (i := 0) C 0 dX9_most_0 rfl rfl rfl ?_
  refine z_iload_n (q := 2) (i := 1) C 1 dX9_most_1 rfl rfl rfl ?_
  refine z_callVi (q := 5) (As := [.int i1]) C (fun o ho => m_X9_isPlace _ _ _ ho) zk9 vvX9_303 cdX9_isPlace pnX9 dX9_most_2 rfl (by decide) (Nat.le_of_ble_eq_true rfl) hf rfl fun v1 σ hf => ?_
  refine z_ifne (q := 8) (tgt := 14) C dX9_most_5 (by decide) rfl hf (fun c5 hf => ?_) (fun c5 hf => ?_)
  · refine z_aload_n (q := 15) (i := 0) C 0 dX9_most_14 rfl rfl rfl ?_
    refine z_callVv (q := 18) (As := []) C (fun o ho => m_X9_comes _ _ ho) zk9 vvX9_385 cdX9_comes pnX9 dX9_most_15 rfl (by decide) (Nat.le_of_ble_eq_true rfl) hf rfl fun σ hf => ?_
    refine z_iconst (q := 19) C (0 : Int32) dX9_most_18 ki_0 rfl ?_
    refine z_istore_n (q := 20) (i := 2) (lv' := [(2, .int (0 : Int32)), (0, .ref a0), (1, .int i1)]) C dX9_most_19 rfl (by decide) rfl rfl ?_
    refine z_iconst (q := 21) C (0 : Int32) dX9_most_20 ki_0 rfl ?_
    refine z_istore_n (q := 22) (i := 3) (lv' := [(3, .int (0 : Int32)), (2, .int (0 : Int32)), (0, .ref a0), (1, .int i1)]) C dX9_most_21 rfl (by decide) rfl rfl ?_
    refine z_lv [2, 3, 1, 0] rfl ?_
    obtain ⟨r1, hr1, hk1⟩ := Option.bind_eq_some_iff.mp hf
    refine loopC_ind (P := fun s => ZW l G 6 X (ZQ G X (.returned (some (.int out.1))) out.2) s.2.2 22 [(0, .ref a0), (1, .int i1), (2, .int s.1), (3, .int s.2.1)] []) (fun s x1 hf hx1 => ?_) hr1
    obtain ⟨i_3, i_4, σ⟩ := s
    unfold f_X9_most_L22 at hf
    try dsimp only at hf
    try dsimp only
    have j96_1 : ∀ (i3_96 : Int32) (w0_96 : Int32) (σ : ZT), f_X9_most_J96_22 a0 i1 i3_96 w0_96 σ = some x1 → ZW l G 6 X (ZQ G X (.returned (some (.int out.1))) out.2) σ 96 [(0, .ref a0), (1, .int i1), (3, .int i3_96)] [.int w0_96] := by
      intro i3_96 w0_96 σ hf
      unfold f_X9_most_J96_22 at hf
      refine z_istore_n (q := 97) (i := 2) (lv' := [(2, .int w0_96), (0, .ref a0), (1, .int i1), (3, .int i3_96)]) C dX9_most_96 rfl (by decide) rfl rfl ?_
      refine z_iinc (q := 100) (i := 3) (lv' := [(3, .int (i3_96 + (1 : Int32))), (2, .int w0_96), (0, .ref a0), (1, .int i1)]) C 3 (i3_96 + (1 : Int32)) dX9_most_97 rfl (kn_1 _) (by decide) rfl rfl ?_
      refine z_goto (q := 22) C dX9_most_100 (by decide) ?_
      refine z_lv [2, 3, 1, 0] rfl ?_
      have hc1 := zl_c hf hx1
      exact hc1
    refine z_iload_n (q := 23) (i := 3) C 3 dX9_most_22 rfl rfl rfl ?_
    refine z_aload_n (q := 24) (i := 0) C 0 dX9_most_23 rfl rfl rfl ?_
    refine z_getI (q := 27) C flX9_373 dX9_most_24 hf rfl fun v5 hf => ?_
    refine z_icmpge (q := 30) (tgt := 103) C dX9_most_27 (by decide) rfl hf (fun c27 hf => ?_) (fun c27 hf => ?_)
    · have e1 := zl_x hf hx1
      have hf := hk1
      rw [← e1] at hf
      try dsimp only at hf
      refine z_aload_n (q := 104) (i := 0) C 0 dX9_most_103 rfl rfl rfl ?_
      refine z_iload_n (q := 105) (i := 2) C 2 dX9_most_104 rfl rfl rfl ?_
      refine z_callVi (q := 108) (As := [.int i_3]) C (fun o ho => m_X9_gives _ _ _ ho) zk9 vvX9_107 cdX9_gives pnX9 dX9_most_105 rfl (by decide) (Nat.le_of_ble_eq_true rfl) hf rfl fun v6 σ hf => ?_
      exact z_ireturn C rfl dX9_most_108 (Option.some.inj hf)
    · refine z_aload_n (q := 31) (i := 0) C 0 dX9_most_30 rfl rfl rfl ?_
      refine z_aload_n (q := 32) (i := 0) C 0 dX9_most_31 rfl rfl rfl ?_
      refine z_getR (q := 35) C flX9_72 dX9_most_32 hf rfl fun v7 hf => ?_
      refine z_iload_n (q := 36) (i := 3) C 3 dX9_most_35 rfl rfl rfl ?_
      refine z_iald (q := 37) C dX9_most_36 hf rfl fun v8 hf => ?_
      refine z_callVv (q := 40) (As := [.int v8]) C (fun o ho => m_X9_opens _ _ _ ho) zk9 vvX9_361 cdX9_opens pnX9 dX9_most_37 rfl (by decide) (Nat.le_of_ble_eq_true rfl) hf rfl fun σ hf => ?_
      refine z_iconst (q := 41) C (0 : Int32) dX9_most_40 ki_0 rfl ?_
      refine z_istore (q := 43) (i := 4) (lv' := [(4, .int (0 : Int32)), (0, .ref a0), (1, .int i1), (2, .int i_3), (3, .int i_4)]) C dX9_most_41 (by decide) rfl rfl ?_
      refine z_iconst (q := 44) C (0 : Int32) dX9_most_43 ki_0 rfl ?_
      refine z_istore (q := 46) (i := 5) (lv' := [(5, .int (0 : Int32)), (4, .int (0 : Int32)), (0, .ref a0), (1, .int i1), (2, .int i_3), (3, .int i_4)]) C dX9_most_44 (by decide) rfl rfl ?_
      refine z_lv [2, 3, 4, 5, 1, 0] rfl ?_
      obtain ⟨r2, hr2, hk2⟩ := Option.bind_eq_some_iff.mp hf
      refine loopC_ind (P := fun s => ZW l G 6 X (ZQ G X (.returned (some (.int out.1))) out.2) s.2.2 46 [(0, .ref a0), (1, .int i1), (2, .int i_3), (3, .int i_4), (4, .int s.1), (5, .int s.2.1)] []) (fun s x2 hf hx2 => ?_) hr2
      obtain ⟨i_10, i_11, σ⟩ := s
      unfold f_X9_most_L46 at hf
      try dsimp only at hf
      try dsimp only
      have j75_2 : ∀ (i5_75 : Int32) (w0_75 : Int32) (w1_75 : Int32) (σ : ZT), f_X9_most_J75_46 a0 i1 i_3 i_4 i5_75 w0_75 w1_75 σ = some x2 → ZW l G 6 X (ZQ G X (.returned (some (.int out.1))) out.2) σ 75 [(0, .ref a0), (1, .int i1), (2, .int i_3), (3, .int i_4), (5, .int i5_75)] [.int w0_75, .int w1_75] := by
        intro i5_75 w0_75 w1_75 σ hf
        unfold f_X9_most_J75_46 at hf
        refine z_iadd (q := 76) C dX9_most_75 rfl ?_
        refine z_istore (q := 78) (i := 4) (lv' := [(4, .int (w1_75 + w0_75)), (0, .ref a0), (1, .int i1), (2, .int i_3), (3, .int i_4), (5, .int i5_75)]) C dX9_most_76 (by decide) rfl rfl ?_
        refine z_iinc (q := 81) (i := 5) (lv' := [(5, .int (i5_75 + (1 : Int32))), (4, .int (w1_75 + w0_75)), (0, .ref a0), (1, .int i1), (2, .int i_3), (3, .int i_4)]) C 5 (i5_75 + (1 : Int32)) dX9_most_78 rfl (kn_1 _) (by decide) rfl rfl ?_
        refine z_goto (q := 46) C dX9_most_81 (by decide) ?_
        refine z_lv [2, 3, 4, 5, 1, 0] rfl ?_
        have hc2 := zl_c hf hx2
        exact hc2
      refine z_iload (q := 48) (i := 5) C 5 dX9_most_46 rfl rfl ?_
      refine z_aload_n (q := 49) (i := 0) C 0 dX9_most_48 rfl rfl rfl ?_
      refine z_getR (q := 52) C flX9_7 dX9_most_49 hf rfl fun v12 hf => ?_
      refine z_iconst (q := 53) C (2 : Int32) dX9_most_52 ki_2 rfl ?_
      refine z_iald (q := 54) C dX9_most_53 hf rfl fun v13 hf => ?_
      refine z_icmpge (q := 57) (tgt := 84) C dX9_most_54 (by decide) rfl hf (fun c54 hf => ?_) (fun c54 hf => ?_)
      · have e2 := zl_x hf hx2
        have hf := hk2
        rw [← e2] at hf
        try dsimp only at hf
        refine z_iload (q := 86) (i := 4) C 4 dX9_most_84 rfl rfl ?_
        refine z_iload_n (q := 87) (i := 2) C 2 dX9_most_86 rfl rfl rfl ?_
        refine z_icmple (q := 90) (tgt := 95) C dX9_most_87 (by decide) rfl hf (fun c87 hf => ?_) (fun c87 hf => ?_)
        · refine z_iload_n (q := 96) (i := 2) C 2 dX9_most_95 rfl rfl rfl ?_
          refine z_lv [0, 1, 3] rfl ?_
          exact j96_1 i_4 i_3 σ hf
        · refine z_iload (q := 92) (i := 4) C 4 dX9_most_90 rfl rfl ?_
          refine z_goto (q := 96) C dX9_most_92 (by decide) ?_
          refine z_lv [0, 1, 3] rfl ?_
          exact j96_1 i_4 i_10 σ hf
      · refine z_iload (q := 59) (i := 4) C 4 dX9_most_57 rfl rfl ?_
        refine z_aload_n (q := 60) (i := 0) C 0 dX9_most_59 rfl rfl rfl ?_
        refine z_getR (q := 63) C flX9_47 dX9_most_60 hf rfl fun v14 hf => ?_
        refine z_iload (q := 65) (i := 5) C 5 dX9_most_63 rfl rfl ?_
        refine z_iald (q := 66) C dX9_most_65 hf rfl fun v15 hf => ?_
        refine z_iload_n (q := 67) (i := 1) C 1 dX9_most_66 rfl rfl rfl ?_
        refine z_icmpne (q := 70) (tgt := 74) C dX9_most_67 (by decide) rfl hf (fun c67 hf => ?_) (fun c67 hf => ?_)
        · refine z_iconst (q := 75) C (0 : Int32) dX9_most_74 ki_0 rfl ?_
          refine z_lv [0, 1, 2, 3, 5] rfl ?_
          exact j75_2 i_11 (0 : Int32) i_10 σ hf
        · refine z_iconst (q := 71) C (1 : Int32) dX9_most_70 ki_1 rfl ?_
          refine z_goto (q := 75) C dX9_most_71 (by decide) ?_
          refine z_lv [0, 1, 2, 3, 5] rfl ?_
          exact j75_2 i_11 (1 : Int32) i_10 σ hf
  · refine z_aload_n (q := 9) (i := 0) C 0 dX9_most_8 rfl rfl rfl ?_
    refine z_iconst (q := 10) C (1 : Int32) dX9_most_9 ki_1 rfl ?_
    refine z_callVi (q := 13) (As := [.int (1 : Int32)]) C (fun o ho => m_X9_refuse _ _ _ ho) zk9 vvX9_103 cdX9_refuse pnX9 dX9_most_10 rfl (by decide) (Nat.le_of_ble_eq_true rfl) hf rfl fun v16 σ hf => ?_
    exact z_ireturn C rfl dX9_most_13 (Option.some.inj hf)

noncomputable def f_X9_keepsGood_J126_78 (a0_126 : Nat) (i1_126 : Int32) (i2_126 : Int32) (i4_126 : Int32) (w0_126 : Int32) (σ : ZT) : Option ((Int32 × Int32 × ZT) ⊕ (Int32 × ZT)) :=
  some (.inl (w0_126, (i4_126 + (1 : Int32)), σ))
noncomputable def f_X9_keepsGood_J125_78 (a0_125 : Nat) (i1_125 : Int32) (i2_125 : Int32) (i4_125 : Int32) (σ : ZT) : Option ((Int32 × Int32 × ZT) ⊕ (Int32 × ZT)) :=
  f_X9_keepsGood_J126_78 a0_125 i1_125 i2_125 i4_125 (0 : Int32) σ
noncomputable def f_X9_keepsGood_L78 (c0_78 : Nat) (c1_78 : Int32) (c2_78 : Int32) (i_11 : Int32) (i_12 : Int32) (σ : ZT) : Option ((Int32 × Int32 × ZT) ⊕ (Int32 × ZT)) :=
  (gI 9 933 c0_78 σ).bind fun v13 =>
  if i_12 < v13 then
  (if i_11 = 0 then
  ((gR 9 935 c0_78 σ).bind fun v14 =>
  (ldI 0 v14 c2_78 σ).bind fun v15 =>
  bnd2 (vc 9 c0_78 σ (f_X9_moved c0_78 v15 i_12 σ)) fun v16 σ =>
  if v16 = (-1 : Int32) then
  (f_X9_keepsGood_J125_78 c0_78 c1_78 c2_78 i_12 σ)
  else
  ((gR 9 936 c0_78 σ).bind fun v17 =>
  (ldI 4 v17 v16 σ).bind fun v18 =>
  if v18 = 0 then
  (f_X9_keepsGood_J125_78 c0_78 c1_78 c2_78 i_12 σ)
  else
  (f_X9_keepsGood_J126_78 c0_78 c1_78 c2_78 i_12 (1 : Int32) σ)))
  else
  (some (.inr (i_11, σ))))
  else
  (some (.inr (i_11, σ)))
noncomputable def f_X9_keepsGood_J159_52 (a0_159 : Nat) (i1_159 : Int32) (i2_159 : Int32) (σ : ZT) : Option ((Int32 × Int32 × ZT) ⊕ (Int32 × ZT)) :=
  some (.inl (i1_159, (i2_159 + (-1 : Int32)), σ))
noncomputable def f_X9_keepsGood_J158_52 (a0_158 : Nat) (i2_158 : Int32) (w0_158 : Int32) (σ : ZT) : Option ((Int32 × Int32 × ZT) ⊕ (Int32 × ZT)) :=
  f_X9_keepsGood_J159_52 a0_158 w0_158 i2_158 σ
noncomputable def f_X9_keepsGood_J153_52 (a0_153 : Nat) (i2_153 : Int32) (σ : ZT) : Option ((Int32 × Int32 × ZT) ⊕ (Int32 × ZT)) :=
  f_X9_keepsGood_J158_52 a0_153 i2_153 (1 : Int32) σ
noncomputable def f_X9_keepsGood_J133_52 (a0_133 : Nat) (i1_133 : Int32) (i2_133 : Int32) (i3_133 : Int32) (σ : ZT) : Option ((Int32 × Int32 × ZT) ⊕ (Int32 × ZT)) :=
  (gR 9 936 a0_133 σ).bind fun v20 =>
  (gR 9 935 a0_133 σ).bind fun v21 =>
  (ldI 0 v21 i2_133 σ).bind fun v22 =>
  (stZ v20 v22 i3_133 σ).bind fun σ =>
  if i1_133 = 0 then
  (if i3_133 = 0 then
  (f_X9_keepsGood_J158_52 a0_133 i2_133 (0 : Int32) σ)
  else
  (f_X9_keepsGood_J153_52 a0_133 i2_133 σ))
  else
  (f_X9_keepsGood_J153_52 a0_133 i2_133 σ)
noncomputable def f_X9_keepsGood_L52 (c0_52 : Nat) (i_5 : Int32) (i_6 : Int32) (σ : ZT) : Option ((Int32 × Int32 × ZT) ⊕ (Int32 × ZT)) :=
  if i_6 < 0 then
  (some (.inr (i_5, σ)))
  else
  ((gR 9 936 c0_52 σ).bind fun v7 =>
  (gR 9 935 c0_52 σ).bind fun v8 =>
  (ldI 0 v8 i_6 σ).bind fun v9 =>
  (ldI 4 v7 v9 σ).bind fun v10 =>
  if v10 = 0 then
  ((loopC (fun s : (Int32 × Int32 × ZT) => f_X9_keepsGood_L78 c0_52 i_5 i_6 s.1 s.2.1 s.2.2) ((0 : Int32), (0 : Int32), σ)).bind fun x => (match x with
  | (x19, σ) => f_X9_keepsGood_J133_52 c0_52 i_5 i_6 x19 σ))
  else
  (f_X9_keepsGood_J159_52 c0_52 i_5 i_6 σ))
noncomputable def f_X9_keepsGood_L39 (c0_39 : Nat) (i_3 : Int32) (σ : ZT) : Option ((Int32 × ZT) ⊕ ZT) :=
  if i_3 = 0 then
  (some (.inr σ))
  else
  ((gI 9 937 c0_39 σ).bind fun v4 =>
  (loopC (fun s : (Int32 × Int32 × ZT) => f_X9_keepsGood_L52 c0_39 s.1 s.2.1 s.2.2) ((0 : Int32), (v4 - (1 : Int32)), σ)).bind fun x => (match x with
  | (x23, σ) => some (.inl (x23, σ))))
noncomputable def f_X9_keepsGood_L2 (c0_2 : Nat) (i_1 : Int32) (σ : ZT) : Option ((Int32 × ZT) ⊕ ZT) :=
  (gI 9 937 c0_2 σ).bind fun v2 =>
  if i_1 < v2 then
  ((gR 9 936 c0_2 σ).bind fun v24 =>
  (gR 9 935 c0_2 σ).bind fun v25 =>
  (ldI 0 v25 i_1 σ).bind fun v26 =>
  (gR 9 935 c0_2 σ).bind fun v27 =>
  (ldI 0 v27 i_1 σ).bind fun v28 =>
  bnd2 (vc 9 c0_2 σ (f_X9_isDoneAt c0_2 v28 σ)) fun v29 σ =>
  (stZ v24 v26 v29 σ).bind fun σ =>
  some (.inl ((i_1 + (1 : Int32)), σ)))
  else
  (some (.inr σ))
noncomputable def f_X9_keepsGood (a0 : Nat) (σ : ZT) : Option ZT :=
  (loopC (fun s : (Int32 × ZT) => f_X9_keepsGood_L2 a0 s.1 s.2) ((0 : Int32), σ)).bind fun σ =>
  (loopC (fun s : (Int32 × ZT) => f_X9_keepsGood_L39 a0 s.1 s.2) ((1 : Int32), σ)).bind fun σ =>
  some σ
set_option maxHeartbeats 4000000 in
theorem m_X9_keepsGood {l : Launch} {G : ZG} (a0 : Nat) (σ : ZT) {out : ZT} (hf : f_X9_keepsGood a0 σ = some out) : ZM l G yX9_keepsGood cX9_keepsGood 6 none [] 8 [.ref a0] σ (.returned none) out := by
  refine ZM.of [(0, .ref a0)] rfl (Nat.le_of_ble_eq_true rfl) fun X (C : ZC G RX9 "keepsGood" cX9_keepsGood 6 none [] X 8) => ?_
  unfold f_X9_keepsGood at hf
  refine z_iconst (q := 1) C (0 : Int32) dX9_keepsGood_0 ki_0 rfl ?_
  refine z_istore_n (q := 2) (i := 1) (lv' := [(1, .int (0 : Int32)), (0, .ref a0)]) C dX9_keepsGood_1 rfl (by decide) rfl rfl ?_
  refine z_lv [1, 0] rfl ?_
  obtain ⟨r1, hr1, hk1⟩ := Option.bind_eq_some_iff.mp hf
  refine loopC_ind (P := fun s => ZW l G 6 X (ZQ G X (.returned none) out) s.2 2 [(0, .ref a0), (1, .int s.1)] []) (fun s x1 hf hx1 => ?_) hr1
  obtain ⟨i_1, σ⟩ := s
  unfold f_X9_keepsGood_L2 at hf
  try dsimp only at hf
  try dsimp only
  refine z_iload_n (q := 3) (i := 1) C 1 dX9_keepsGood_2 rfl rfl rfl ?_
  refine z_aload_n (q := 4) (i := 0) C 0 dX9_keepsGood_3 rfl rfl rfl ?_
  refine z_getI (q := 7) C flX9_373 dX9_keepsGood_4 hf rfl fun v2 hf => ?_
  refine z_icmpge (q := 10) (tgt := 37) C dX9_keepsGood_7 (by decide) rfl hf (fun c7 hf => ?_) (fun c7 hf => ?_)
  · have e1 := zl_x hf hx1
    have hf := hk1
    rw [← e1] at hf
    try dsimp only at hf
    refine z_iconst (q := 38) C (1 : Int32) dX9_keepsGood_37 ki_1 rfl ?_
    refine z_istore_n (q := 39) (i := 1) (lv' := [(1, .int (1 : Int32)), (0, .ref a0)]) C dX9_keepsGood_38 rfl (by decide) rfl rfl ?_
    refine z_lv [1, 0] rfl ?_
    obtain ⟨r1, hr1, hk1⟩ := Option.bind_eq_some_iff.mp hf
    refine loopC_ind (P := fun s => ZW l G 6 X (ZQ G X (.returned none) out) s.2 39 [(0, .ref a0), (1, .int s.1)] []) (fun s x1 hf hx1 => ?_) hr1
    obtain ⟨i_3, σ⟩ := s
    unfold f_X9_keepsGood_L39 at hf
    try dsimp only at hf
    try dsimp only
    refine z_iload_n (q := 40) (i := 1) C 1 dX9_keepsGood_39 rfl rfl rfl ?_
    refine z_ifeq (q := 43) (tgt := 168) C dX9_keepsGood_40 (by decide) rfl hf (fun c40 hf => ?_) (fun c40 hf => ?_)
    · have e1 := zl_x hf hx1
      have hf := hk1
      rw [← e1] at hf
      try dsimp only at hf
      exact z_return C rfl dX9_keepsGood_168 (Option.some.inj hf)
    · refine z_iconst (q := 44) C (0 : Int32) dX9_keepsGood_43 ki_0 rfl ?_
      refine z_istore_n (q := 45) (i := 1) (lv' := [(1, .int (0 : Int32)), (0, .ref a0)]) C dX9_keepsGood_44 rfl (by decide) rfl rfl ?_
      refine z_aload_n (q := 46) (i := 0) C 1 dX9_keepsGood_45 rfl rfl rfl ?_
      refine z_getI (q := 49) C flX9_373 dX9_keepsGood_46 hf rfl fun v4 hf => ?_
      refine z_iconst (q := 50) C (1 : Int32) dX9_keepsGood_49 ki_1 rfl ?_
      refine z_isub (q := 51) C dX9_keepsGood_50 rfl ?_
      refine z_istore_n (q := 52) (i := 2) (lv' := [(2, .int (v4 - (1 : Int32))), (1, .int (0 : Int32)), (0, .ref a0)]) C dX9_keepsGood_51 rfl (by decide) rfl rfl ?_
      refine z_lv [2, 1, 0] rfl ?_
      obtain ⟨r2, hr2, hk2⟩ := Option.bind_eq_some_iff.mp hf
      refine loopC_ind (P := fun s => ZW l G 6 X (ZQ G X (.returned none) out) s.2.2 52 [(0, .ref a0), (1, .int s.1), (2, .int s.2.1)] []) (fun s x2 hf hx2 => ?_) hr2
      obtain ⟨i_5, i_6, σ⟩ := s
      unfold f_X9_keepsGood_L52 at hf
      try dsimp only at hf
      try dsimp only
      have j159_2 : ∀ (i1_159 : Int32) (i2_159 : Int32) (σ : ZT), f_X9_keepsGood_J159_52 a0 i1_159 i2_159 σ = some x2 → ZW l G 6 X (ZQ G X (.returned none) out) σ 159 [(0, .ref a0), (1, .int i1_159), (2, .int i2_159)] [] := by
        intro i1_159 i2_159 σ hf
        unfold f_X9_keepsGood_J159_52 at hf
        refine z_iinc (q := 162) (i := 2) (lv' := [(2, .int (i2_159 + (-1 : Int32))), (0, .ref a0), (1, .int i1_159)]) C 2 (i2_159 + (-1 : Int32)) dX9_keepsGood_159 rfl (kn_m1 _) (by decide) rfl rfl ?_
        refine z_goto (q := 52) C dX9_keepsGood_162 (by decide) ?_
        refine z_lv [1, 2, 0] rfl ?_
        have hc2 := zl_c hf hx2
        exact hc2
      have j158_2 : ∀ (i2_158 : Int32) (w0_158 : Int32) (σ : ZT), f_X9_keepsGood_J158_52 a0 i2_158 w0_158 σ = some x2 → ZW l G 6 X (ZQ G X (.returned none) out) σ 158 [(0, .ref a0), (2, .int i2_158)] [.int w0_158] := by
        intro i2_158 w0_158 σ hf
        unfold f_X9_keepsGood_J158_52 at hf
        refine z_istore_n (q := 159) (i := 1) (lv' := [(1, .int w0_158), (0, .ref a0), (2, .int i2_158)]) C dX9_keepsGood_158 rfl (by decide) rfl rfl ?_
        refine z_lv [1, 0, 2] rfl ?_
        exact j159_2 w0_158 i2_158 σ hf
      have j153_2 : ∀ (i2_153 : Int32) (σ : ZT), f_X9_keepsGood_J153_52 a0 i2_153 σ = some x2 → ZW l G 6 X (ZQ G X (.returned none) out) σ 153 [(0, .ref a0), (2, .int i2_153)] [] := by
        intro i2_153 σ hf
        unfold f_X9_keepsGood_J153_52 at hf
        refine z_iconst (q := 154) C (1 : Int32) dX9_keepsGood_153 ki_1 rfl ?_
        refine z_goto (q := 158) C dX9_keepsGood_154 (by decide) ?_
        exact j158_2 i2_153 (1 : Int32) σ hf
      have j133_2 : ∀ (i1_133 : Int32) (i2_133 : Int32) (i3_133 : Int32) (σ : ZT), f_X9_keepsGood_J133_52 a0 i1_133 i2_133 i3_133 σ = some x2 → ZW l G 6 X (ZQ G X (.returned none) out) σ 133 [(0, .ref a0), (1, .int i1_133), (2, .int i2_133), (3, .int i3_133)] [] := by
        intro i1_133 i2_133 i3_133 σ hf
        unfold f_X9_keepsGood_J133_52 at hf
        refine z_aload_n (q := 134) (i := 0) C 0 dX9_keepsGood_133 rfl rfl rfl ?_
        refine z_getR (q := 137) C flX9_75 dX9_keepsGood_134 hf rfl fun v19 hf => ?_
        refine z_aload_n (q := 138) (i := 0) C 0 dX9_keepsGood_137 rfl rfl rfl ?_
        refine z_getR (q := 141) C flX9_72 dX9_keepsGood_138 hf rfl fun v20 hf => ?_
        refine z_iload_n (q := 142) (i := 2) C 2 dX9_keepsGood_141 rfl rfl rfl ?_
        refine z_iald (q := 143) C dX9_keepsGood_142 hf rfl fun v21 hf => ?_
        refine z_iload_n (q := 144) (i := 3) C 3 dX9_keepsGood_143 rfl rfl rfl ?_
        refine z_zast (q := 145) C dX9_keepsGood_144 hf rfl fun σ hf => ?_
        refine z_iload_n (q := 146) (i := 1) C 1 dX9_keepsGood_145 rfl rfl rfl ?_
        refine z_ifne (q := 149) (tgt := 153) C dX9_keepsGood_146 (by decide) rfl hf (fun c146 hf => ?_) (fun c146 hf => ?_)
        · refine z_lv [0, 2] rfl ?_
          exact j153_2 i2_133 σ hf
        · refine z_iload_n (q := 150) (i := 3) C 3 dX9_keepsGood_149 rfl rfl rfl ?_
          refine z_ifeq (q := 153) (tgt := 157) C dX9_keepsGood_150 (by decide) rfl hf (fun c150 hf => ?_) (fun c150 hf => ?_)
          · refine z_iconst (q := 158) C (0 : Int32) dX9_keepsGood_157 ki_0 rfl ?_
            refine z_lv [0, 2] rfl ?_
            exact j158_2 i2_133 (0 : Int32) σ hf
          · refine z_lv [0, 2] rfl ?_
            exact j153_2 i2_133 σ hf
      refine z_iload_n (q := 53) (i := 2) C 2 dX9_keepsGood_52 rfl rfl rfl ?_
      refine z_iflt (q := 56) (tgt := 165) C dX9_keepsGood_53 (by decide) rfl hf (fun c53 hf => ?_) (fun c53 hf => ?_)
      · have e2 := zl_x hf hx2
        have hf := hk2
        rw [← e2] at hf
        try dsimp only at hf
        refine z_goto (q := 39) C dX9_keepsGood_165 (by decide) ?_
        refine z_lv [0, 1] rfl ?_
        have hc1 := zl_c hf hx1
        exact hc1
      · refine z_aload_n (q := 57) (i := 0) C 0 dX9_keepsGood_56 rfl rfl rfl ?_
        refine z_getR (q := 60) C flX9_75 dX9_keepsGood_57 hf rfl fun v7 hf => ?_
        refine z_aload_n (q := 61) (i := 0) C 0 dX9_keepsGood_60 rfl rfl rfl ?_
        refine z_getR (q := 64) C flX9_72 dX9_keepsGood_61 hf rfl fun v8 hf => ?_
        refine z_iload_n (q := 65) (i := 2) C 2 dX9_keepsGood_64 rfl rfl rfl ?_
        refine z_iald (q := 66) C dX9_keepsGood_65 hf rfl fun v9 hf => ?_
        refine z_zald (q := 67) C dX9_keepsGood_66 hf rfl fun v10 hf => ?_
        refine z_ifeq (q := 70) (tgt := 73) C dX9_keepsGood_67 (by decide) rfl hf (fun c67 hf => ?_) (fun c67 hf => ?_)
        · refine z_iconst (q := 74) C (0 : Int32) dX9_keepsGood_73 ki_0 rfl ?_
          refine z_istore_n (q := 75) (i := 3) (lv' := [(3, .int (0 : Int32)), (0, .ref a0), (1, .int i_5), (2, .int i_6)]) C dX9_keepsGood_74 rfl (by decide) rfl rfl ?_
          refine z_iconst (q := 76) C (0 : Int32) dX9_keepsGood_75 ki_0 rfl ?_
          refine z_istore (q := 78) (i := 4) (lv' := [(4, .int (0 : Int32)), (3, .int (0 : Int32)), (0, .ref a0), (1, .int i_5), (2, .int i_6)]) C dX9_keepsGood_76 (by decide) rfl rfl ?_
          refine z_lv [2, 3, 4, 1, 0] rfl ?_
          obtain ⟨r3, hr3, hk3⟩ := Option.bind_eq_some_iff.mp hf
          refine loopC_ind (P := fun s => ZW l G 6 X (ZQ G X (.returned none) out) s.2.2 78 [(0, .ref a0), (1, .int i_5), (2, .int i_6), (3, .int s.1), (4, .int s.2.1)] []) (fun s x3 hf hx3 => ?_) hr3
          obtain ⟨i_11, i_12, σ⟩ := s
          unfold f_X9_keepsGood_L78 at hf
          try dsimp only at hf
          try dsimp only
          have j126_3 : ∀ (i4_126 : Int32) (w0_126 : Int32) (σ : ZT), f_X9_keepsGood_J126_78 a0 i_5 i_6 i4_126 w0_126 σ = some x3 → ZW l G 6 X (ZQ G X (.returned none) out) σ 126 [(0, .ref a0), (1, .int i_5), (2, .int i_6), (4, .int i4_126)] [.int w0_126] := by
            intro i4_126 w0_126 σ hf
            unfold f_X9_keepsGood_J126_78 at hf
            refine z_istore_n (q := 127) (i := 3) (lv' := [(3, .int w0_126), (0, .ref a0), (1, .int i_5), (2, .int i_6), (4, .int i4_126)]) C dX9_keepsGood_126 rfl (by decide) rfl rfl ?_
            refine z_iinc (q := 130) (i := 4) (lv' := [(4, .int (i4_126 + (1 : Int32))), (3, .int w0_126), (0, .ref a0), (1, .int i_5), (2, .int i_6)]) C 4 (i4_126 + (1 : Int32)) dX9_keepsGood_127 rfl (kn_1 _) (by decide) rfl rfl ?_
            refine z_goto (q := 78) C dX9_keepsGood_130 (by decide) ?_
            refine z_lv [2, 3, 4, 1, 0] rfl ?_
            have hc3 := zl_c hf hx3
            exact hc3
          have j125_3 : ∀ (i4_125 : Int32) (σ : ZT), f_X9_keepsGood_J125_78 a0 i_5 i_6 i4_125 σ = some x3 → ZW l G 6 X (ZQ G X (.returned none) out) σ 125 [(0, .ref a0), (1, .int i_5), (2, .int i_6), (4, .int i4_125)] [] := by
            intro i4_125 σ hf
            unfold f_X9_keepsGood_J125_78 at hf
            refine z_iconst (q := 126) C (0 : Int32) dX9_keepsGood_125 ki_0 rfl ?_
            exact j126_3 i4_125 (0 : Int32) σ hf
          refine z_iload (q := 80) (i := 4) C 4 dX9_keepsGood_78 rfl rfl ?_
          refine z_aload_n (q := 81) (i := 0) C 0 dX9_keepsGood_80 rfl rfl rfl ?_
          refine z_getI (q := 84) C flX9_354 dX9_keepsGood_81 hf rfl fun v13 hf => ?_
          refine z_icmpge (q := 87) (tgt := 133) C dX9_keepsGood_84 (by decide) rfl hf (fun c84 hf => ?_) (fun c84 hf => ?_)
          · have e3 := zl_x hf hx3
            have hf := hk3
            rw [← e3] at hf
            try dsimp only at hf
            refine z_lv [0, 1, 2, 3] rfl ?_
            exact j133_2 i_5 i_6 i_11 σ hf
          · refine z_iload_n (q := 88) (i := 3) C 3 dX9_keepsGood_87 rfl rfl rfl ?_
            refine z_ifne (q := 91) (tgt := 133) C dX9_keepsGood_88 (by decide) rfl hf (fun c88 hf => ?_) (fun c88 hf => ?_)
            · have e3 := zl_x hf hx3
              have hf := hk3
              rw [← e3] at hf
              try dsimp only at hf
              refine z_lv [0, 1, 2, 3] rfl ?_
              exact j133_2 i_5 i_6 i_11 σ hf
            · refine z_aload_n (q := 92) (i := 0) C 0 dX9_keepsGood_91 rfl rfl rfl ?_
              refine z_aload_n (q := 93) (i := 0) C 0 dX9_keepsGood_92 rfl rfl rfl ?_
              refine z_getR (q := 96) C flX9_72 dX9_keepsGood_93 hf rfl fun v14 hf => ?_
              refine z_iload_n (q := 97) (i := 2) C 2 dX9_keepsGood_96 rfl rfl rfl ?_
              refine z_iald (q := 98) C dX9_keepsGood_97 hf rfl fun v15 hf => ?_
              refine z_iload (q := 100) (i := 4) C 4 dX9_keepsGood_98 rfl rfl ?_
              refine z_callVi (q := 103) (As := [.int v15, .int i_12]) C (fun o ho => m_X9_moved _ _ _ _ ho) zk9 vvX9_379 cdX9_moved pnX9 dX9_keepsGood_100 rfl (by decide) (Nat.le_of_ble_eq_true rfl) hf rfl fun v16 σ hf => ?_
              refine z_istore (q := 105) (i := 5) (lv' := [(5, .int v16), (0, .ref a0), (1, .int i_5), (2, .int i_6), (3, .int i_11), (4, .int i_12)]) C dX9_keepsGood_103 (by decide) rfl rfl ?_
              refine z_iload (q := 107) (i := 5) C 0 dX9_keepsGood_105 rfl rfl ?_
              refine z_iconst (q := 108) C (-1 : Int32) dX9_keepsGood_107 ki_m1 rfl ?_
              refine z_icmpeq (q := 111) (tgt := 125) C dX9_keepsGood_108 (by decide) rfl hf (fun c108 hf => ?_) (fun c108 hf => ?_)
              · refine z_lv [1, 2, 3, 5] rfl ?_
                exact j125_3 i_12 σ hf
              · refine z_aload_n (q := 112) (i := 0) C 1 dX9_keepsGood_111 rfl rfl rfl ?_
                refine z_getR (q := 115) C flX9_75 dX9_keepsGood_112 hf rfl fun v17 hf => ?_
                refine z_iload (q := 117) (i := 5) C 0 dX9_keepsGood_115 rfl rfl ?_
                refine z_zald (q := 118) C dX9_keepsGood_117 hf rfl fun v18 hf => ?_
                refine z_ifeq (q := 121) (tgt := 125) C dX9_keepsGood_118 (by decide) rfl hf (fun c118 hf => ?_) (fun c118 hf => ?_)
                · refine z_lv [1, 2, 3, 5] rfl ?_
                  exact j125_3 i_12 σ hf
                · refine z_iconst (q := 122) C (1 : Int32) dX9_keepsGood_121 ki_1 rfl ?_
                  refine z_goto (q := 126) C dX9_keepsGood_122 (by decide) ?_
                  refine z_lv [1, 2, 3, 5] rfl ?_
                  exact j126_3 i_12 (1 : Int32) σ hf
        · refine z_goto (q := 159) C dX9_keepsGood_70 (by decide) ?_
          exact j159_2 i_5 i_6 σ hf
  · refine z_aload_n (q := 11) (i := 0) C 0 dX9_keepsGood_10 rfl rfl rfl ?_
    refine z_getR (q := 14) C flX9_75 dX9_keepsGood_11 hf rfl fun v22 hf => ?_
    refine z_aload_n (q := 15) (i := 0) C 0 dX9_keepsGood_14 rfl rfl rfl ?_
    refine z_getR (q := 18) C flX9_72 dX9_keepsGood_15 hf rfl fun v23 hf => ?_
    refine z_iload_n (q := 19) (i := 1) C 1 dX9_keepsGood_18 rfl rfl rfl ?_
    refine z_iald (q := 20) C dX9_keepsGood_19 hf rfl fun v24 hf => ?_
    refine z_aload_n (q := 21) (i := 0) C 0 dX9_keepsGood_20 rfl rfl rfl ?_
    refine z_aload_n (q := 22) (i := 0) C 0 dX9_keepsGood_21 rfl rfl rfl ?_
    refine z_getR (q := 25) C flX9_72 dX9_keepsGood_22 hf rfl fun v25 hf => ?_
    refine z_iload_n (q := 26) (i := 1) C 1 dX9_keepsGood_25 rfl rfl rfl ?_
    refine z_iald (q := 27) C dX9_keepsGood_26 hf rfl fun v26 hf => ?_
    refine z_callVi (q := 30) (As := [.int v26]) C (fun o ho => m_X9_isDoneAt _ _ _ ho) zk9 vvX9_382 cdX9_isDoneAt pnX9 dX9_keepsGood_27 rfl (by decide) (Nat.le_of_ble_eq_true rfl) hf rfl fun v27 σ hf => ?_
    refine z_zast (q := 31) C dX9_keepsGood_30 hf rfl fun σ hf => ?_
    refine z_iinc (q := 34) (i := 1) (lv' := [(1, .int (i_1 + (1 : Int32))), (0, .ref a0)]) C 1 (i_1 + (1 : Int32)) dX9_keepsGood_31 rfl (kn_1 _) (by decide) rfl rfl ?_
    refine z_goto (q := 2) C dX9_keepsGood_34 (by decide) ?_
    refine z_lv [1, 0] rfl ?_
    have hc1 := zl_c hf hx1
    exact hc1

noncomputable def f_X9_lost_J40_12 (a0_40 : Nat) (i2_40 : Int32) (w0_40 : Int32) (w1_40 : Int32) (σ : ZT) : Option ((Int32 × Int32 × ZT) ⊕ (Int32 × ZT)) :=
  some (.inl ((w1_40 + w0_40), (i2_40 + (1 : Int32)), σ))
noncomputable def f_X9_lost_L12 (c0_12 : Nat) (i_3 : Int32) (i_4 : Int32) (σ : ZT) : Option ((Int32 × Int32 × ZT) ⊕ (Int32 × ZT)) :=
  (gI 9 937 c0_12 σ).bind fun v5 =>
  if i_4 < v5 then
  ((gR 9 936 c0_12 σ).bind fun v7 =>
  (gR 9 935 c0_12 σ).bind fun v8 =>
  (ldI 0 v8 i_4 σ).bind fun v9 =>
  (ldI 4 v7 v9 σ).bind fun v10 =>
  if v10 = 0 then
  (f_X9_lost_J40_12 c0_12 i_4 (1 : Int32) i_3 σ)
  else
  (f_X9_lost_J40_12 c0_12 i_4 (0 : Int32) i_3 σ))
  else
  (some (.inr (i_3, σ)))
noncomputable def f_X9_lost (a0 : Nat) (σ : ZT) : Option (Int32 × ZT) :=
  (vc 9 a0 σ (f_X9_comes a0 σ)).bind fun σ =>
  (vc 9 a0 σ (f_X9_keepsGood a0 σ)).bind fun σ =>
  (loopC (fun s : (Int32 × Int32 × ZT) => f_X9_lost_L12 a0 s.1 s.2.1 s.2.2) ((0 : Int32), (0 : Int32), σ)).bind fun x => (match x with
  | (x11, σ) => bnd2 (vc 9 a0 σ (f_X9_gives a0 x11 σ)) fun v12 σ =>
  some (v12, σ))
set_option maxHeartbeats 4000000 in
theorem m_X9_lost {l : Launch} {G : ZG} (a0 : Nat) (σ : ZT) {out : (Int32 × ZT)} (hf : f_X9_lost a0 σ = some out) : ZM l G yX9_lost cX9_lost 3 (some .int) [] 9 [.ref a0] σ (.returned (some (.int out.1))) out.2 := by
  refine ZM.of [(0, .ref a0)] rfl (Nat.le_of_ble_eq_true rfl) fun X (C : ZC G RX9 "lost" cX9_lost 3 (some .int) [] X 9) => ?_
  unfold f_X9_lost at hf
  refine z_aload_n (q := 1) (i := 0) C 0 dX9_lost_0 rfl rfl rfl ?_
  refine z_callVv (q := 4) (As := []) C (fun o ho => m_X9_comes _ _ ho) zk9 vvX9_385 cdX9_comes pnX9 dX9_lost_1 rfl (by decide) (Nat.le_of_ble_eq_true rfl) hf rfl fun σ hf => ?_
  refine z_aload_n (q := 5) (i := 0) C 0 dX9_lost_4 rfl rfl rfl ?_
  refine z_callVv (q := 8) (As := []) C (fun o ho => m_X9_keepsGood _ _ ho) zk9 vvX9_406 cdX9_keepsGood pnX9 dX9_lost_5 rfl (by decide) (Nat.le_of_ble_eq_true rfl) hf rfl fun σ hf => ?_
  refine z_iconst (q := 9) C (0 : Int32) dX9_lost_8 ki_0 rfl ?_
  refine z_istore_n (q := 10) (i := 1) (lv' := [(1, .int (0 : Int32)), (0, .ref a0)]) C dX9_lost_9 rfl (by decide) rfl rfl ?_
  refine z_iconst (q := 11) C (0 : Int32) dX9_lost_10 ki_0 rfl ?_
  refine z_istore_n (q := 12) (i := 2) (lv' := [(2, .int (0 : Int32)), (1, .int (0 : Int32)), (0, .ref a0)]) C dX9_lost_11 rfl (by decide) rfl rfl ?_
  refine z_lv [2, 1, 0] rfl ?_
  obtain ⟨r1, hr1, hk1⟩ := Option.bind_eq_some_iff.mp hf
  refine loopC_ind (P := fun s => ZW l G 3 X (ZQ G X (.returned (some (.int out.1))) out.2) s.2.2 12 [(0, .ref a0), (1, .int s.1), (2, .int s.2.1)] []) (fun s x1 hf hx1 => ?_) hr1
  obtain ⟨i_3, i_4, σ⟩ := s
  unfold f_X9_lost_L12 at hf
  try dsimp only at hf
  try dsimp only
  have j40_1 : ∀ (i2_40 : Int32) (w0_40 : Int32) (w1_40 : Int32) (σ : ZT), f_X9_lost_J40_12 a0 i2_40 w0_40 w1_40 σ = some x1 → ZW l G 3 X (ZQ G X (.returned (some (.int out.1))) out.2) σ 40 [(0, .ref a0), (2, .int i2_40)] [.int w0_40, .int w1_40] := by
    intro i2_40 w0_40 w1_40 σ hf
    unfold f_X9_lost_J40_12 at hf
    refine z_iadd (q := 41) C dX9_lost_40 rfl ?_
    refine z_istore_n (q := 42) (i := 1) (lv' := [(1, .int (w1_40 + w0_40)), (0, .ref a0), (2, .int i2_40)]) C dX9_lost_41 rfl (by decide) rfl rfl ?_
    refine z_iinc (q := 45) (i := 2) (lv' := [(2, .int (i2_40 + (1 : Int32))), (1, .int (w1_40 + w0_40)), (0, .ref a0)]) C 2 (i2_40 + (1 : Int32)) dX9_lost_42 rfl (kn_1 _) (by decide) rfl rfl ?_
    refine z_goto (q := 12) C dX9_lost_45 (by decide) ?_
    refine z_lv [2, 1, 0] rfl ?_
    have hc1 := zl_c hf hx1
    exact hc1
  refine z_iload_n (q := 13) (i := 2) C 2 dX9_lost_12 rfl rfl rfl ?_
  refine z_aload_n (q := 14) (i := 0) C 0 dX9_lost_13 rfl rfl rfl ?_
  refine z_getI (q := 17) C flX9_373 dX9_lost_14 hf rfl fun v5 hf => ?_
  refine z_icmpge (q := 20) (tgt := 48) C dX9_lost_17 (by decide) rfl hf (fun c17 hf => ?_) (fun c17 hf => ?_)
  · have e1 := zl_x hf hx1
    have hf := hk1
    rw [← e1] at hf
    try dsimp only at hf
    refine z_aload_n (q := 49) (i := 0) C 0 dX9_lost_48 rfl rfl rfl ?_
    refine z_iload_n (q := 50) (i := 1) C 1 dX9_lost_49 rfl rfl rfl ?_
    refine z_callVi (q := 53) (As := [.int i_3]) C (fun o ho => m_X9_gives _ _ _ ho) zk9 vvX9_107 cdX9_gives pnX9 dX9_lost_50 rfl (by decide) (Nat.le_of_ble_eq_true rfl) hf rfl fun v6 σ hf => ?_
    exact z_ireturn C rfl dX9_lost_53 (Option.some.inj hf)
  · refine z_iload_n (q := 21) (i := 1) C 1 dX9_lost_20 rfl rfl rfl ?_
    refine z_aload_n (q := 22) (i := 0) C 0 dX9_lost_21 rfl rfl rfl ?_
    refine z_getR (q := 25) C flX9_75 dX9_lost_22 hf rfl fun v7 hf => ?_
    refine z_aload_n (q := 26) (i := 0) C 0 dX9_lost_25 rfl rfl rfl ?_
    refine z_getR (q := 29) C flX9_72 dX9_lost_26 hf rfl fun v8 hf => ?_
    refine z_iload_n (q := 30) (i := 2) C 2 dX9_lost_29 rfl rfl rfl ?_
    refine z_iald (q := 31) C dX9_lost_30 hf rfl fun v9 hf => ?_
    refine z_zald (q := 32) C dX9_lost_31 hf rfl fun v10 hf => ?_
    refine z_ifeq (q := 35) (tgt := 39) C dX9_lost_32 (by decide) rfl hf (fun c32 hf => ?_) (fun c32 hf => ?_)
    · refine z_iconst (q := 40) C (1 : Int32) dX9_lost_39 ki_1 rfl ?_
      refine z_lv [0, 2] rfl ?_
      exact j40_1 i_4 (1 : Int32) i_3 σ hf
    · refine z_iconst (q := 36) C (0 : Int32) dX9_lost_35 ki_0 rfl ?_
      refine z_goto (q := 40) C dX9_lost_36 (by decide) ?_
      refine z_lv [0, 2] rfl ?_
      exact j40_1 i_4 (0 : Int32) i_3 σ hf

noncomputable def f_X9_safe_J50_12 (a0_50 : Nat) (i2_50 : Int32) (w0_50 : Int32) (w1_50 : Int32) (σ : ZT) : Option ((Int32 × Int32 × ZT) ⊕ (Int32 × ZT)) :=
  some (.inl ((w1_50 + w0_50), (i2_50 + (1 : Int32)), σ))
noncomputable def f_X9_safe_J49_12 (a0_49 : Nat) (i2_49 : Int32) (w0_49 : Int32) (σ : ZT) : Option ((Int32 × Int32 × ZT) ⊕ (Int32 × ZT)) :=
  f_X9_safe_J50_12 a0_49 i2_49 (0 : Int32) w0_49 σ
noncomputable def f_X9_safe_L12 (c0_12 : Nat) (i_3 : Int32) (i_4 : Int32) (σ : ZT) : Option ((Int32 × Int32 × ZT) ⊕ (Int32 × ZT)) :=
  (gI 9 933 c0_12 σ).bind fun v5 =>
  if i_4 < v5 then
  ((gI 9 938 c0_12 σ).bind fun v7 =>
  bnd2 (vc 9 c0_12 σ (f_X9_moved c0_12 v7 i_4 σ)) fun v8 σ =>
  if v8 = (-1 : Int32) then
  (f_X9_safe_J49_12 c0_12 i_4 i_3 σ)
  else
  ((gR 9 936 c0_12 σ).bind fun v9 =>
  (ldI 4 v9 v8 σ).bind fun v10 =>
  if v10 = 0 then
  (f_X9_safe_J49_12 c0_12 i_4 i_3 σ)
  else
  (f_X9_safe_J50_12 c0_12 i_4 (1 : Int32) i_3 σ)))
  else
  (some (.inr (i_3, σ)))
noncomputable def f_X9_safe (a0 : Nat) (σ : ZT) : Option (Int32 × ZT) :=
  (vc 9 a0 σ (f_X9_comes a0 σ)).bind fun σ =>
  (vc 9 a0 σ (f_X9_keepsGood a0 σ)).bind fun σ =>
  (loopC (fun s : (Int32 × Int32 × ZT) => f_X9_safe_L12 a0 s.1 s.2.1 s.2.2) ((0 : Int32), (0 : Int32), σ)).bind fun x => (match x with
  | (x11, σ) => bnd2 (vc 9 a0 σ (f_X9_gives a0 x11 σ)) fun v12 σ =>
  some (v12, σ))
set_option maxHeartbeats 4000000 in
theorem m_X9_safe {l : Launch} {G : ZG} (a0 : Nat) (σ : ZT) {out : (Int32 × ZT)} (hf : f_X9_safe a0 σ = some out) : ZM l G yX9_safe cX9_safe 4 (some .int) [] 9 [.ref a0] σ (.returned (some (.int out.1))) out.2 := by
  refine ZM.of [(0, .ref a0)] rfl (Nat.le_of_ble_eq_true rfl) fun X (C : ZC G RX9 "safe" cX9_safe 4 (some .int) [] X 9) => ?_
  unfold f_X9_safe at hf
  refine z_aload_n (q := 1) (i := 0) C 0 dX9_safe_0 rfl rfl rfl ?_
  refine z_callVv (q := 4) (As := []) C (fun o ho => m_X9_comes _ _ ho) zk9 vvX9_385 cdX9_comes pnX9 dX9_safe_1 rfl (by decide) (Nat.le_of_ble_eq_true rfl) hf rfl fun σ hf => ?_
  refine z_aload_n (q := 5) (i := 0) C 0 dX9_safe_4 rfl rfl rfl ?_
  refine z_callVv (q := 8) (As := []) C (fun o ho => m_X9_keepsGood _ _ ho) zk9 vvX9_406 cdX9_keepsGood pnX9 dX9_safe_5 rfl (by decide) (Nat.le_of_ble_eq_true rfl) hf rfl fun σ hf => ?_
  refine z_iconst (q := 9) C (0 : Int32) dX9_safe_8 ki_0 rfl ?_
  refine z_istore_n (q := 10) (i := 1) (lv' := [(1, .int (0 : Int32)), (0, .ref a0)]) C dX9_safe_9 rfl (by decide) rfl rfl ?_
  refine z_iconst (q := 11) C (0 : Int32) dX9_safe_10 ki_0 rfl ?_
  refine z_istore_n (q := 12) (i := 2) (lv' := [(2, .int (0 : Int32)), (1, .int (0 : Int32)), (0, .ref a0)]) C dX9_safe_11 rfl (by decide) rfl rfl ?_
  refine z_lv [2, 1, 0] rfl ?_
  obtain ⟨r1, hr1, hk1⟩ := Option.bind_eq_some_iff.mp hf
  refine loopC_ind (P := fun s => ZW l G 4 X (ZQ G X (.returned (some (.int out.1))) out.2) s.2.2 12 [(0, .ref a0), (1, .int s.1), (2, .int s.2.1)] []) (fun s x1 hf hx1 => ?_) hr1
  obtain ⟨i_3, i_4, σ⟩ := s
  unfold f_X9_safe_L12 at hf
  try dsimp only at hf
  try dsimp only
  have j50_1 : ∀ (i2_50 : Int32) (w0_50 : Int32) (w1_50 : Int32) (σ : ZT), f_X9_safe_J50_12 a0 i2_50 w0_50 w1_50 σ = some x1 → ZW l G 4 X (ZQ G X (.returned (some (.int out.1))) out.2) σ 50 [(0, .ref a0), (2, .int i2_50)] [.int w0_50, .int w1_50] := by
    intro i2_50 w0_50 w1_50 σ hf
    unfold f_X9_safe_J50_12 at hf
    refine z_iadd (q := 51) C dX9_safe_50 rfl ?_
    refine z_istore_n (q := 52) (i := 1) (lv' := [(1, .int (w1_50 + w0_50)), (0, .ref a0), (2, .int i2_50)]) C dX9_safe_51 rfl (by decide) rfl rfl ?_
    refine z_iinc (q := 55) (i := 2) (lv' := [(2, .int (i2_50 + (1 : Int32))), (1, .int (w1_50 + w0_50)), (0, .ref a0)]) C 2 (i2_50 + (1 : Int32)) dX9_safe_52 rfl (kn_1 _) (by decide) rfl rfl ?_
    refine z_goto (q := 12) C dX9_safe_55 (by decide) ?_
    refine z_lv [2, 1, 0] rfl ?_
    have hc1 := zl_c hf hx1
    exact hc1
  have j49_1 : ∀ (i2_49 : Int32) (w0_49 : Int32) (σ : ZT), f_X9_safe_J49_12 a0 i2_49 w0_49 σ = some x1 → ZW l G 4 X (ZQ G X (.returned (some (.int out.1))) out.2) σ 49 [(0, .ref a0), (2, .int i2_49)] [.int w0_49] := by
    intro i2_49 w0_49 σ hf
    unfold f_X9_safe_J49_12 at hf
    refine z_iconst (q := 50) C (0 : Int32) dX9_safe_49 ki_0 rfl ?_
    exact j50_1 i2_49 (0 : Int32) w0_49 σ hf
  refine z_iload_n (q := 13) (i := 2) C 2 dX9_safe_12 rfl rfl rfl ?_
  refine z_aload_n (q := 14) (i := 0) C 0 dX9_safe_13 rfl rfl rfl ?_
  refine z_getI (q := 17) C flX9_354 dX9_safe_14 hf rfl fun v5 hf => ?_
  refine z_icmpge (q := 20) (tgt := 58) C dX9_safe_17 (by decide) rfl hf (fun c17 hf => ?_) (fun c17 hf => ?_)
  · have e1 := zl_x hf hx1
    have hf := hk1
    rw [← e1] at hf
    try dsimp only at hf
    refine z_aload_n (q := 59) (i := 0) C 0 dX9_safe_58 rfl rfl rfl ?_
    refine z_iload_n (q := 60) (i := 1) C 1 dX9_safe_59 rfl rfl rfl ?_
    refine z_callVi (q := 63) (As := [.int i_3]) C (fun o ho => m_X9_gives _ _ _ ho) zk9 vvX9_107 cdX9_gives pnX9 dX9_safe_60 rfl (by decide) (Nat.le_of_ble_eq_true rfl) hf rfl fun v6 σ hf => ?_
    exact z_ireturn C rfl dX9_safe_63 (Option.some.inj hf)
  · refine z_aload_n (q := 21) (i := 0) C 0 dX9_safe_20 rfl rfl rfl ?_
    refine z_aload_n (q := 22) (i := 0) C 0 dX9_safe_21 rfl rfl rfl ?_
    refine z_getI (q := 25) C flX9_370 dX9_safe_22 hf rfl fun v7 hf => ?_
    refine z_iload_n (q := 26) (i := 2) C 2 dX9_safe_25 rfl rfl rfl ?_
    refine z_callVi (q := 29) (As := [.int v7, .int i_4]) C (fun o ho => m_X9_moved _ _ _ _ ho) zk9 vvX9_379 cdX9_moved pnX9 dX9_safe_26 rfl (by decide) (Nat.le_of_ble_eq_true rfl) hf rfl fun v8 σ hf => ?_
    refine z_istore_n (q := 30) (i := 3) (lv' := [(3, .int v8), (0, .ref a0), (1, .int i_3), (2, .int i_4)]) C dX9_safe_29 rfl (by decide) rfl rfl ?_
    refine z_iload_n (q := 31) (i := 1) C 2 dX9_safe_30 rfl rfl rfl ?_
    refine z_iload_n (q := 32) (i := 3) C 0 dX9_safe_31 rfl rfl rfl ?_
    refine z_iconst (q := 33) C (-1 : Int32) dX9_safe_32 ki_m1 rfl ?_
    refine z_icmpeq (q := 36) (tgt := 49) C dX9_safe_33 (by decide) rfl hf (fun c33 hf => ?_) (fun c33 hf => ?_)
    · refine z_lv [1, 3] rfl ?_
      exact j49_1 i_4 i_3 σ hf
    · refine z_aload_n (q := 37) (i := 0) C 1 dX9_safe_36 rfl rfl rfl ?_
      refine z_getR (q := 40) C flX9_75 dX9_safe_37 hf rfl fun v9 hf => ?_
      refine z_iload_n (q := 41) (i := 3) C 0 dX9_safe_40 rfl rfl rfl ?_
      refine z_zald (q := 42) C dX9_safe_41 hf rfl fun v10 hf => ?_
      refine z_ifeq (q := 45) (tgt := 49) C dX9_safe_42 (by decide) rfl hf (fun c42 hf => ?_) (fun c42 hf => ?_)
      · refine z_lv [1, 3] rfl ?_
        exact j49_1 i_4 i_3 σ hf
      · refine z_iconst (q := 46) C (1 : Int32) dX9_safe_45 ki_1 rfl ?_
        refine z_goto (q := 50) C dX9_safe_46 (by decide) ?_
        refine z_lv [1, 3] rfl ?_
        exact j50_1 i_4 (1 : Int32) i_3 σ hf

noncomputable def f_X9_free_J71_28 (a0_71 : Nat) (i2_71 : Int32) (i3_71 : Int32) (w0_71 : Int32) (w1_71 : Int32) (σ : ZT) : Option ((Int32 × Int32 × ZT) ⊕ (Int32 × ZT)) :=
  some (.inl ((w1_71 ||| w0_71), (i3_71 + (1 : Int32)), σ))
noncomputable def f_X9_free_J64_28 (a0_64 : Nat) (i2_64 : Int32) (i3_64 : Int32) (w0_64 : Int32) (σ : ZT) : Option ((Int32 × Int32 × ZT) ⊕ (Int32 × ZT)) :=
  f_X9_free_J71_28 a0_64 i2_64 i3_64 ((1 : Int32) <<< (i3_64 &&& 31)) w0_64 σ
noncomputable def f_X9_free_L28 (c0_28 : Nat) (c2_28 : Int32) (i_9 : Int32) (i_10 : Int32) (σ : ZT) : Option ((Int32 × Int32 × ZT) ⊕ (Int32 × ZT)) :=
  (gR 9 900 c0_28 σ).bind fun v11 =>
  (ldI 0 v11 (2 : Int32) σ).bind fun v12 =>
  if i_10 < v12 then
  (bnd2 (vc 9 c0_28 σ (f_X9_ofPerson c0_28 i_10 (2 : Int32) σ)) fun v13 σ =>
  if v13 = (-1 : Int32) then
  (f_X9_free_J64_28 c0_28 c2_28 i_10 i_9 σ)
  else
  (bnd2 (vc 9 c0_28 σ (f_X9_ofPerson c0_28 i_10 (2 : Int32) σ)) fun v14 σ =>
  (gR 9 924 c0_28 σ).bind fun v15 =>
  (ldI 0 v15 i_10 σ).bind fun v16 =>
  if v14 = v16 then
  (f_X9_free_J64_28 c0_28 c2_28 i_10 i_9 σ)
  else
  (f_X9_free_J71_28 c0_28 c2_28 i_10 (0 : Int32) i_9 σ)))
  else
  (some (.inr (i_9, σ)))
noncomputable def f_X9_free_L8 (c0_8 : Nat) (i_2 : Int32) (i_3 : Int32) (σ : ZT) : Option ((Int32 × Int32 × ZT) ⊕ (Int32 × ZT)) :=
  (gI 9 937 c0_8 σ).bind fun v4 =>
  if i_3 < v4 then
  ((gR 9 935 c0_8 σ).bind fun v6 =>
  (ldI 0 v6 i_3 σ).bind fun v7 =>
  (vc 9 c0_8 σ (f_X9_opens c0_8 v7 σ)).bind fun σ =>
  (loopC (fun s : (Int32 × Int32 × ZT) => f_X9_free_L28 c0_8 i_3 s.1 s.2.1 s.2.2) (i_2, (0 : Int32), σ)).bind fun x => (match x with
  | (x17, σ) => some (.inl (x17, (i_3 + (1 : Int32)), σ))))
  else
  (some (.inr (i_2, σ)))
noncomputable def f_X9_free (a0 : Nat) (σ : ZT) : Option (Int32 × ZT) :=
  (vc 9 a0 σ (f_X9_comes a0 σ)).bind fun σ =>
  (loopC (fun s : (Int32 × Int32 × ZT) => f_X9_free_L8 a0 s.1 s.2.1 s.2.2) ((0 : Int32), (0 : Int32), σ)).bind fun x => (match x with
  | (x18, σ) => bnd2 (vc 9 a0 σ (f_X9_gives a0 x18 σ)) fun v19 σ =>
  some (v19, σ))
set_option maxHeartbeats 4000000 in
theorem m_X9_free {l : Launch} {G : ZG} (a0 : Nat) (σ : ZT) {out : (Int32 × ZT)} (hf : f_X9_free a0 σ = some out) : ZM l G yX9_free cX9_free 4 (some .int) [] 9 [.ref a0] σ (.returned (some (.int out.1))) out.2 := by
  refine ZM.of [(0, .ref a0)] rfl (Nat.le_of_ble_eq_true rfl) fun X (C : ZC G RX9 "free" cX9_free 4 (some .int) [] X 9) => ?_
  unfold f_X9_free at hf
  refine z_aload_n (q := 1) (i := 0) C 0 dX9_free_0 rfl rfl rfl ?_
  refine z_callVv (q := 4) (As := []) C (fun o ho => m_X9_comes _ _ ho) zk9 vvX9_385 cdX9_comes pnX9 dX9_free_1 rfl (by decide) (Nat.le_of_ble_eq_true rfl) hf rfl fun σ hf => ?_
  refine z_iconst (q := 5) C (0 : Int32) dX9_free_4 ki_0 rfl ?_
  refine z_istore_n (q := 6) (i := 1) (lv' := [(1, .int (0 : Int32)), (0, .ref a0)]) C dX9_free_5 rfl (by decide) rfl rfl ?_
  refine z_iconst (q := 7) C (0 : Int32) dX9_free_6 ki_0 rfl ?_
  refine z_istore_n (q := 8) (i := 2) (lv' := [(2, .int (0 : Int32)), (1, .int (0 : Int32)), (0, .ref a0)]) C dX9_free_7 rfl (by decide) rfl rfl ?_
  refine z_lv [2, 1, 0] rfl ?_
  obtain ⟨r1, hr1, hk1⟩ := Option.bind_eq_some_iff.mp hf
  refine loopC_ind (P := fun s => ZW l G 4 X (ZQ G X (.returned (some (.int out.1))) out.2) s.2.2 8 [(0, .ref a0), (1, .int s.1), (2, .int s.2.1)] []) (fun s x1 hf hx1 => ?_) hr1
  obtain ⟨i_2, i_3, σ⟩ := s
  unfold f_X9_free_L8 at hf
  try dsimp only at hf
  try dsimp only
  refine z_iload_n (q := 9) (i := 2) C 2 dX9_free_8 rfl rfl rfl ?_
  refine z_aload_n (q := 10) (i := 0) C 0 dX9_free_9 rfl rfl rfl ?_
  refine z_getI (q := 13) C flX9_373 dX9_free_10 hf rfl fun v4 hf => ?_
  refine z_icmpge (q := 16) (tgt := 85) C dX9_free_13 (by decide) rfl hf (fun c13 hf => ?_) (fun c13 hf => ?_)
  · have e1 := zl_x hf hx1
    have hf := hk1
    rw [← e1] at hf
    try dsimp only at hf
    refine z_aload_n (q := 86) (i := 0) C 0 dX9_free_85 rfl rfl rfl ?_
    refine z_iload_n (q := 87) (i := 1) C 1 dX9_free_86 rfl rfl rfl ?_
    refine z_callVi (q := 90) (As := [.int i_2]) C (fun o ho => m_X9_gives _ _ _ ho) zk9 vvX9_107 cdX9_gives pnX9 dX9_free_87 rfl (by decide) (Nat.le_of_ble_eq_true rfl) hf rfl fun v5 σ hf => ?_
    exact z_ireturn C rfl dX9_free_90 (Option.some.inj hf)
  · refine z_aload_n (q := 17) (i := 0) C 0 dX9_free_16 rfl rfl rfl ?_
    refine z_aload_n (q := 18) (i := 0) C 0 dX9_free_17 rfl rfl rfl ?_
    refine z_getR (q := 21) C flX9_72 dX9_free_18 hf rfl fun v6 hf => ?_
    refine z_iload_n (q := 22) (i := 2) C 2 dX9_free_21 rfl rfl rfl ?_
    refine z_iald (q := 23) C dX9_free_22 hf rfl fun v7 hf => ?_
    refine z_callVv (q := 26) (As := [.int v7]) C (fun o ho => m_X9_opens _ _ _ ho) zk9 vvX9_361 cdX9_opens pnX9 dX9_free_23 rfl (by decide) (Nat.le_of_ble_eq_true rfl) hf rfl fun σ hf => ?_
    refine z_iconst (q := 27) C (0 : Int32) dX9_free_26 ki_0 rfl ?_
    refine z_istore_n (q := 28) (i := 3) (lv' := [(3, .int (0 : Int32)), (0, .ref a0), (1, .int i_2), (2, .int i_3)]) C dX9_free_27 rfl (by decide) rfl rfl ?_
    refine z_lv [1, 2, 3, 0] rfl ?_
    obtain ⟨r2, hr2, hk2⟩ := Option.bind_eq_some_iff.mp hf
    refine loopC_ind (P := fun s => ZW l G 4 X (ZQ G X (.returned (some (.int out.1))) out.2) s.2.2 28 [(0, .ref a0), (1, .int s.1), (2, .int i_3), (3, .int s.2.1)] []) (fun s x2 hf hx2 => ?_) hr2
    obtain ⟨i_9, i_10, σ⟩ := s
    unfold f_X9_free_L28 at hf
    try dsimp only at hf
    try dsimp only
    have j71_2 : ∀ (i3_71 : Int32) (w0_71 : Int32) (w1_71 : Int32) (σ : ZT), f_X9_free_J71_28 a0 i_3 i3_71 w0_71 w1_71 σ = some x2 → ZW l G 4 X (ZQ G X (.returned (some (.int out.1))) out.2) σ 71 [(0, .ref a0), (2, .int i_3), (3, .int i3_71)] [.int w0_71, .int w1_71] := by
      intro i3_71 w0_71 w1_71 σ hf
      unfold f_X9_free_J71_28 at hf
      refine z_ior (q := 72) C dX9_free_71 rfl ?_
      refine z_istore_n (q := 73) (i := 1) (lv' := [(1, .int (w1_71 ||| w0_71)), (0, .ref a0), (2, .int i_3), (3, .int i3_71)]) C dX9_free_72 rfl (by decide) rfl rfl ?_
      refine z_iinc (q := 76) (i := 3) (lv' := [(3, .int (i3_71 + (1 : Int32))), (1, .int (w1_71 ||| w0_71)), (0, .ref a0), (2, .int i_3)]) C 3 (i3_71 + (1 : Int32)) dX9_free_73 rfl (kn_1 _) (by decide) rfl rfl ?_
      refine z_goto (q := 28) C dX9_free_76 (by decide) ?_
      refine z_lv [2, 1, 3, 0] rfl ?_
      have hc2 := zl_c hf hx2
      exact hc2
    have j64_2 : ∀ (i3_64 : Int32) (w0_64 : Int32) (σ : ZT), f_X9_free_J64_28 a0 i_3 i3_64 w0_64 σ = some x2 → ZW l G 4 X (ZQ G X (.returned (some (.int out.1))) out.2) σ 64 [(0, .ref a0), (2, .int i_3), (3, .int i3_64)] [.int w0_64] := by
      intro i3_64 w0_64 σ hf
      unfold f_X9_free_J64_28 at hf
      refine z_iconst (q := 65) C (1 : Int32) dX9_free_64 ki_1 rfl ?_
      refine z_iload_n (q := 66) (i := 3) C 2 dX9_free_65 rfl rfl rfl ?_
      refine z_ishl (q := 67) C dX9_free_66 rfl ?_
      refine z_goto (q := 71) C dX9_free_67 (by decide) ?_
      exact j71_2 i3_64 ((1 : Int32) <<< (i3_64 &&& 31)) w0_64 σ hf
    refine z_iload_n (q := 29) (i := 3) C 3 dX9_free_28 rfl rfl rfl ?_
    refine z_aload_n (q := 30) (i := 0) C 0 dX9_free_29 rfl rfl rfl ?_
    refine z_getR (q := 33) C flX9_7 dX9_free_30 hf rfl fun v11 hf => ?_
    refine z_iconst (q := 34) C (2 : Int32) dX9_free_33 ki_2 rfl ?_
    refine z_iald (q := 35) C dX9_free_34 hf rfl fun v12 hf => ?_
    refine z_icmpge (q := 38) (tgt := 79) C dX9_free_35 (by decide) rfl hf (fun c35 hf => ?_) (fun c35 hf => ?_)
    · have e2 := zl_x hf hx2
      have hf := hk2
      rw [← e2] at hf
      try dsimp only at hf
      refine z_iinc (q := 82) (i := 2) (lv' := [(2, .int (i_3 + (1 : Int32))), (0, .ref a0), (1, .int i_9), (3, .int i_10)]) C 2 (i_3 + (1 : Int32)) dX9_free_79 rfl (kn_1 _) (by decide) rfl rfl ?_
      refine z_goto (q := 8) C dX9_free_82 (by decide) ?_
      refine z_lv [1, 2, 0] rfl ?_
      have hc1 := zl_c hf hx1
      exact hc1
    · refine z_iload_n (q := 39) (i := 1) C 1 dX9_free_38 rfl rfl rfl ?_
      refine z_aload_n (q := 40) (i := 0) C 0 dX9_free_39 rfl rfl rfl ?_
      refine z_iload_n (q := 41) (i := 3) C 3 dX9_free_40 rfl rfl rfl ?_
      refine z_iconst (q := 42) C (2 : Int32) dX9_free_41 ki_2 rfl ?_
      refine z_callVi (q := 45) (As := [.int i_10, .int (2 : Int32)]) C (fun o ho => m_X9_ofPerson _ _ _ _ ho) zk9 vvX9_258 cdX9_ofPerson pnX9 dX9_free_42 rfl (by decide) (Nat.le_of_ble_eq_true rfl) hf rfl fun v13 σ hf => ?_
      refine z_iconst (q := 46) C (-1 : Int32) dX9_free_45 ki_m1 rfl ?_
      refine z_icmpeq (q := 49) (tgt := 64) C dX9_free_46 (by decide) rfl hf (fun c46 hf => ?_) (fun c46 hf => ?_)
      · refine z_lv [0, 2, 3] rfl ?_
        exact j64_2 i_10 i_9 σ hf
      · refine z_aload_n (q := 50) (i := 0) C 0 dX9_free_49 rfl rfl rfl ?_
        refine z_iload_n (q := 51) (i := 3) C 3 dX9_free_50 rfl rfl rfl ?_
        refine z_iconst (q := 52) C (2 : Int32) dX9_free_51 ki_2 rfl ?_
        refine z_callVi (q := 55) (As := [.int i_10, .int (2 : Int32)]) C (fun o ho => m_X9_ofPerson _ _ _ _ ho) zk9 vvX9_258 cdX9_ofPerson pnX9 dX9_free_52 rfl (by decide) (Nat.le_of_ble_eq_true rfl) hf rfl fun v14 σ hf => ?_
        refine z_aload_n (q := 56) (i := 0) C 0 dX9_free_55 rfl rfl rfl ?_
        refine z_getR (q := 59) C flX9_47 dX9_free_56 hf rfl fun v15 hf => ?_
        refine z_iload_n (q := 60) (i := 3) C 3 dX9_free_59 rfl rfl rfl ?_
        refine z_iald (q := 61) C dX9_free_60 hf rfl fun v16 hf => ?_
        refine z_icmpne (q := 64) (tgt := 70) C dX9_free_61 (by decide) rfl hf (fun c61 hf => ?_) (fun c61 hf => ?_)
        · refine z_iconst (q := 71) C (0 : Int32) dX9_free_70 ki_0 rfl ?_
          refine z_lv [0, 2, 3] rfl ?_
          exact j71_2 i_10 (0 : Int32) i_9 σ hf
        · refine z_lv [0, 2, 3] rfl ?_
          exact j64_2 i_10 i_9 σ hf

noncomputable def f_X9_canDo_J17 (w0_17 : Int32) (σ : ZT) : Option (Int32 × ZT) :=
  (rz w0_17).bind fun z3 =>
  some (z3, σ)
noncomputable def f_X9_canDo (a0 : Nat) (σ : ZT) : Option (Int32 × ZT) :=
  (vc 9 a0 σ (f_X9_comes a0 σ)).bind fun σ =>
  bnd2 (vc 9 a0 σ (f_X9_fewestMoves a0 σ)) fun v2 σ =>
  if v2 = (-1 : Int32) then
  (f_X9_canDo_J17 (0 : Int32) σ)
  else
  (f_X9_canDo_J17 (1 : Int32) σ)
set_option maxHeartbeats 4000000 in
theorem m_X9_canDo {l : Launch} {G : ZG} (a0 : Nat) (σ : ZT) {out : (Int32 × ZT)} (hf : f_X9_canDo a0 σ = some out) : ZM l G yX9_canDo cX9_canDo 1 (some .boolean) [] 9 [.ref a0] σ (.returned (some (.int out.1))) out.2 := by
  refine ZM.of [(0, .ref a0)] rfl (Nat.le_of_ble_eq_true rfl) fun X (C : ZC G RX9 "canDo" cX9_canDo 1 (some .boolean) [] X 9) => ?_
  unfold f_X9_canDo at hf
  have j17_0 : ∀ (w0_17 : Int32) (σ : ZT), f_X9_canDo_J17 w0_17 σ = some out → ZW l G 1 X (ZQ G X (.returned (some (.int out.1))) out.2) σ 17 [] [.int w0_17] := by
    intro w0_17 σ hf
    unfold f_X9_canDo_J17 at hf
    refine z_rz C hf fun hn hf => ?_
    exact z_zreturn C rfl hn dX9_canDo_17 (Option.some.inj hf)
  refine z_aload_n (q := 1) (i := 0) C 0 dX9_canDo_0 rfl rfl rfl ?_
  refine z_callVv (q := 4) (As := []) C (fun o ho => m_X9_comes _ _ ho) zk9 vvX9_385 cdX9_comes pnX9 dX9_canDo_1 rfl (by decide) (Nat.le_of_ble_eq_true rfl) hf rfl fun σ hf => ?_
  refine z_aload_n (q := 5) (i := 0) C 0 dX9_canDo_4 rfl rfl rfl ?_
  refine z_callVi (q := 8) (As := []) C (fun o ho => m_X9_fewestMoves _ _ ho) zk9 vvX9_397 cdX9_fewestMoves pnX9 dX9_canDo_5 rfl (by decide) (Nat.le_of_ble_eq_true rfl) hf rfl fun v2 σ hf => ?_
  refine z_iconst (q := 9) C (-1 : Int32) dX9_canDo_8 ki_m1 rfl ?_
  refine z_icmpeq (q := 12) (tgt := 16) C dX9_canDo_9 (by decide) rfl hf (fun c9 hf => ?_) (fun c9 hf => ?_)
  · refine z_iconst (q := 17) C (0 : Int32) dX9_canDo_16 ki_0 rfl ?_
    refine z_lv [] rfl ?_
    exact j17_0 (0 : Int32) σ hf
  · refine z_iconst (q := 13) C (1 : Int32) dX9_canDo_12 ki_1 rfl ?_
    refine z_goto (q := 17) C dX9_canDo_13 (by decide) ?_
    refine z_lv [] rfl ?_
    exact j17_0 (1 : Int32) σ hf

noncomputable def f_X9_needed_J48_18 (a0_48 : Nat) (i2_48 : Int32) (w0_48 : Int32) (w1_48 : Int32) (σ : ZT) : Option ((Int32 × Int32 × ZT) ⊕ (Int32 × ZT)) :=
  some (.inl ((w1_48 ||| w0_48), (i2_48 + (1 : Int32)), σ))
noncomputable def f_X9_needed_L18 (c0_18 : Nat) (i_2 : Int32) (i_3 : Int32) (σ : ZT) : Option ((Int32 × Int32 × ZT) ⊕ (Int32 × ZT)) :=
  (gR 9 900 c0_18 σ).bind fun v4 =>
  (ldI 0 v4 (1 : Int32) σ).bind fun v5 =>
  if i_3 < v5 then
  ((pI 9 926 c0_18 i_3 σ).bind fun σ =>
  bnd2 (vc 9 c0_18 σ (f_X9_canDo c0_18 σ)) fun v7 σ =>
  if v7 = 0 then
  (f_X9_needed_J48_18 c0_18 i_3 ((1 : Int32) <<< (i_3 &&& 31)) i_2 σ)
  else
  (f_X9_needed_J48_18 c0_18 i_3 (0 : Int32) i_2 σ))
  else
  (some (.inr (i_2, σ)))
noncomputable def f_X9_needed (a0 : Nat) (σ : ZT) : Option (Int32 × ZT) :=
  bnd2 (vc 9 a0 σ (f_X9_canDo a0 σ)) fun v1 σ =>
  if v1 = 0 then
  (bnd2 (vc 9 a0 σ (f_X9_refuse a0 (6 : Int32) σ)) fun v10 σ =>
  some (v10, σ))
  else
  ((loopC (fun s : (Int32 × Int32 × ZT) => f_X9_needed_L18 a0 s.1 s.2.1 s.2.2) ((0 : Int32), (0 : Int32), σ)).bind fun x => (match x with
  | (x8, σ) => (pI 9 926 a0 (-1 : Int32) σ).bind fun σ =>
  bnd2 (vc 9 a0 σ (f_X9_gives a0 x8 σ)) fun v9 σ =>
  some (v9, σ)))
set_option maxHeartbeats 4000000 in
theorem m_X9_needed {l : Launch} {G : ZG} (a0 : Nat) (σ : ZT) {out : (Int32 × ZT)} (hf : f_X9_needed a0 σ = some out) : ZM l G yX9_needed cX9_needed 3 (some .int) [] 10 [.ref a0] σ (.returned (some (.int out.1))) out.2 := by
  refine ZM.of [(0, .ref a0)] rfl (Nat.le_of_ble_eq_true rfl) fun X (C : ZC G RX9 "needed" cX9_needed 3 (some .int) [] X 10) => ?_
  unfold f_X9_needed at hf
  refine z_aload_n (q := 1) (i := 0) C 0 dX9_needed_0 rfl rfl rfl ?_
  refine z_callVi (q := 4) (As := []) C (fun o ho => m_X9_canDo _ _ ho) zk9 vvX9_409 cdX9_canDo pnX9 dX9_needed_1 rfl (by decide) (Nat.le_of_ble_eq_true rfl) hf rfl fun v1 σ hf => ?_
  refine z_ifne (q := 7) (tgt := 14) C dX9_needed_4 (by decide) rfl hf (fun c4 hf => ?_) (fun c4 hf => ?_)
  · refine z_iconst (q := 15) C (0 : Int32) dX9_needed_14 ki_0 rfl ?_
    refine z_istore_n (q := 16) (i := 1) (lv' := [(1, .int (0 : Int32)), (0, .ref a0)]) C dX9_needed_15 rfl (by decide) rfl rfl ?_
    refine z_iconst (q := 17) C (0 : Int32) dX9_needed_16 ki_0 rfl ?_
    refine z_istore_n (q := 18) (i := 2) (lv' := [(2, .int (0 : Int32)), (1, .int (0 : Int32)), (0, .ref a0)]) C dX9_needed_17 rfl (by decide) rfl rfl ?_
    refine z_lv [2, 1, 0] rfl ?_
    obtain ⟨r1, hr1, hk1⟩ := Option.bind_eq_some_iff.mp hf
    refine loopC_ind (P := fun s => ZW l G 3 X (ZQ G X (.returned (some (.int out.1))) out.2) s.2.2 18 [(0, .ref a0), (1, .int s.1), (2, .int s.2.1)] []) (fun s x1 hf hx1 => ?_) hr1
    obtain ⟨i_2, i_3, σ⟩ := s
    unfold f_X9_needed_L18 at hf
    try dsimp only at hf
    try dsimp only
    have j48_1 : ∀ (i2_48 : Int32) (w0_48 : Int32) (w1_48 : Int32) (σ : ZT), f_X9_needed_J48_18 a0 i2_48 w0_48 w1_48 σ = some x1 → ZW l G 3 X (ZQ G X (.returned (some (.int out.1))) out.2) σ 48 [(0, .ref a0), (2, .int i2_48)] [.int w0_48, .int w1_48] := by
      intro i2_48 w0_48 w1_48 σ hf
      unfold f_X9_needed_J48_18 at hf
      refine z_ior (q := 49) C dX9_needed_48 rfl ?_
      refine z_istore_n (q := 50) (i := 1) (lv' := [(1, .int (w1_48 ||| w0_48)), (0, .ref a0), (2, .int i2_48)]) C dX9_needed_49 rfl (by decide) rfl rfl ?_
      refine z_iinc (q := 53) (i := 2) (lv' := [(2, .int (i2_48 + (1 : Int32))), (1, .int (w1_48 ||| w0_48)), (0, .ref a0)]) C 2 (i2_48 + (1 : Int32)) dX9_needed_50 rfl (kn_1 _) (by decide) rfl rfl ?_
      refine z_goto (q := 18) C dX9_needed_53 (by decide) ?_
      refine z_lv [2, 1, 0] rfl ?_
      have hc1 := zl_c hf hx1
      exact hc1
    refine z_iload_n (q := 19) (i := 2) C 2 dX9_needed_18 rfl rfl rfl ?_
    refine z_aload_n (q := 20) (i := 0) C 0 dX9_needed_19 rfl rfl rfl ?_
    refine z_getR (q := 23) C flX9_7 dX9_needed_20 hf rfl fun v4 hf => ?_
    refine z_iconst (q := 24) C (1 : Int32) dX9_needed_23 ki_1 rfl ?_
    refine z_iald (q := 25) C dX9_needed_24 hf rfl fun v5 hf => ?_
    refine z_icmpge (q := 28) (tgt := 56) C dX9_needed_25 (by decide) rfl hf (fun c25 hf => ?_) (fun c25 hf => ?_)
    · have e1 := zl_x hf hx1
      have hf := hk1
      rw [← e1] at hf
      try dsimp only at hf
      refine z_aload_n (q := 57) (i := 0) C 0 dX9_needed_56 rfl rfl rfl ?_
      refine z_iconst (q := 58) C (-1 : Int32) dX9_needed_57 ki_m1 rfl ?_
      refine z_putI (q := 61) C puX9_53 dX9_needed_58 hf rfl fun σ hf => ?_
      refine z_aload_n (q := 62) (i := 0) C 0 dX9_needed_61 rfl rfl rfl ?_
      refine z_iload_n (q := 63) (i := 1) C 1 dX9_needed_62 rfl rfl rfl ?_
      refine z_callVi (q := 66) (As := [.int i_2]) C (fun o ho => m_X9_gives _ _ _ ho) zk9 vvX9_107 cdX9_gives pnX9 dX9_needed_63 rfl (by decide) (Nat.le_of_ble_eq_true rfl) hf rfl fun v6 σ hf => ?_
      exact z_ireturn C rfl dX9_needed_66 (Option.some.inj hf)
    · refine z_aload_n (q := 29) (i := 0) C 0 dX9_needed_28 rfl rfl rfl ?_
      refine z_iload_n (q := 30) (i := 2) C 2 dX9_needed_29 rfl rfl rfl ?_
      refine z_putI (q := 33) C puX9_53 dX9_needed_30 hf rfl fun σ hf => ?_
      refine z_iload_n (q := 34) (i := 1) C 1 dX9_needed_33 rfl rfl rfl ?_
      refine z_aload_n (q := 35) (i := 0) C 0 dX9_needed_34 rfl rfl rfl ?_
      refine z_callVi (q := 38) (As := []) C (fun o ho => m_X9_canDo _ _ ho) zk9 vvX9_409 cdX9_canDo pnX9 dX9_needed_35 rfl (by decide) (Nat.le_of_ble_eq_true rfl) hf rfl fun v7 σ hf => ?_
      refine z_ifeq (q := 41) (tgt := 45) C dX9_needed_38 (by decide) rfl hf (fun c38 hf => ?_) (fun c38 hf => ?_)
      · refine z_iconst (q := 46) C (1 : Int32) dX9_needed_45 ki_1 rfl ?_
        refine z_iload_n (q := 47) (i := 2) C 2 dX9_needed_46 rfl rfl rfl ?_
        refine z_ishl (q := 48) C dX9_needed_47 rfl ?_
        refine z_lv [0, 2] rfl ?_
        exact j48_1 i_3 ((1 : Int32) <<< (i_3 &&& 31)) i_2 σ hf
      · refine z_iconst (q := 42) C (0 : Int32) dX9_needed_41 ki_0 rfl ?_
        refine z_goto (q := 48) C dX9_needed_42 (by decide) ?_
        refine z_lv [0, 2] rfl ?_
        exact j48_1 i_3 (0 : Int32) i_2 σ hf
  · refine z_aload_n (q := 8) (i := 0) C 0 dX9_needed_7 rfl rfl rfl ?_
    refine z_bipush (q := 10) C (6 : Int32) dX9_needed_8 kb_6 rfl ?_
    refine z_callVi (q := 13) (As := [.int (6 : Int32)]) C (fun o ho => m_X9_refuse _ _ _ ho) zk9 vvX9_103 cdX9_refuse pnX9 dX9_needed_10 rfl (by decide) (Nat.le_of_ble_eq_true rfl) hf rfl fun v8 σ hf => ?_
    exact z_ireturn C rfl dX9_needed_13 (Option.some.inj hf)

noncomputable def f_X9_canWith (a0 : Nat) (i1 : Int32) (i2 : Int32) (σ : ZT) : Option (Int32 × ZT) :=
  (pI 9 928 a0 i1 σ).bind fun σ =>
  (pI 9 927 a0 i2 σ).bind fun σ =>
  bnd2 (vc 9 a0 σ (f_X9_canDo a0 σ)) fun v1 σ =>
  (pI 9 927 a0 (0 : Int32) σ).bind fun σ =>
  (rz v1).bind fun z2 =>
  some (z2, σ)
set_option maxHeartbeats 4000000 in
theorem m_X9_canWith {l : Launch} {G : ZG} (a0 : Nat) (i1 : Int32) (i2 : Int32) (σ : ZT) {out : (Int32 × ZT)} (hf : f_X9_canWith a0 i1 i2 σ = some out) : ZM l G yX9_canWith cX9_canWith 4 (some .boolean) [] 10 [.ref a0, .int i1, .int i2] σ (.returned (some (.int out.1))) out.2 := by
  refine ZM.of [(0, .ref a0), (1, .int i1), (2, .int i2)] rfl (Nat.le_of_ble_eq_true rfl) fun X (C : ZC G RX9 "canWith" cX9_canWith 4 (some .boolean) [] X 10) => ?_
  unfold f_X9_canWith at hf
  refine z_aload_n (q := 1) (i := 0) C 0 dX9_canWith_0 rfl rfl rfl ?_
  refine z_iload_n (q := 2) (i := 1) C 1 dX9_canWith_1 rfl rfl rfl ?_
  refine z_putI (q := 5) C puX9_309 dX9_canWith_2 hf rfl fun σ hf => ?_
  refine z_aload_n (q := 6) (i := 0) C 0 dX9_canWith_5 rfl rfl rfl ?_
  refine z_iload_n (q := 7) (i := 2) C 2 dX9_canWith_6 rfl rfl rfl ?_
  refine z_putI (q := 10) C puX9_312 dX9_canWith_7 hf rfl fun σ hf => ?_
  refine z_aload_n (q := 11) (i := 0) C 0 dX9_canWith_10 rfl rfl rfl ?_
  refine z_callVi (q := 14) (As := []) C (fun o ho => m_X9_canDo _ _ ho) zk9 vvX9_409 cdX9_canDo pnX9 dX9_canWith_11 rfl (by decide) (Nat.le_of_ble_eq_true rfl) hf rfl fun v1 σ hf => ?_
  refine z_istore_n (q := 15) (i := 3) (lv' := [(3, .int v1), (0, .ref a0), (1, .int i1), (2, .int i2)]) C dX9_canWith_14 rfl (by decide) rfl rfl ?_
  refine z_aload_n (q := 16) (i := 0) C 1 dX9_canWith_15 rfl rfl rfl ?_
  refine z_iconst (q := 17) C (0 : Int32) dX9_canWith_16 ki_0 rfl ?_
  refine z_putI (q := 20) C puX9_312 dX9_canWith_17 hf rfl fun σ hf => ?_
  refine z_iload_n (q := 21) (i := 3) C 0 dX9_canWith_20 rfl rfl rfl ?_
  refine z_rz C hf fun hn hf => ?_
  exact z_zreturn C rfl hn dX9_canWith_21 (Option.some.inj hf)

noncomputable def f_X9_stoneAt_J52_19 (a0_52 : Nat) (i1_52 : Int32) (i2_52 : Int32) (i3_52 : Int32) (σ : ZT) : Option ((Int32 × Int32 × ZT) ⊕ (Int32 × ZT)) :=
  some (.inl (i2_52, i3_52, σ))
noncomputable def f_X9_stoneAt_L19 (c0_19 : Nat) (c1_19 : Int32) (i_2 : Int32) (i_3 : Int32) (σ : ZT) : Option ((Int32 × Int32 × ZT) ⊕ (Int32 × ZT)) :=
  if i_2 < i_3 then
  ((zidiv (i_2 + i_3) (2 : Int32)).bind fun v4 =>
  bnd2 (vc 9 c0_19 σ (f_X9_canWith c0_19 c1_19 v4 σ)) fun v5 σ =>
  if v5 = 0 then
  (f_X9_stoneAt_J52_19 c0_19 c1_19 (v4 + (1 : Int32)) i_3 σ)
  else
  (f_X9_stoneAt_J52_19 c0_19 c1_19 i_2 v4 σ))
  else
  (some (.inr (i_3, σ)))
noncomputable def f_X9_stoneAt (a0 : Nat) (i1 : Int32) (σ : ZT) : Option (Int32 × ZT) :=
  bnd2 (vc 9 a0 σ (f_X9_canWith a0 i1 (999 : Int32) σ)) fun v1 σ =>
  if v1 = 0 then
  (some ((-1 : Int32), σ))
  else
  ((loopC (fun s : (Int32 × Int32 × ZT) => f_X9_stoneAt_L19 a0 i1 s.1 s.2.1 s.2.2) ((0 : Int32), (999 : Int32), σ)).bind fun x => (match x with
  | (x6, σ) => some (x6, σ)))
set_option maxHeartbeats 4000000 in
theorem m_X9_stoneAt {l : Launch} {G : ZG} (a0 : Nat) (i1 : Int32) (σ : ZT) {out : (Int32 × ZT)} (hf : f_X9_stoneAt a0 i1 σ = some out) : ZM l G yX9_stoneAt cX9_stoneAt 5 (some .int) [] 11 [.ref a0, .int i1] σ (.returned (some (.int out.1))) out.2 := by
  refine ZM.of [(0, .ref a0), (1, .int i1)] rfl (Nat.le_of_ble_eq_true rfl) fun X (C : ZC G RX9 "stoneAt" cX9_stoneAt 5 (some .int) [] X 11) => ?_
  unfold f_X9_stoneAt at hf
  refine z_aload_n (q := 1) (i := 0) C 0 dX9_stoneAt_0 rfl rfl rfl ?_
  refine z_iload_n (q := 2) (i := 1) C 1 dX9_stoneAt_1 rfl rfl rfl ?_
  refine z_sipush (q := 5) C (999 : Int32) dX9_stoneAt_2 ks_999 rfl ?_
  refine z_callVi (q := 8) (As := [.int i1, .int (999 : Int32)]) C (fun o ho => m_X9_canWith _ _ _ _ ho) zk9 vvX9_412 cdX9_canWith pnX9 dX9_stoneAt_5 rfl (by decide) (Nat.le_of_ble_eq_true rfl) hf rfl fun v1 σ hf => ?_
  refine z_ifne (q := 11) (tgt := 13) C dX9_stoneAt_8 (by decide) rfl hf (fun c8 hf => ?_) (fun c8 hf => ?_)
  · refine z_iconst (q := 14) C (0 : Int32) dX9_stoneAt_13 ki_0 rfl ?_
    refine z_istore_n (q := 15) (i := 2) (lv' := [(2, .int (0 : Int32)), (0, .ref a0), (1, .int i1)]) C dX9_stoneAt_14 rfl (by decide) rfl rfl ?_
    refine z_sipush (q := 18) C (999 : Int32) dX9_stoneAt_15 ks_999 rfl ?_
    refine z_istore_n (q := 19) (i := 3) (lv' := [(3, .int (999 : Int32)), (2, .int (0 : Int32)), (0, .ref a0), (1, .int i1)]) C dX9_stoneAt_18 rfl (by decide) rfl rfl ?_
    refine z_lv [2, 3, 1, 0] rfl ?_
    obtain ⟨r1, hr1, hk1⟩ := Option.bind_eq_some_iff.mp hf
    refine loopC_ind (P := fun s => ZW l G 5 X (ZQ G X (.returned (some (.int out.1))) out.2) s.2.2 19 [(0, .ref a0), (1, .int i1), (2, .int s.1), (3, .int s.2.1)] []) (fun s x1 hf hx1 => ?_) hr1
    obtain ⟨i_2, i_3, σ⟩ := s
    unfold f_X9_stoneAt_L19 at hf
    try dsimp only at hf
    try dsimp only
    have j52_1 : ∀ (i2_52 : Int32) (i3_52 : Int32) (σ : ZT), f_X9_stoneAt_J52_19 a0 i1 i2_52 i3_52 σ = some x1 → ZW l G 5 X (ZQ G X (.returned (some (.int out.1))) out.2) σ 52 [(0, .ref a0), (1, .int i1), (2, .int i2_52), (3, .int i3_52)] [] := by
      intro i2_52 i3_52 σ hf
      unfold f_X9_stoneAt_J52_19 at hf
      refine z_goto (q := 19) C dX9_stoneAt_52 (by decide) ?_
      have hc1 := zl_c hf hx1
      exact hc1
    refine z_iload_n (q := 20) (i := 2) C 2 dX9_stoneAt_19 rfl rfl rfl ?_
    refine z_iload_n (q := 21) (i := 3) C 3 dX9_stoneAt_20 rfl rfl rfl ?_
    refine z_icmpge (q := 24) (tgt := 55) C dX9_stoneAt_21 (by decide) rfl hf (fun c21 hf => ?_) (fun c21 hf => ?_)
    · have e1 := zl_x hf hx1
      have hf := hk1
      rw [← e1] at hf
      try dsimp only at hf
      refine z_iload_n (q := 56) (i := 3) C 3 dX9_stoneAt_55 rfl rfl rfl ?_
      exact z_ireturn C rfl dX9_stoneAt_56 (Option.some.inj hf)
    · refine z_iload_n (q := 25) (i := 2) C 2 dX9_stoneAt_24 rfl rfl rfl ?_
      refine z_iload_n (q := 26) (i := 3) C 3 dX9_stoneAt_25 rfl rfl rfl ?_
      refine z_iadd (q := 27) C dX9_stoneAt_26 rfl ?_
      refine z_iconst (q := 28) C (2 : Int32) dX9_stoneAt_27 ki_2 rfl ?_
      refine z_idiv (q := 29) C dX9_stoneAt_28 hf rfl fun v4 hf => ?_
      refine z_istore (q := 31) (i := 4) (lv' := [(4, .int v4), (0, .ref a0), (1, .int i1), (2, .int i_2), (3, .int i_3)]) C dX9_stoneAt_29 (by decide) rfl rfl ?_
      refine z_aload_n (q := 32) (i := 0) C 1 dX9_stoneAt_31 rfl rfl rfl ?_
      refine z_iload_n (q := 33) (i := 1) C 2 dX9_stoneAt_32 rfl rfl rfl ?_
      refine z_iload (q := 35) (i := 4) C 0 dX9_stoneAt_33 rfl rfl ?_
      refine z_callVi (q := 38) (As := [.int i1, .int v4]) C (fun o ho => m_X9_canWith _ _ _ _ ho) zk9 vvX9_412 cdX9_canWith pnX9 dX9_stoneAt_35 rfl (by decide) (Nat.le_of_ble_eq_true rfl) hf rfl fun v5 σ hf => ?_
      refine z_ifeq (q := 41) (tgt := 47) C dX9_stoneAt_38 (by decide) rfl hf (fun c38 hf => ?_) (fun c38 hf => ?_)
      · refine z_iload (q := 49) (i := 4) C 0 dX9_stoneAt_47 rfl rfl ?_
        refine z_iconst (q := 50) C (1 : Int32) dX9_stoneAt_49 ki_1 rfl ?_
        refine z_iadd (q := 51) C dX9_stoneAt_50 rfl ?_
        refine z_istore_n (q := 52) (i := 2) (lv' := [(2, .int (v4 + (1 : Int32))), (4, .int v4), (0, .ref a0), (1, .int i1), (3, .int i_3)]) C dX9_stoneAt_51 rfl (by decide) rfl rfl ?_
        refine z_lv [2, 3, 0, 4] rfl ?_
        exact j52_1 (v4 + (1 : Int32)) i_3 σ hf
      · refine z_iload (q := 43) (i := 4) C 0 dX9_stoneAt_41 rfl rfl ?_
        refine z_istore_n (q := 44) (i := 3) (lv' := [(3, .int v4), (4, .int v4), (0, .ref a0), (1, .int i1), (2, .int i_2)]) C dX9_stoneAt_43 rfl (by decide) rfl rfl ?_
        refine z_goto (q := 52) C dX9_stoneAt_44 (by decide) ?_
        refine z_lv [2, 3, 4, 0] rfl ?_
        exact j52_1 i_2 v4 σ hf
  · refine z_iconst (q := 12) C (-1 : Int32) dX9_stoneAt_11 ki_m1 rfl ?_
    exact z_ireturn C rfl dX9_stoneAt_12 (Option.some.inj hf)

noncomputable def f_X9_stone_J25 (w0_25 : Int32) (σ : ZT) : Option (Int32 × ZT) :=
  some (w0_25, σ)
noncomputable def f_X9_stone (a0 : Nat) (i1 : Int32) (σ : ZT) : Option (Int32 × ZT) :=
  bnd2 (vc 9 a0 σ (f_X9_isPlace a0 i1 σ)) fun v1 σ =>
  if v1 = 0 then
  (bnd2 (vc 9 a0 σ (f_X9_refuse a0 (1 : Int32) σ)) fun v2 σ =>
  f_X9_stone_J25 v2 σ)
  else
  (bnd2 (vc 9 a0 σ (f_X9_stoneAt a0 i1 σ)) fun v3 σ =>
  bnd2 (vc 9 a0 σ (f_X9_orNone a0 v3 σ)) fun v4 σ =>
  f_X9_stone_J25 v4 σ)
set_option maxHeartbeats 4000000 in
theorem m_X9_stone {l : Launch} {G : ZG} (a0 : Nat) (i1 : Int32) (σ : ZT) {out : (Int32 × ZT)} (hf : f_X9_stone a0 i1 σ = some out) : ZM l G yX9_stone cX9_stone 2 (some .int) [] 12 [.ref a0, .int i1] σ (.returned (some (.int out.1))) out.2 := by
  refine ZM.of [(0, .ref a0), (1, .int i1)] rfl (Nat.le_of_ble_eq_true rfl) fun X (C : ZC G RX9 "stone" cX9_stone 2 (some .int) [] X 12) => ?_
  unfold f_X9_stone at hf
  have j25_0 : ∀ (w0_25 : Int32) (σ : ZT), f_X9_stone_J25 w0_25 σ = some out → ZW l G 2 X (ZQ G X (.returned (some (.int out.1))) out.2) σ 25 [] [.int w0_25] := by
    intro w0_25 σ hf
    unfold f_X9_stone_J25 at hf
    exact z_ireturn C rfl dX9_stone_25 (Option.some.inj hf)
  refine z_aload_n (q := 1) (i := 0) C 0 dX9_stone_0 rfl rfl rfl ?_
  refine z_iload_n (q := 2) (i := 1) C 1 dX9_stone_1 rfl rfl rfl ?_
  refine z_callVi (q := 5) (As := [.int i1]) C (fun o ho => m_X9_isPlace _ _ _ ho) zk9 vvX9_303 cdX9_isPlace pnX9 dX9_stone_2 rfl (by decide) (Nat.le_of_ble_eq_true rfl) hf rfl fun v1 σ hf => ?_
  refine z_ifeq (q := 8) (tgt := 20) C dX9_stone_5 (by decide) rfl hf (fun c5 hf => ?_) (fun c5 hf => ?_)
  · refine z_aload_n (q := 21) (i := 0) C 0 dX9_stone_20 rfl rfl rfl ?_
    refine z_iconst (q := 22) C (1 : Int32) dX9_stone_21 ki_1 rfl ?_
    refine z_callVi (q := 25) (As := [.int (1 : Int32)]) C (fun o ho => m_X9_refuse _ _ _ ho) zk9 vvX9_103 cdX9_refuse pnX9 dX9_stone_22 rfl (by decide) (Nat.le_of_ble_eq_true rfl) hf rfl fun v2 σ hf => ?_
    refine z_lv [] rfl ?_
    exact j25_0 v2 σ hf
  · refine z_aload_n (q := 9) (i := 0) C 0 dX9_stone_8 rfl rfl rfl ?_
    refine z_aload_n (q := 10) (i := 0) C 0 dX9_stone_9 rfl rfl rfl ?_
    refine z_iload_n (q := 11) (i := 1) C 1 dX9_stone_10 rfl rfl rfl ?_
    refine z_callVi (q := 14) (As := [.int i1]) C (fun o ho => m_X9_stoneAt _ _ _ ho) zk9 vvX9_415 cdX9_stoneAt pnX9 dX9_stone_11 rfl (by decide) (Nat.le_of_ble_eq_true rfl) hf rfl fun v3 σ hf => ?_
    refine z_callVi (q := 17) (As := [.int v3]) C (fun o ho => m_X9_orNone _ _ _ ho) zk9 vvX9_300 cdX9_orNone pnX9 dX9_stone_14 rfl (by decide) (Nat.le_of_ble_eq_true rfl) hf rfl fun v4 σ hf => ?_
    refine z_goto (q := 25) C dX9_stone_17 (by decide) ?_
    refine z_lv [] rfl ?_
    exact j25_0 v4 σ hf

noncomputable def f_X9_bestStone_J67_22 (a0_67 : Nat) (i1_67 : Int32) (i2_67 : Int32) (i3_67 : Int32) (i4_67 : Int32) (σ : ZT) : Option ((Int32 × Int32 × Int32 × ZT) ⊕ (Int32 × Int32 × ZT)) :=
  some (.inl (i2_67, i3_67, (i4_67 + (1 : Int32)), σ))
noncomputable def f_X9_bestStone_J61_22 (a0_61 : Nat) (i1_61 : Int32) (i4_61 : Int32) (i5_61 : Int32) (σ : ZT) : Option ((Int32 × Int32 × Int32 × ZT) ⊕ (Int32 × Int32 × ZT)) :=
  f_X9_bestStone_J67_22 a0_61 i1_61 i4_61 i5_61 i4_61 σ
noncomputable def f_X9_bestStone_L22 (c0_22 : Nat) (c1_22 : Int32) (i_1 : Int32) (i_2 : Int32) (i_3 : Int32) (σ : ZT) : Option ((Int32 × Int32 × Int32 × ZT) ⊕ (Int32 × Int32 × ZT)) :=
  (gR 9 900 c0_22 σ).bind fun v4 =>
  (ldI 0 v4 (0 : Int32) σ).bind fun v5 =>
  if i_3 < v5 then
  (bnd2 (vc 9 c0_22 σ (f_X9_stoneAt c0_22 i_3 σ)) fun v7 σ =>
  if v7 = (-1 : Int32) then
  (f_X9_bestStone_J67_22 c0_22 c1_22 i_1 i_2 i_3 σ)
  else
  (if i_1 = (-1 : Int32) then
  (f_X9_bestStone_J61_22 c0_22 c1_22 i_3 v7 σ)
  else
  (if v7 < i_2 then
  (f_X9_bestStone_J61_22 c0_22 c1_22 i_3 v7 σ)
  else
  (f_X9_bestStone_J67_22 c0_22 c1_22 i_1 i_2 i_3 σ))))
  else
  (some (.inr (i_1, i_2, σ)))
noncomputable def f_X9_bestStone_J9 (a0_9 : Nat) (σ : ZT) : Option (Int32 × ZT) :=
  bnd2 (vc 9 a0_9 σ (f_X9_refuse a0_9 (1 : Int32) σ)) fun v11 σ =>
  some (v11, σ)
noncomputable def f_X9_bestStone_J100 (w0_100 : Int32) (σ : ZT) : Option (Int32 × ZT) :=
  some (w0_100, σ)
noncomputable def f_X9_bestStone_J97 (w0_97 : Int32) (w1_97 : Nat) (σ : ZT) : Option (Int32 × ZT) :=
  bnd2 (vc 9 w1_97 σ (f_X9_gives w1_97 w0_97 σ)) fun v12 σ =>
  f_X9_bestStone_J100 v12 σ
noncomputable def f_X9_bestStone (a0 : Nat) (i1 : Int32) (σ : ZT) : Option (Int32 × ZT) :=
  if i1 < 0 then
  (f_X9_bestStone_J9 a0 σ)
  else
  (if (1 : Int32) < i1 then
  (f_X9_bestStone_J9 a0 σ)
  else
  ((loopC (fun s : (Int32 × Int32 × Int32 × ZT) => f_X9_bestStone_L22 a0 i1 s.1 s.2.1 s.2.2.1 s.2.2.2) ((-1 : Int32), (0 : Int32), (0 : Int32), σ)).bind fun x => (match x with
  | (x8, x9, σ) => if x8 = (-1 : Int32) then
  (bnd2 (vc 9 a0 σ (f_X9_refuse a0 (6 : Int32) σ)) fun v10 σ =>
  f_X9_bestStone_J100 v10 σ)
  else
  (if i1 = 0 then
  (f_X9_bestStone_J97 x8 a0 σ)
  else
  (f_X9_bestStone_J97 x9 a0 σ)))))
set_option maxHeartbeats 4000000 in
theorem m_X9_bestStone {l : Launch} {G : ZG} (a0 : Nat) (i1 : Int32) (σ : ZT) {out : (Int32 × ZT)} (hf : f_X9_bestStone a0 i1 σ = some out) : ZM l G yX9_bestStone cX9_bestStone 6 (some .int) [] 12 [.ref a0, .int i1] σ (.returned (some (.int out.1))) out.2 := by
  refine ZM.of [(0, .ref a0), (1, .int i1)] rfl (Nat.le_of_ble_eq_true rfl) fun X (C : ZC G RX9 "bestStone" cX9_bestStone 6 (some .int) [] X 12) => ?_
  unfold f_X9_bestStone at hf
  have j100_0 : ∀ (w0_100 : Int32) (σ : ZT), f_X9_bestStone_J100 w0_100 σ = some out → ZW l G 6 X (ZQ G X (.returned (some (.int out.1))) out.2) σ 100 [] [.int w0_100] := by
    intro w0_100 σ hf
    unfold f_X9_bestStone_J100 at hf
    exact z_ireturn C rfl dX9_bestStone_100 (Option.some.inj hf)
  have j97_0 : ∀ (w0_97 : Int32) (w1_97 : Nat) (σ : ZT), f_X9_bestStone_J97 w0_97 w1_97 σ = some out → ZW l G 6 X (ZQ G X (.returned (some (.int out.1))) out.2) σ 97 [] [.int w0_97, .ref w1_97] := by
    intro w0_97 w1_97 σ hf
    unfold f_X9_bestStone_J97 at hf
    refine z_callVi (q := 100) (As := [.int w0_97]) C (fun o ho => m_X9_gives _ _ _ ho) zk9 vvX9_107 cdX9_gives pnX9 dX9_bestStone_97 rfl (by decide) (Nat.le_of_ble_eq_true rfl) hf rfl fun v9 σ hf => ?_
    exact j100_0 v9 σ hf
  have j9_0 : ∀ (a0_9 : Nat) (σ : ZT), f_X9_bestStone_J9 a0_9 σ = some out → ZW l G 6 X (ZQ G X (.returned (some (.int out.1))) out.2) σ 9 [(0, .ref a0_9)] [] := by
    intro a0_9 σ hf
    unfold f_X9_bestStone_J9 at hf
    refine z_aload_n (q := 10) (i := 0) C 0 dX9_bestStone_9 rfl rfl rfl ?_
    refine z_iconst (q := 11) C (1 : Int32) dX9_bestStone_10 ki_1 rfl ?_
    refine z_callVi (q := 14) (As := [.int (1 : Int32)]) C (fun o ho => m_X9_refuse _ _ _ ho) zk9 vvX9_103 cdX9_refuse pnX9 dX9_bestStone_11 rfl (by decide) (Nat.le_of_ble_eq_true rfl) hf rfl fun v8 σ hf => ?_
    exact z_ireturn C rfl dX9_bestStone_14 (Option.some.inj hf)
  refine z_iload_n (q := 1) (i := 1) C 1 dX9_bestStone_0 rfl rfl rfl ?_
  refine z_iflt (q := 4) (tgt := 9) C dX9_bestStone_1 (by decide) rfl hf (fun c1 hf => ?_) (fun c1 hf => ?_)
  · refine z_lv [0] rfl ?_
    exact j9_0 a0 σ hf
  · refine z_iload_n (q := 5) (i := 1) C 1 dX9_bestStone_4 rfl rfl rfl ?_
    refine z_iconst (q := 6) C (1 : Int32) dX9_bestStone_5 ki_1 rfl ?_
    refine z_icmple (q := 9) (tgt := 15) C dX9_bestStone_6 (by decide) rfl hf (fun c6 hf => ?_) (fun c6 hf => ?_)
    · refine z_iconst (q := 16) C (-1 : Int32) dX9_bestStone_15 ki_m1 rfl ?_
      refine z_istore_n (q := 17) (i := 2) (lv' := [(2, .int (-1 : Int32)), (0, .ref a0), (1, .int i1)]) C dX9_bestStone_16 rfl (by decide) rfl rfl ?_
      refine z_iconst (q := 18) C (0 : Int32) dX9_bestStone_17 ki_0 rfl ?_
      refine z_istore_n (q := 19) (i := 3) (lv' := [(3, .int (0 : Int32)), (2, .int (-1 : Int32)), (0, .ref a0), (1, .int i1)]) C dX9_bestStone_18 rfl (by decide) rfl rfl ?_
      refine z_iconst (q := 20) C (0 : Int32) dX9_bestStone_19 ki_0 rfl ?_
      refine z_istore (q := 22) (i := 4) (lv' := [(4, .int (0 : Int32)), (3, .int (0 : Int32)), (2, .int (-1 : Int32)), (0, .ref a0), (1, .int i1)]) C dX9_bestStone_20 (by decide) rfl rfl ?_
      refine z_lv [3, 4, 2, 1, 0] rfl ?_
      obtain ⟨r1, hr1, hk1⟩ := Option.bind_eq_some_iff.mp hf
      refine loopC_ind (P := fun s => ZW l G 6 X (ZQ G X (.returned (some (.int out.1))) out.2) s.2.2.2 22 [(0, .ref a0), (1, .int i1), (2, .int s.1), (3, .int s.2.1), (4, .int s.2.2.1)] []) (fun s x1 hf hx1 => ?_) hr1
      obtain ⟨i_1, i_2, i_3, σ⟩ := s
      unfold f_X9_bestStone_L22 at hf
      try dsimp only at hf
      try dsimp only
      have j67_1 : ∀ (i2_67 : Int32) (i3_67 : Int32) (i4_67 : Int32) (σ : ZT), f_X9_bestStone_J67_22 a0 i1 i2_67 i3_67 i4_67 σ = some x1 → ZW l G 6 X (ZQ G X (.returned (some (.int out.1))) out.2) σ 67 [(0, .ref a0), (1, .int i1), (2, .int i2_67), (3, .int i3_67), (4, .int i4_67)] [] := by
        intro i2_67 i3_67 i4_67 σ hf
        unfold f_X9_bestStone_J67_22 at hf
        refine z_iinc (q := 70) (i := 4) (lv' := [(4, .int (i4_67 + (1 : Int32))), (0, .ref a0), (1, .int i1), (2, .int i2_67), (3, .int i3_67)]) C 4 (i4_67 + (1 : Int32)) dX9_bestStone_67 rfl (kn_1 _) (by decide) rfl rfl ?_
        refine z_goto (q := 22) C dX9_bestStone_70 (by decide) ?_
        refine z_lv [1, 2, 3, 4, 0] rfl ?_
        have hc1 := zl_c hf hx1
        exact hc1
      have j61_1 : ∀ (i4_61 : Int32) (i5_61 : Int32) (σ : ZT), f_X9_bestStone_J61_22 a0 i1 i4_61 i5_61 σ = some x1 → ZW l G 6 X (ZQ G X (.returned (some (.int out.1))) out.2) σ 61 [(0, .ref a0), (1, .int i1), (4, .int i4_61), (5, .int i5_61)] [] := by
        intro i4_61 i5_61 σ hf
        unfold f_X9_bestStone_J61_22 at hf
        refine z_iload (q := 63) (i := 4) C 2 dX9_bestStone_61 rfl rfl ?_
        refine z_istore_n (q := 64) (i := 2) (lv' := [(2, .int i4_61), (0, .ref a0), (1, .int i1), (4, .int i4_61), (5, .int i5_61)]) C dX9_bestStone_63 rfl (by decide) rfl rfl ?_
        refine z_iload (q := 66) (i := 5) C 4 dX9_bestStone_64 rfl rfl ?_
        refine z_istore_n (q := 67) (i := 3) (lv' := [(3, .int i5_61), (2, .int i4_61), (0, .ref a0), (1, .int i1), (4, .int i4_61), (5, .int i5_61)]) C dX9_bestStone_66 rfl (by decide) rfl rfl ?_
        refine z_lv [2, 3, 1, 0, 4] rfl ?_
        exact j67_1 i4_61 i5_61 i4_61 σ hf
      refine z_iload (q := 24) (i := 4) C 4 dX9_bestStone_22 rfl rfl ?_
      refine z_aload_n (q := 25) (i := 0) C 0 dX9_bestStone_24 rfl rfl rfl ?_
      refine z_getR (q := 28) C flX9_7 dX9_bestStone_25 hf rfl fun v4 hf => ?_
      refine z_iconst (q := 29) C (0 : Int32) dX9_bestStone_28 ki_0 rfl ?_
      refine z_iald (q := 30) C dX9_bestStone_29 hf rfl fun v5 hf => ?_
      refine z_icmpge (q := 33) (tgt := 73) C dX9_bestStone_30 (by decide) rfl hf (fun c30 hf => ?_) (fun c30 hf => ?_)
      · have e1 := zl_x hf hx1
        have hf := hk1
        rw [← e1] at hf
        try dsimp only at hf
        refine z_iload_n (q := 74) (i := 2) C 2 dX9_bestStone_73 rfl rfl rfl ?_
        refine z_iconst (q := 75) C (-1 : Int32) dX9_bestStone_74 ki_m1 rfl ?_
        refine z_icmpne (q := 78) (tgt := 87) C dX9_bestStone_75 (by decide) rfl hf (fun c75 hf => ?_) (fun c75 hf => ?_)
        · refine z_aload_n (q := 88) (i := 0) C 0 dX9_bestStone_87 rfl rfl rfl ?_
          refine z_iload_n (q := 89) (i := 1) C 1 dX9_bestStone_88 rfl rfl rfl ?_
          refine z_ifne (q := 92) (tgt := 96) C dX9_bestStone_89 (by decide) rfl hf (fun c89 hf => ?_) (fun c89 hf => ?_)
          · refine z_iload_n (q := 97) (i := 3) C 3 dX9_bestStone_96 rfl rfl rfl ?_
            refine z_lv [] rfl ?_
            exact j97_0 i_2 a0 σ hf
          · refine z_iload_n (q := 93) (i := 2) C 2 dX9_bestStone_92 rfl rfl rfl ?_
            refine z_goto (q := 97) C dX9_bestStone_93 (by decide) ?_
            refine z_lv [] rfl ?_
            exact j97_0 i_1 a0 σ hf
        · refine z_aload_n (q := 79) (i := 0) C 0 dX9_bestStone_78 rfl rfl rfl ?_
          refine z_bipush (q := 81) C (6 : Int32) dX9_bestStone_79 kb_6 rfl ?_
          refine z_callVi (q := 84) (As := [.int (6 : Int32)]) C (fun o ho => m_X9_refuse _ _ _ ho) zk9 vvX9_103 cdX9_refuse pnX9 dX9_bestStone_81 rfl (by decide) (Nat.le_of_ble_eq_true rfl) hf rfl fun v6 σ hf => ?_
          refine z_goto (q := 100) C dX9_bestStone_84 (by decide) ?_
          refine z_lv [] rfl ?_
          exact j100_0 v6 σ hf
      · refine z_aload_n (q := 34) (i := 0) C 0 dX9_bestStone_33 rfl rfl rfl ?_
        refine z_iload (q := 36) (i := 4) C 4 dX9_bestStone_34 rfl rfl ?_
        refine z_callVi (q := 39) (As := [.int i_3]) C (fun o ho => m_X9_stoneAt _ _ _ ho) zk9 vvX9_415 cdX9_stoneAt pnX9 dX9_bestStone_36 rfl (by decide) (Nat.le_of_ble_eq_true rfl) hf rfl fun v7 σ hf => ?_
        refine z_istore (q := 41) (i := 5) (lv' := [(5, .int v7), (0, .ref a0), (1, .int i1), (2, .int i_1), (3, .int i_2), (4, .int i_3)]) C dX9_bestStone_39 (by decide) rfl rfl ?_
        refine z_iload (q := 43) (i := 5) C 0 dX9_bestStone_41 rfl rfl ?_
        refine z_iconst (q := 44) C (-1 : Int32) dX9_bestStone_43 ki_m1 rfl ?_
        refine z_icmpeq (q := 47) (tgt := 67) C dX9_bestStone_44 (by decide) rfl hf (fun c44 hf => ?_) (fun c44 hf => ?_)
        · refine z_lv [1, 2, 3, 4, 5] rfl ?_
          exact j67_1 i_1 i_2 i_3 σ hf
        · refine z_iload_n (q := 48) (i := 2) C 3 dX9_bestStone_47 rfl rfl rfl ?_
          refine z_iconst (q := 49) C (-1 : Int32) dX9_bestStone_48 ki_m1 rfl ?_
          refine z_icmpeq (q := 52) (tgt := 61) C dX9_bestStone_49 (by decide) rfl hf (fun c49 hf => ?_) (fun c49 hf => ?_)
          · refine z_lv [1, 2, 5, 0] rfl ?_
            exact j61_1 i_3 v7 σ hf
          · refine z_iload (q := 54) (i := 5) C 0 dX9_bestStone_52 rfl rfl ?_
            refine z_iload_n (q := 55) (i := 3) C 4 dX9_bestStone_54 rfl rfl rfl ?_
            refine z_icmplt (q := 58) (tgt := 61) C dX9_bestStone_55 (by decide) rfl hf (fun c55 hf => ?_) (fun c55 hf => ?_)
            · refine z_lv [1, 2, 5, 0] rfl ?_
              exact j61_1 i_3 v7 σ hf
            · refine z_goto (q := 67) C dX9_bestStone_58 (by decide) ?_
              refine z_lv [1, 2, 3, 4, 5] rfl ?_
              exact j67_1 i_1 i_2 i_3 σ hf
    · refine z_lv [0] rfl ?_
      exact j9_0 a0 σ hf

noncomputable def f_X9_isFrom_J18 (w0_18 : Int32) (σ : ZT) : Option (Int32 × ZT) :=
  (rz w0_18).bind fun z1 =>
  some (z1, σ)
noncomputable def f_X9_isFrom_J17  (σ : ZT) : Option (Int32 × ZT) :=
  f_X9_isFrom_J18 (0 : Int32) σ
noncomputable def f_X9_isFrom (l0 : Int64) (l2 : Int64) (l4 : Int64) (σ : ZT) : Option (Int32 × ZT) :=
  if (lg_cmp l0 l2) < 0 then
  (f_X9_isFrom_J17  σ)
  else
  (if 0 < (lg_cmp l0 l4) then
  (f_X9_isFrom_J17  σ)
  else
  (f_X9_isFrom_J18 (1 : Int32) σ))
set_option maxHeartbeats 4000000 in
theorem m_X9_isFrom {l : Launch} {G : ZG} (l0 : Int64) (l2 : Int64) (l4 : Int64) (σ : ZT) {out : (Int32 × ZT)} (hf : f_X9_isFrom l0 l2 l4 σ = some out) : ZM l G yX9_isFrom cX9_isFrom 6 (some .boolean) [] 1 [.long l0, .long l2, .long l4] σ (.returned (some (.int out.1))) out.2 := by
  refine ZM.of [(0, .long l0), (2, .long l2), (4, .long l4)] rfl (Nat.le_of_ble_eq_true rfl) fun X (C : ZC G RX9 "isFrom" cX9_isFrom 6 (some .boolean) [] X 1) => ?_
  unfold f_X9_isFrom at hf
  have j18_0 : ∀ (w0_18 : Int32) (σ : ZT), f_X9_isFrom_J18 w0_18 σ = some out → ZW l G 6 X (ZQ G X (.returned (some (.int out.1))) out.2) σ 18 [] [.int w0_18] := by
    intro w0_18 σ hf
    unfold f_X9_isFrom_J18 at hf
    refine z_rz C hf fun hn hf => ?_
    exact z_zreturn C rfl hn dX9_isFrom_18 (Option.some.inj hf)
  have j17_0 : ∀  (σ : ZT), f_X9_isFrom_J17  σ = some out → ZW l G 6 X (ZQ G X (.returned (some (.int out.1))) out.2) σ 17 [] [] := by
    intro  σ hf
    unfold f_X9_isFrom_J17 at hf
    refine z_iconst (q := 18) C (0 : Int32) dX9_isFrom_17 ki_0 rfl ?_
    exact j18_0 (0 : Int32) σ hf
  refine z_lload_n (q := 1) (i := 0) C 0 dX9_isFrom_0 rfl rfl rfl ?_
  refine z_lload_n (q := 2) (i := 2) C 1 dX9_isFrom_1 rfl rfl rfl ?_
  refine z_lcmp (q := 3) C dX9_isFrom_2 rfl ?_
  refine z_iflt (q := 6) (tgt := 17) C dX9_isFrom_3 (by decide) rfl hf (fun c3 hf => ?_) (fun c3 hf => ?_)
  · refine z_lv [] rfl ?_
    exact j17_0  σ hf
  · refine z_lload_n (q := 7) (i := 0) C 0 dX9_isFrom_6 rfl rfl rfl ?_
    refine z_lload (q := 9) (i := 4) C 2 dX9_isFrom_7 rfl rfl ?_
    refine z_lcmp (q := 10) C dX9_isFrom_9 rfl ?_
    refine z_ifgt (q := 13) (tgt := 17) C dX9_isFrom_10 (by decide) rfl hf (fun c10 hf => ?_) (fun c10 hf => ?_)
    · refine z_lv [] rfl ?_
      exact j17_0  σ hf
    · refine z_iconst (q := 14) C (1 : Int32) dX9_isFrom_13 ki_1 rfl ?_
      refine z_goto (q := 18) C dX9_isFrom_14 (by decide) ?_
      refine z_lv [] rfl ?_
      exact j18_0 (1 : Int32) σ hf

noncomputable def f_X9_rope_J141_79 (a0_141 : Nat) (σ : ZT) : Option ((Int32 × Int32 × Int32 × ZT) ⊕ ((Int32 × ZT) ⊕ (Int32 × Int32 × ZT))) :=
  bnd2 (vc 9 a0_141 σ (f_X9_refuse a0_141 (5 : Int32) σ)) fun v17 σ =>
  some (.inr (.inl (v17, σ)))
noncomputable def f_X9_rope_J199_79 (a0_199 : Nat) (i1_199 : Int32) (i2_199 : Int32) (i3_199 : Int32) (i4_199 : Int32) (i5_199 : Int32) (i6_199 : Int32) (σ : ZT) : Option ((Int32 × Int32 × Int32 × ZT) ⊕ ((Int32 × ZT) ⊕ (Int32 × Int32 × ZT))) :=
  some (.inl (i4_199, i5_199, (i6_199 + (1 : Int32)), σ))
noncomputable def f_X9_rope_J197_79 (a0_197 : Nat) (i1_197 : Int32) (i2_197 : Int32) (i3_197 : Int32) (i5_197 : Int32) (i6_197 : Int32) (w0_197 : Int32) (σ : ZT) : Option ((Int32 × Int32 × Int32 × ZT) ⊕ ((Int32 × ZT) ⊕ (Int32 × Int32 × ZT))) :=
  f_X9_rope_J199_79 a0_197 i1_197 i2_197 i3_197 w0_197 i5_197 i6_197 σ
noncomputable def f_X9_rope_J171_79 (a0_171 : Nat) (i1_171 : Int32) (i2_171 : Int32) (i3_171 : Int32) (i4_171 : Int32) (i6_171 : Int32) (w0_171 : Int32) (σ : ZT) : Option ((Int32 × Int32 × Int32 × ZT) ⊕ ((Int32 × ZT) ⊕ (Int32 × Int32 × ZT))) :=
  f_X9_rope_J199_79 a0_171 i1_171 i2_171 i3_171 i4_171 w0_171 i6_171 σ
noncomputable def f_X9_rope_L79 (c0_79 : Nat) (c1_79 : Int32) (c2_79 : Int32) (c3_79 : Int32) (i_7 : Int32) (i_8 : Int32) (i_9 : Int32) (σ : ZT) : Option ((Int32 × Int32 × Int32 × ZT) ⊕ ((Int32 × ZT) ⊕ (Int32 × Int32 × ZT))) :=
  if i_9 < c2_79 then
  ((gR 9 907 c0_79 σ).bind fun v11 =>
  (ldL v11 (((60 : Int32) * c1_79) + ((2 : Int32) * i_9)) σ).bind fun v12 =>
  (gR 9 907 c0_79 σ).bind fun v13 =>
  (ldL v13 ((((60 : Int32) * c1_79) + ((2 : Int32) * i_9)) + (1 : Int32)) σ).bind fun v14 =>
  bnd2 (f_X9_isFrom v12 (0 : Int64) (9999 : Int64) σ) fun v15 σ =>
  if v15 = 0 then
  (f_X9_rope_J141_79 c0_79 σ)
  else
  (bnd2 (f_X9_isFrom v14 (0 : Int64) (1 : Int64) σ) fun v16 σ =>
  if v16 = 0 then
  (f_X9_rope_J141_79 c0_79 σ)
  else
  (if (lg_cmp v14 (1 : Int64)) = 0 then
  (if (lg_cmp v12 (i_8.toInt64)) < 0 then
  (f_X9_rope_J171_79 c0_79 c1_79 c2_79 c3_79 i_7 i_9 (v12.toInt32) σ)
  else
  (f_X9_rope_J171_79 c0_79 c1_79 c2_79 c3_79 i_7 i_9 i_8 σ))
  else
  (if 0 < (lg_cmp (v12 + (1 : Int64)) (i_7.toInt64)) then
  (f_X9_rope_J197_79 c0_79 c1_79 c2_79 c3_79 i_8 i_9 ((v12.toInt32) + (1 : Int32)) σ)
  else
  (f_X9_rope_J197_79 c0_79 c1_79 c2_79 c3_79 i_8 i_9 i_7 σ)))))
  else
  (some (.inr (.inr (i_7, i_8, σ))))
noncomputable def f_X9_rope_J28 (a0_28 : Nat) (σ : ZT) : Option (Int32 × ZT) :=
  bnd2 (vc 9 a0_28 σ (f_X9_refuse a0_28 (1 : Int32) σ)) fun v23 σ =>
  some (v23, σ)
noncomputable def f_X9_rope_J231 (w0_231 : Int32) (w1_231 : Nat) (σ : ZT) : Option (Int32 × ZT) :=
  bnd2 (vc 9 w1_231 σ (f_X9_gives w1_231 w0_231 σ)) fun v24 σ =>
  some (v24, σ)
noncomputable def f_X9_rope (a0 : Nat) (i1 : Int32) (i2 : Int32) (i3 : Int32) (σ : ZT) : Option (Int32 × ZT) :=
  bnd2 (f_X9_isTray i1 σ) fun v1 σ =>
  if v1 = 0 then
  (f_X9_rope_J28 a0 σ)
  else
  (bnd2 (f_X9_isFrom (i2.toInt64) (1 : Int64) (30 : Int64) σ) fun v2 σ =>
  if v2 = 0 then
  (f_X9_rope_J28 a0 σ)
  else
  (if i3 < 0 then
  (f_X9_rope_J28 a0 σ)
  else
  (if (1 : Int32) < i3 then
  (f_X9_rope_J28 a0 σ)
  else
  ((gR 9 906 a0 σ).bind fun v3 =>
  (ldI 0 v3 i1 σ).bind fun v4 =>
  if v4 = (-1 : Int32) then
  (bnd2 (vc 9 a0 σ (f_X9_refuse a0 (2 : Int32) σ)) fun v22 σ =>
  some (v22, σ))
  else
  ((gR 9 906 a0 σ).bind fun v5 =>
  (ldI 0 v5 i1 σ).bind fun v6 =>
  if v6 < ((2 : Int32) * i2) then
  (bnd2 (vc 9 a0 σ (f_X9_refuse a0 (3 : Int32) σ)) fun v21 σ =>
  some (v21, σ))
  else
  ((loopC (fun s : (Int32 × Int32 × Int32 × ZT) => f_X9_rope_L79 a0 i1 i2 i3 s.1 s.2.1 s.2.2.1 s.2.2.2) ((0 : Int32), (9999 : Int32), (0 : Int32), σ)).bind fun x => (match x with
  | .inl o => some o
  | .inr (x18, x19, σ) => if x19 < x18 then
  (bnd2 (vc 9 a0 σ (f_X9_refuse a0 (7 : Int32) σ)) fun v20 σ =>
  some (v20, σ))
  else
  (if i3 = 0 then
  (f_X9_rope_J231 x18 a0 σ)
  else
  (f_X9_rope_J231 x19 a0 σ)))))))))
set_option maxHeartbeats 4000000 in
theorem m_X9_rope {l : Launch} {G : ZG} (a0 : Nat) (i1 : Int32) (i2 : Int32) (i3 : Int32) (σ : ZT) {out : (Int32 × ZT)} (hf : f_X9_rope a0 i1 i2 i3 σ = some out) : ZM l G yX9_rope cX9_rope 11 (some .int) [] 2 [.ref a0, .int i1, .int i2, .int i3] σ (.returned (some (.int out.1))) out.2 := by
  refine ZM.of [(0, .ref a0), (1, .int i1), (2, .int i2), (3, .int i3)] rfl (Nat.le_of_ble_eq_true rfl) fun X (C : ZC G RX9 "rope" cX9_rope 11 (some .int) [] X 2) => ?_
  unfold f_X9_rope at hf
  have j231_0 : ∀ (w0_231 : Int32) (w1_231 : Nat) (σ : ZT), f_X9_rope_J231 w0_231 w1_231 σ = some out → ZW l G 11 X (ZQ G X (.returned (some (.int out.1))) out.2) σ 231 [] [.int w0_231, .ref w1_231] := by
    intro w0_231 w1_231 σ hf
    unfold f_X9_rope_J231 at hf
    refine z_callVi (q := 234) (As := [.int w0_231]) C (fun o ho => m_X9_gives _ _ _ ho) zk9 vvX9_107 cdX9_gives pnX9 dX9_rope_231 rfl (by decide) (Nat.le_of_ble_eq_true rfl) hf rfl fun v21 σ hf => ?_
    exact z_ireturn C rfl dX9_rope_234 (Option.some.inj hf)
  have j28_0 : ∀ (a0_28 : Nat) (σ : ZT), f_X9_rope_J28 a0_28 σ = some out → ZW l G 11 X (ZQ G X (.returned (some (.int out.1))) out.2) σ 28 [(0, .ref a0_28)] [] := by
    intro a0_28 σ hf
    unfold f_X9_rope_J28 at hf
    refine z_aload_n (q := 29) (i := 0) C 0 dX9_rope_28 rfl rfl rfl ?_
    refine z_iconst (q := 30) C (1 : Int32) dX9_rope_29 ki_1 rfl ?_
    refine z_callVi (q := 33) (As := [.int (1 : Int32)]) C (fun o ho => m_X9_refuse _ _ _ ho) zk9 vvX9_103 cdX9_refuse pnX9 dX9_rope_30 rfl (by decide) (Nat.le_of_ble_eq_true rfl) hf rfl fun v20 σ hf => ?_
    exact z_ireturn C rfl dX9_rope_33 (Option.some.inj hf)
  refine z_iload_n (q := 1) (i := 1) C 1 dX9_rope_0 rfl rfl rfl ?_
  refine z_callSi (q := 4) (As := [.int i1]) C (fun o ho => m_X9_isTray _ _ ho) vsX9_114 cdX9_isTray pnX9 dX9_rope_1 rfl (by decide) (Nat.le_of_ble_eq_true rfl) hf rfl fun v1 σ hf => ?_
  refine z_ifeq (q := 7) (tgt := 28) C dX9_rope_4 (by decide) rfl hf (fun c4 hf => ?_) (fun c4 hf => ?_)
  · refine z_lv [0] rfl ?_
    exact j28_0 a0 σ hf
  · refine z_iload_n (q := 8) (i := 2) C 2 dX9_rope_7 rfl rfl rfl ?_
    refine z_i2l (q := 9) C dX9_rope_8 rfl ?_
    refine z_lconst (q := 10) C (1 : Int64) dX9_rope_9 rfl rfl ?_
    refine z_ldc2 (q := 13) C q2225 dX9_rope_10 rfl ?_
    refine z_callSi (q := 16) (As := [.long (i2.toInt64), .long (1 : Int64), .long (30 : Int64)]) C (fun o ho => m_X9_isFrom _ _ _ _ ho) vsX9_420 cdX9_isFrom pnX9 dX9_rope_13 rfl (by decide) (Nat.le_of_ble_eq_true rfl) hf rfl fun v2 σ hf => ?_
    refine z_ifeq (q := 19) (tgt := 28) C dX9_rope_16 (by decide) rfl hf (fun c16 hf => ?_) (fun c16 hf => ?_)
    · refine z_lv [0] rfl ?_
      exact j28_0 a0 σ hf
    · refine z_iload_n (q := 20) (i := 3) C 3 dX9_rope_19 rfl rfl rfl ?_
      refine z_iflt (q := 23) (tgt := 28) C dX9_rope_20 (by decide) rfl hf (fun c20 hf => ?_) (fun c20 hf => ?_)
      · refine z_lv [0] rfl ?_
        exact j28_0 a0 σ hf
      · refine z_iload_n (q := 24) (i := 3) C 3 dX9_rope_23 rfl rfl rfl ?_
        refine z_iconst (q := 25) C (1 : Int32) dX9_rope_24 ki_1 rfl ?_
        refine z_icmple (q := 28) (tgt := 34) C dX9_rope_25 (by decide) rfl hf (fun c25 hf => ?_) (fun c25 hf => ?_)
        · refine z_aload_n (q := 35) (i := 0) C 0 dX9_rope_34 rfl rfl rfl ?_
          refine z_getR (q := 38) C flX9_24 dX9_rope_35 hf rfl fun v3 hf => ?_
          refine z_iload_n (q := 39) (i := 1) C 1 dX9_rope_38 rfl rfl rfl ?_
          refine z_iald (q := 40) C dX9_rope_39 hf rfl fun v4 hf => ?_
          refine z_iconst (q := 41) C (-1 : Int32) dX9_rope_40 ki_m1 rfl ?_
          refine z_icmpne (q := 44) (tgt := 50) C dX9_rope_41 (by decide) rfl hf (fun c41 hf => ?_) (fun c41 hf => ?_)
          · refine z_aload_n (q := 51) (i := 0) C 0 dX9_rope_50 rfl rfl rfl ?_
            refine z_getR (q := 54) C flX9_24 dX9_rope_51 hf rfl fun v5 hf => ?_
            refine z_iload_n (q := 55) (i := 1) C 1 dX9_rope_54 rfl rfl rfl ?_
            refine z_iald (q := 56) C dX9_rope_55 hf rfl fun v6 hf => ?_
            refine z_iconst (q := 57) C (2 : Int32) dX9_rope_56 ki_2 rfl ?_
            refine z_iload_n (q := 58) (i := 2) C 2 dX9_rope_57 rfl rfl rfl ?_
            refine z_imul (q := 59) C dX9_rope_58 rfl ?_
            refine z_icmpge (q := 62) (tgt := 68) C dX9_rope_59 (by decide) rfl hf (fun c59 hf => ?_) (fun c59 hf => ?_)
            · refine z_iconst (q := 69) C (0 : Int32) dX9_rope_68 ki_0 rfl ?_
              refine z_istore (q := 71) (i := 4) (lv' := [(4, .int (0 : Int32)), (0, .ref a0), (1, .int i1), (2, .int i2), (3, .int i3)]) C dX9_rope_69 (by decide) rfl rfl ?_
              refine z_sipush (q := 74) C (9999 : Int32) dX9_rope_71 ks_9999 rfl ?_
              refine z_istore (q := 76) (i := 5) (lv' := [(5, .int (9999 : Int32)), (4, .int (0 : Int32)), (0, .ref a0), (1, .int i1), (2, .int i2), (3, .int i3)]) C dX9_rope_74 (by decide) rfl rfl ?_
              refine z_iconst (q := 77) C (0 : Int32) dX9_rope_76 ki_0 rfl ?_
              refine z_istore (q := 79) (i := 6) (lv' := [(6, .int (0 : Int32)), (5, .int (9999 : Int32)), (4, .int (0 : Int32)), (0, .ref a0), (1, .int i1), (2, .int i2), (3, .int i3)]) C dX9_rope_77 (by decide) rfl rfl ?_
              refine z_lv [3, 4, 5, 6, 2, 1, 0] rfl ?_
              obtain ⟨r1, hr1, hk1⟩ := Option.bind_eq_some_iff.mp hf
              refine loopC_ind (P := fun s => ZW l G 11 X (ZQ G X (.returned (some (.int out.1))) out.2) s.2.2.2 79 [(0, .ref a0), (1, .int i1), (2, .int i2), (3, .int i3), (4, .int s.1), (5, .int s.2.1), (6, .int s.2.2.1)] []) (fun s x1 hf hx1 => ?_) hr1
              obtain ⟨i_7, i_8, i_9, σ⟩ := s
              unfold f_X9_rope_L79 at hf
              try dsimp only at hf
              try dsimp only
              have j199_1 : ∀ (i4_199 : Int32) (i5_199 : Int32) (i6_199 : Int32) (σ : ZT), f_X9_rope_J199_79 a0 i1 i2 i3 i4_199 i5_199 i6_199 σ = some x1 → ZW l G 11 X (ZQ G X (.returned (some (.int out.1))) out.2) σ 199 [(0, .ref a0), (1, .int i1), (2, .int i2), (3, .int i3), (4, .int i4_199), (5, .int i5_199), (6, .int i6_199)] [] := by
                intro i4_199 i5_199 i6_199 σ hf
                unfold f_X9_rope_J199_79 at hf
                refine z_iinc (q := 202) (i := 6) (lv' := [(6, .int (i6_199 + (1 : Int32))), (0, .ref a0), (1, .int i1), (2, .int i2), (3, .int i3), (4, .int i4_199), (5, .int i5_199)]) C 6 (i6_199 + (1 : Int32)) dX9_rope_199 rfl (kn_1 _) (by decide) rfl rfl ?_
                refine z_goto (q := 79) C dX9_rope_202 (by decide) ?_
                refine z_lv [1, 2, 3, 4, 5, 6, 0] rfl ?_
                have hc1 := zl_c hf hx1
                exact hc1
              have j197_1 : ∀ (i5_197 : Int32) (i6_197 : Int32) (w0_197 : Int32) (σ : ZT), f_X9_rope_J197_79 a0 i1 i2 i3 i5_197 i6_197 w0_197 σ = some x1 → ZW l G 11 X (ZQ G X (.returned (some (.int out.1))) out.2) σ 197 [(0, .ref a0), (1, .int i1), (2, .int i2), (3, .int i3), (5, .int i5_197), (6, .int i6_197)] [.int w0_197] := by
                intro i5_197 i6_197 w0_197 σ hf
                unfold f_X9_rope_J197_79 at hf
                refine z_istore (q := 199) (i := 4) (lv' := [(4, .int w0_197), (0, .ref a0), (1, .int i1), (2, .int i2), (3, .int i3), (5, .int i5_197), (6, .int i6_197)]) C dX9_rope_197 (by decide) rfl rfl ?_
                refine z_lv [1, 2, 3, 4, 0, 5, 6] rfl ?_
                exact j199_1 w0_197 i5_197 i6_197 σ hf
              have j171_1 : ∀ (i4_171 : Int32) (i6_171 : Int32) (w0_171 : Int32) (σ : ZT), f_X9_rope_J171_79 a0 i1 i2 i3 i4_171 i6_171 w0_171 σ = some x1 → ZW l G 11 X (ZQ G X (.returned (some (.int out.1))) out.2) σ 171 [(0, .ref a0), (1, .int i1), (2, .int i2), (3, .int i3), (4, .int i4_171), (6, .int i6_171)] [.int w0_171] := by
                intro i4_171 i6_171 w0_171 σ hf
                unfold f_X9_rope_J171_79 at hf
                refine z_istore (q := 173) (i := 5) (lv' := [(5, .int w0_171), (0, .ref a0), (1, .int i1), (2, .int i2), (3, .int i3), (4, .int i4_171), (6, .int i6_171)]) C dX9_rope_171 (by decide) rfl rfl ?_
                refine z_goto (q := 199) C dX9_rope_173 (by decide) ?_
                refine z_lv [1, 2, 3, 4, 5, 0, 6] rfl ?_
                exact j199_1 i4_171 w0_171 i6_171 σ hf
              have j141_1 : ∀  (σ : ZT), f_X9_rope_J141_79 a0 σ = some x1 → ZW l G 11 X (ZQ G X (.returned (some (.int out.1))) out.2) σ 141 [(0, .ref a0)] [] := by
                intro  σ hf
                unfold f_X9_rope_J141_79 at hf
                refine z_aload_n (q := 142) (i := 0) C 0 dX9_rope_141 rfl rfl rfl ?_
                refine z_iconst (q := 143) C (5 : Int32) dX9_rope_142 ki_5 rfl ?_
                refine z_callVi (q := 146) (As := [.int (5 : Int32)]) C (fun o ho => m_X9_refuse _ _ _ ho) zk9 vvX9_103 cdX9_refuse pnX9 dX9_rope_143 rfl (by decide) (Nat.le_of_ble_eq_true rfl) hf rfl fun v17 σ hf => ?_
                have e1 := zl_x hf hx1
                have hf := hk1
                rw [← e1] at hf
                try dsimp only at hf
                exact z_ireturn C rfl dX9_rope_146 (Option.some.inj hf)
              refine z_iload (q := 81) (i := 6) C 6 dX9_rope_79 rfl rfl ?_
              refine z_iload_n (q := 82) (i := 2) C 2 dX9_rope_81 rfl rfl rfl ?_
              refine z_icmpge (q := 85) (tgt := 205) C dX9_rope_82 (by decide) rfl hf (fun c82 hf => ?_) (fun c82 hf => ?_)
              · have e1 := zl_x hf hx1
                have hf := hk1
                rw [← e1] at hf
                try dsimp only at hf
                refine z_iload (q := 207) (i := 4) C 4 dX9_rope_205 rfl rfl ?_
                refine z_iload (q := 209) (i := 5) C 5 dX9_rope_207 rfl rfl ?_
                refine z_icmple (q := 212) (tgt := 219) C dX9_rope_209 (by decide) rfl hf (fun c209 hf => ?_) (fun c209 hf => ?_)
                · refine z_aload_n (q := 220) (i := 0) C 0 dX9_rope_219 rfl rfl rfl ?_
                  refine z_iload_n (q := 221) (i := 3) C 3 dX9_rope_220 rfl rfl rfl ?_
                  refine z_ifne (q := 224) (tgt := 229) C dX9_rope_221 (by decide) rfl hf (fun c221 hf => ?_) (fun c221 hf => ?_)
                  · refine z_iload (q := 231) (i := 5) C 5 dX9_rope_229 rfl rfl ?_
                    refine z_lv [] rfl ?_
                    exact j231_0 i_8 a0 σ hf
                  · refine z_iload (q := 226) (i := 4) C 4 dX9_rope_224 rfl rfl ?_
                    refine z_goto (q := 231) C dX9_rope_226 (by decide) ?_
                    refine z_lv [] rfl ?_
                    exact j231_0 i_7 a0 σ hf
                · refine z_aload_n (q := 213) (i := 0) C 0 dX9_rope_212 rfl rfl rfl ?_
                  refine z_bipush (q := 215) C (7 : Int32) dX9_rope_213 kb_7 rfl ?_
                  refine z_callVi (q := 218) (As := [.int (7 : Int32)]) C (fun o ho => m_X9_refuse _ _ _ ho) zk9 vvX9_103 cdX9_refuse pnX9 dX9_rope_215 rfl (by decide) (Nat.le_of_ble_eq_true rfl) hf rfl fun v10 σ hf => ?_
                  exact z_ireturn C rfl dX9_rope_218 (Option.some.inj hf)
              · refine z_aload_n (q := 86) (i := 0) C 0 dX9_rope_85 rfl rfl rfl ?_
                refine z_getR (q := 89) C flX9_27 dX9_rope_86 hf rfl fun v11 hf => ?_
                refine z_bipush (q := 91) C (60 : Int32) dX9_rope_89 kb_60 rfl ?_
                refine z_iload_n (q := 92) (i := 1) C 1 dX9_rope_91 rfl rfl rfl ?_
                refine z_imul (q := 93) C dX9_rope_92 rfl ?_
                refine z_iconst (q := 94) C (2 : Int32) dX9_rope_93 ki_2 rfl ?_
                refine z_iload (q := 96) (i := 6) C 6 dX9_rope_94 rfl rfl ?_
                refine z_imul (q := 97) C dX9_rope_96 rfl ?_
                refine z_iadd (q := 98) C dX9_rope_97 rfl ?_
                refine z_lald (q := 99) C dX9_rope_98 hf rfl fun v12 hf => ?_
                refine z_lstore (q := 101) (i := 7) (lv' := [(7, .long v12), (0, .ref a0), (1, .int i1), (2, .int i2), (3, .int i3), (4, .int i_7), (5, .int i_8), (6, .int i_9)]) C dX9_rope_99 (by decide) rfl rfl ?_
                refine z_aload_n (q := 102) (i := 0) C 1 dX9_rope_101 rfl rfl rfl ?_
                refine z_getR (q := 105) C flX9_27 dX9_rope_102 hf rfl fun v13 hf => ?_
                refine z_bipush (q := 107) C (60 : Int32) dX9_rope_105 kb_60 rfl ?_
                refine z_iload_n (q := 108) (i := 1) C 2 dX9_rope_107 rfl rfl rfl ?_
                refine z_imul (q := 109) C dX9_rope_108 rfl ?_
                refine z_iconst (q := 110) C (2 : Int32) dX9_rope_109 ki_2 rfl ?_
                refine z_iload (q := 112) (i := 6) C 7 dX9_rope_110 rfl rfl ?_
                refine z_imul (q := 113) C dX9_rope_112 rfl ?_
                refine z_iadd (q := 114) C dX9_rope_113 rfl ?_
                refine z_iconst (q := 115) C (1 : Int32) dX9_rope_114 ki_1 rfl ?_
                refine z_iadd (q := 116) C dX9_rope_115 rfl ?_
                refine z_lald (q := 117) C dX9_rope_116 hf rfl fun v14 hf => ?_
                refine z_lstore (q := 119) (i := 9) (lv' := [(9, .long v14), (7, .long v12), (0, .ref a0), (1, .int i1), (2, .int i2), (3, .int i3), (4, .int i_7), (5, .int i_8), (6, .int i_9)]) C dX9_rope_117 (by decide) rfl rfl ?_
                refine z_lload (q := 121) (i := 7) C 1 dX9_rope_119 rfl rfl ?_
                refine z_lconst (q := 122) C (0 : Int64) dX9_rope_121 rfl rfl ?_
                refine z_ldc2 (q := 125) C q2229 dX9_rope_122 rfl ?_
                refine z_callSi (q := 128) (As := [.long v12, .long (0 : Int64), .long (9999 : Int64)]) C (fun o ho => m_X9_isFrom _ _ _ _ ho) vsX9_420 cdX9_isFrom pnX9 dX9_rope_125 rfl (by decide) (Nat.le_of_ble_eq_true rfl) hf rfl fun v15 σ hf => ?_
                refine z_ifeq (q := 131) (tgt := 141) C dX9_rope_128 (by decide) rfl hf (fun c128 hf => ?_) (fun c128 hf => ?_)
                · refine z_lv [2] rfl ?_
                  exact j141_1  σ hf
                · refine z_lload (q := 133) (i := 9) C 0 dX9_rope_131 rfl rfl ?_
                  refine z_lconst (q := 134) C (0 : Int64) dX9_rope_133 rfl rfl ?_
                  refine z_lconst (q := 135) C (1 : Int64) dX9_rope_134 rfl rfl ?_
                  refine z_callSi (q := 138) (As := [.long v14, .long (0 : Int64), .long (1 : Int64)]) C (fun o ho => m_X9_isFrom _ _ _ _ ho) vsX9_420 cdX9_isFrom pnX9 dX9_rope_135 rfl (by decide) (Nat.le_of_ble_eq_true rfl) hf rfl fun v16 σ hf => ?_
                  refine z_ifne (q := 141) (tgt := 147) C dX9_rope_138 (by decide) rfl hf (fun c138 hf => ?_) (fun c138 hf => ?_)
                  · refine z_lload (q := 149) (i := 9) C 0 dX9_rope_147 rfl rfl ?_
                    refine z_lconst (q := 150) C (1 : Int64) dX9_rope_149 rfl rfl ?_
                    refine z_lcmp (q := 151) C dX9_rope_150 rfl ?_
                    refine z_ifne (q := 154) (tgt := 176) C dX9_rope_151 (by decide) rfl hf (fun c151 hf => ?_) (fun c151 hf => ?_)
                    · refine z_lload (q := 178) (i := 7) C 1 dX9_rope_176 rfl rfl ?_
                      refine z_lconst (q := 179) C (1 : Int64) dX9_rope_178 rfl rfl ?_
                      refine z_ladd (q := 180) C dX9_rope_179 rfl ?_
                      refine z_iload (q := 182) (i := 4) C 6 dX9_rope_180 rfl rfl ?_
                      refine z_i2l (q := 183) C dX9_rope_182 rfl ?_
                      refine z_lcmp (q := 184) C dX9_rope_183 rfl ?_
                      refine z_ifle (q := 187) (tgt := 195) C dX9_rope_184 (by decide) rfl hf (fun c184 hf => ?_) (fun c184 hf => ?_)
                      · refine z_iload (q := 197) (i := 4) C 6 dX9_rope_195 rfl rfl ?_
                        refine z_lv [2, 3, 4, 5, 7, 8] rfl ?_
                        exact j197_1 i_8 i_9 i_7 σ hf
                      · refine z_lload (q := 189) (i := 7) C 1 dX9_rope_187 rfl rfl ?_
                        refine z_l2i (q := 190) C dX9_rope_189 rfl ?_
                        refine z_iconst (q := 191) C (1 : Int32) dX9_rope_190 ki_1 rfl ?_
                        refine z_iadd (q := 192) C dX9_rope_191 rfl ?_
                        refine z_goto (q := 197) C dX9_rope_192 (by decide) ?_
                        refine z_lv [2, 3, 4, 5, 7, 8] rfl ?_
                        exact j197_1 i_8 i_9 ((v12.toInt32) + (1 : Int32)) σ hf
                    · refine z_lload (q := 156) (i := 7) C 1 dX9_rope_154 rfl rfl ?_
                      refine z_iload (q := 158) (i := 5) C 7 dX9_rope_156 rfl rfl ?_
                      refine z_i2l (q := 159) C dX9_rope_158 rfl ?_
                      refine z_lcmp (q := 160) C dX9_rope_159 rfl ?_
                      refine z_ifge (q := 163) (tgt := 169) C dX9_rope_160 (by decide) rfl hf (fun c160 hf => ?_) (fun c160 hf => ?_)
                      · refine z_iload (q := 171) (i := 5) C 7 dX9_rope_169 rfl rfl ?_
                        refine z_lv [2, 3, 4, 5, 6, 8] rfl ?_
                        exact j171_1 i_7 i_9 i_8 σ hf
                      · refine z_lload (q := 165) (i := 7) C 1 dX9_rope_163 rfl rfl ?_
                        refine z_l2i (q := 166) C dX9_rope_165 rfl ?_
                        refine z_goto (q := 171) C dX9_rope_166 (by decide) ?_
                        refine z_lv [2, 3, 4, 5, 6, 8] rfl ?_
                        exact j171_1 i_7 i_9 (v12.toInt32) σ hf
                  · refine z_lv [2] rfl ?_
                    exact j141_1  σ hf
            · refine z_aload_n (q := 63) (i := 0) C 0 dX9_rope_62 rfl rfl rfl ?_
              refine z_iconst (q := 64) C (3 : Int32) dX9_rope_63 ki_3 rfl ?_
              refine z_callVi (q := 67) (As := [.int (3 : Int32)]) C (fun o ho => m_X9_refuse _ _ _ ho) zk9 vvX9_103 cdX9_refuse pnX9 dX9_rope_64 rfl (by decide) (Nat.le_of_ble_eq_true rfl) hf rfl fun v18 σ hf => ?_
              exact z_ireturn C rfl dX9_rope_67 (Option.some.inj hf)
          · refine z_aload_n (q := 45) (i := 0) C 0 dX9_rope_44 rfl rfl rfl ?_
            refine z_iconst (q := 46) C (2 : Int32) dX9_rope_45 ki_2 rfl ?_
            refine z_callVi (q := 49) (As := [.int (2 : Int32)]) C (fun o ho => m_X9_refuse _ _ _ ho) zk9 vvX9_103 cdX9_refuse pnX9 dX9_rope_46 rfl (by decide) (Nat.le_of_ble_eq_true rfl) hf rfl fun v19 σ hf => ?_
            exact z_ireturn C rfl dX9_rope_49 (Option.some.inj hf)
        · refine z_lv [0] rfl ?_
          exact j28_0 a0 σ hf

noncomputable def f_X9_slips_J17  (σ : ZT) : Option (Int32 × ZT) :=
  some ((0 : Int32), σ)
noncomputable def f_X9_slips_J64 (w0_64 : Int32) (σ : ZT) : Option (Int32 × ZT) :=
  (rz w0_64).bind fun z9 =>
  some (z9, σ)
noncomputable def f_X9_slips (a0 : Nat) (i1 : Int32) (σ : ZT) : Option (Int32 × ZT) :=
  (gI 9 948 a0 σ).bind fun v1 =>
  if v1 = 0 then
  (f_X9_slips_J17  σ)
  else
  (bnd2 (vc 9 a0 σ (f_X9_ofBridge a0 i1 (8 : Int32) σ)) fun v2 σ =>
  if v2 = 0 then
  (f_X9_slips_J17  σ)
  else
  ((gI 9 941 a0 σ).bind fun v3 =>
  (zirem ((v3 * (2741 : Int32)) + (10007 : Int32)) (65536 : Int32)).bind fun v4 =>
  (pI 9 941 a0 v4 σ).bind fun σ =>
  (gI 9 941 a0 σ).bind fun v5 =>
  (zidiv v5 (8 : Int32)).bind fun v6 =>
  (zirem v6 (16 : Int32)).bind fun v7 =>
  bnd2 (vc 9 a0 σ (f_X9_ofBridge a0 i1 (8 : Int32) σ)) fun v8 σ =>
  if v7 < v8 then
  (f_X9_slips_J64 (1 : Int32) σ)
  else
  (f_X9_slips_J64 (0 : Int32) σ)))
set_option maxHeartbeats 4000000 in
theorem m_X9_slips {l : Launch} {G : ZG} (a0 : Nat) (i1 : Int32) (σ : ZT) {out : (Int32 × ZT)} (hf : f_X9_slips a0 i1 σ = some out) : ZM l G yX9_slips cX9_slips 2 (some .boolean) [] 2 [.ref a0, .int i1] σ (.returned (some (.int out.1))) out.2 := by
  refine ZM.of [(0, .ref a0), (1, .int i1)] rfl (Nat.le_of_ble_eq_true rfl) fun X (C : ZC G RX9 "slips" cX9_slips 2 (some .boolean) [] X 2) => ?_
  unfold f_X9_slips at hf
  have j64_0 : ∀ (w0_64 : Int32) (σ : ZT), f_X9_slips_J64 w0_64 σ = some out → ZW l G 2 X (ZQ G X (.returned (some (.int out.1))) out.2) σ 64 [] [.int w0_64] := by
    intro w0_64 σ hf
    unfold f_X9_slips_J64 at hf
    refine z_rz C hf fun hn hf => ?_
    exact z_zreturn C rfl hn dX9_slips_64 (Option.some.inj hf)
  have j17_0 : ∀  (σ : ZT), f_X9_slips_J17  σ = some out → ZW l G 2 X (ZQ G X (.returned (some (.int out.1))) out.2) σ 17 [] [] := by
    intro  σ hf
    unfold f_X9_slips_J17 at hf
    refine z_iconst (q := 18) C (0 : Int32) dX9_slips_17 ki_0 rfl ?_
    exact z_zreturn C rfl z_nb0 dX9_slips_18 (Option.some.inj hf)
  refine z_aload_n (q := 1) (i := 0) C 0 dX9_slips_0 rfl rfl rfl ?_
  refine z_getI (q := 4) C flX9_426 dX9_slips_1 hf rfl fun v1 hf => ?_
  refine z_ifeq (q := 7) (tgt := 17) C dX9_slips_4 (by decide) rfl hf (fun c4 hf => ?_) (fun c4 hf => ?_)
  · refine z_lv [] rfl ?_
    exact j17_0  σ hf
  · refine z_aload_n (q := 8) (i := 0) C 0 dX9_slips_7 rfl rfl rfl ?_
    refine z_iload_n (q := 9) (i := 1) C 1 dX9_slips_8 rfl rfl rfl ?_
    refine z_bipush (q := 11) C (8 : Int32) dX9_slips_9 kb_8 rfl ?_
    refine z_callVi (q := 14) (As := [.int i1, .int (8 : Int32)]) C (fun o ho => m_X9_ofBridge _ _ _ _ ho) zk9 vvX9_282 cdX9_ofBridge pnX9 dX9_slips_11 rfl (by decide) (Nat.le_of_ble_eq_true rfl) hf rfl fun v2 σ hf => ?_
    refine z_ifne (q := 17) (tgt := 19) C dX9_slips_14 (by decide) rfl hf (fun c14 hf => ?_) (fun c14 hf => ?_)
    · refine z_aload_n (q := 20) (i := 0) C 0 dX9_slips_19 rfl rfl rfl ?_
      refine z_aload_n (q := 21) (i := 0) C 0 dX9_slips_20 rfl rfl rfl ?_
      refine z_getI (q := 24) C flX9_430 dX9_slips_21 hf rfl fun v3 hf => ?_
      refine z_sipush (q := 27) C (2741 : Int32) dX9_slips_24 ks_2741 rfl ?_
      refine z_imul (q := 28) C dX9_slips_27 rfl ?_
      refine z_sipush (q := 31) C (10007 : Int32) dX9_slips_28 ks_10007 rfl ?_
      refine z_iadd (q := 32) C dX9_slips_31 rfl ?_
      refine z_ldcw (q := 35) C q2250 dX9_slips_32 rfl ?_
      refine z_irem (q := 36) C dX9_slips_35 hf rfl fun v4 hf => ?_
      refine z_putI (q := 39) C puX9_430 dX9_slips_36 hf rfl fun σ hf => ?_
      refine z_aload_n (q := 40) (i := 0) C 0 dX9_slips_39 rfl rfl rfl ?_
      refine z_getI (q := 43) C flX9_430 dX9_slips_40 hf rfl fun v5 hf => ?_
      refine z_bipush (q := 45) C (8 : Int32) dX9_slips_43 kb_8 rfl ?_
      refine z_idiv (q := 46) C dX9_slips_45 hf rfl fun v6 hf => ?_
      refine z_bipush (q := 48) C (16 : Int32) dX9_slips_46 kb_16 rfl ?_
      refine z_irem (q := 49) C dX9_slips_48 hf rfl fun v7 hf => ?_
      refine z_aload_n (q := 50) (i := 0) C 0 dX9_slips_49 rfl rfl rfl ?_
      refine z_iload_n (q := 51) (i := 1) C 1 dX9_slips_50 rfl rfl rfl ?_
      refine z_bipush (q := 53) C (8 : Int32) dX9_slips_51 kb_8 rfl ?_
      refine z_callVi (q := 56) (As := [.int i1, .int (8 : Int32)]) C (fun o ho => m_X9_ofBridge _ _ _ _ ho) zk9 vvX9_282 cdX9_ofBridge pnX9 dX9_slips_53 rfl (by decide) (Nat.le_of_ble_eq_true rfl) hf rfl fun v8 σ hf => ?_
      refine z_icmpge (q := 59) (tgt := 63) C dX9_slips_56 (by decide) rfl hf (fun c56 hf => ?_) (fun c56 hf => ?_)
      · refine z_iconst (q := 64) C (0 : Int32) dX9_slips_63 ki_0 rfl ?_
        refine z_lv [] rfl ?_
        exact j64_0 (0 : Int32) σ hf
      · refine z_iconst (q := 60) C (1 : Int32) dX9_slips_59 ki_1 rfl ?_
        refine z_goto (q := 64) C dX9_slips_60 (by decide) ?_
        refine z_lv [] rfl ?_
        exact j64_0 (1 : Int32) σ hf
    · refine z_lv [] rfl ?_
      exact j17_0  σ hf

noncomputable def f_X9_ordersOver_J40  (σ : ZT) : Option (Int32 × ZT) :=
  some ((0 : Int32), σ)
noncomputable def f_X9_ordersOver_J161  (σ : ZT) : Option (Int32 × ZT) :=
  some ((1 : Int32), σ)
noncomputable def f_X9_ordersOver_J117 (a0_117 : Nat) (i1_117 : Int32) (i2_117 : Int32) (i3_117 : Int32) (i4_117 : Int32) (σ : ZT) : Option (Int32 × ZT) :=
  if i4_117 = 0 then
  ((gI 9 943 a0_117 σ).bind fun v11 =>
  (pI 9 943 a0_117 (v11 + (1 : Int32)) σ).bind fun σ =>
  (vc 9 a0_117 σ (f_X9_crosses a0_117 i1_117 i3_117 σ)).bind fun σ =>
  if i2_117 = (-1 : Int32) then
  (f_X9_ordersOver_J161  σ)
  else
  ((vc 9 a0_117 σ (f_X9_crosses a0_117 i2_117 i3_117 σ)).bind fun σ =>
  f_X9_ordersOver_J161  σ))
  else
  ((gI 9 945 a0_117 σ).bind fun v14 =>
  (pI 9 945 a0_117 (v14 + (1 : Int32)) σ).bind fun σ =>
  some ((1 : Int32), σ))
noncomputable def f_X9_ordersOver_J115 (a0_115 : Nat) (i1_115 : Int32) (i2_115 : Int32) (i3_115 : Int32) (w0_115 : Int32) (σ : ZT) : Option (Int32 × ZT) :=
  f_X9_ordersOver_J117 a0_115 i1_115 i2_115 i3_115 w0_115 σ
noncomputable def f_X9_ordersOver_J110 (a0_110 : Nat) (i1_110 : Int32) (i2_110 : Int32) (i3_110 : Int32) (σ : ZT) : Option (Int32 × ZT) :=
  f_X9_ordersOver_J115 a0_110 i1_110 i2_110 i3_110 (1 : Int32) σ
noncomputable def f_X9_ordersOver_J64 (a0_64 : Nat) (i1_64 : Int32) (i2_64 : Int32) (i3_64 : Int32) (w0_64 : Int32) (w1_64 : Int32) (w2_64 : Int32) (w3_64 : Nat) (σ : ZT) : Option (Int32 × ZT) :=
  (pI 9 946 w3_64 (w2_64 + (w1_64 * w0_64)) σ).bind fun σ =>
  (gI 9 947 a0_64 σ).bind fun v7 =>
  bnd2 (vc 9 a0_64 σ (f_X9_ofBridge a0_64 i3_64 (7 : Int32) σ)) fun v8 σ =>
  (pI 9 947 a0_64 (v7 + v8) σ).bind fun σ =>
  bnd2 (vc 9 a0_64 σ (f_X9_slips a0_64 i3_64 σ)) fun v9 σ =>
  if i2_64 = (-1 : Int32) then
  (f_X9_ordersOver_J117 a0_64 i1_64 i2_64 i3_64 v9 σ)
  else
  (bnd2 (vc 9 a0_64 σ (f_X9_slips a0_64 i3_64 σ)) fun v10 σ =>
  if v10 = 0 then
  (if v9 = 0 then
  (f_X9_ordersOver_J115 a0_64 i1_64 i2_64 i3_64 (0 : Int32) σ)
  else
  (f_X9_ordersOver_J110 a0_64 i1_64 i2_64 i3_64 σ))
  else
  (f_X9_ordersOver_J110 a0_64 i1_64 i2_64 i3_64 σ))
noncomputable def f_X9_ordersOver_J22 (a0_22 : Nat) (i1_22 : Int32) (i2_22 : Int32) (i3_22 : Int32) (σ : ZT) : Option (Int32 × ZT) :=
  bnd2 (vc 9 a0_22 σ (f_X9_isBridge a0_22 i3_22 σ)) fun v3 σ =>
  if v3 = 0 then
  (f_X9_ordersOver_J40  σ)
  else
  (bnd2 (vc 9 a0_22 σ (f_X9_whyNot a0_22 i1_22 i2_22 i3_22 σ)) fun v4 σ =>
  if 0 < v4 then
  (f_X9_ordersOver_J40  σ)
  else
  ((gI 9 946 a0_22 σ).bind fun v5 =>
  bnd2 (vc 9 a0_22 σ (f_X9_ofBridge a0_22 i3_22 (6 : Int32) σ)) fun v6 σ =>
  if i2_22 = (-1 : Int32) then
  (f_X9_ordersOver_J64 a0_22 i1_22 i2_22 i3_22 (1 : Int32) v6 v5 a0_22 σ)
  else
  (f_X9_ordersOver_J64 a0_22 i1_22 i2_22 i3_22 (2 : Int32) v6 v5 a0_22 σ)))
noncomputable def f_X9_ordersOver (a0 : Nat) (i1 : Int32) (i2 : Int32) (i3 : Int32) (σ : ZT) : Option (Int32 × ZT) :=
  bnd2 (vc 9 a0 σ (f_X9_isPerson a0 i1 σ)) fun v1 σ =>
  if v1 = 0 then
  (f_X9_ordersOver_J40  σ)
  else
  (if i2 = (-1 : Int32) then
  (f_X9_ordersOver_J22 a0 i1 i2 i3 σ)
  else
  (bnd2 (vc 9 a0 σ (f_X9_areTwo a0 i1 i2 σ)) fun v2 σ =>
  if v2 = 0 then
  (f_X9_ordersOver_J40  σ)
  else
  (f_X9_ordersOver_J22 a0 i1 i2 i3 σ)))
set_option maxHeartbeats 4000000 in
theorem m_X9_ordersOver {l : Launch} {G : ZG} (a0 : Nat) (i1 : Int32) (i2 : Int32) (i3 : Int32) (σ : ZT) {out : (Int32 × ZT)} (hf : f_X9_ordersOver a0 i1 i2 i3 σ = some out) : ZM l G yX9_ordersOver cX9_ordersOver 5 (some .boolean) [] 6 [.ref a0, .int i1, .int i2, .int i3] σ (.returned (some (.int out.1))) out.2 := by
  refine ZM.of [(0, .ref a0), (1, .int i1), (2, .int i2), (3, .int i3)] rfl (Nat.le_of_ble_eq_true rfl) fun X (C : ZC G RX9 "ordersOver" cX9_ordersOver 5 (some .boolean) [] X 6) => ?_
  unfold f_X9_ordersOver at hf
  have j161_0 : ∀  (σ : ZT), f_X9_ordersOver_J161  σ = some out → ZW l G 5 X (ZQ G X (.returned (some (.int out.1))) out.2) σ 161 [] [] := by
    intro  σ hf
    unfold f_X9_ordersOver_J161 at hf
    refine z_iconst (q := 162) C (1 : Int32) dX9_ordersOver_161 ki_1 rfl ?_
    exact z_zreturn C rfl z_nb1 dX9_ordersOver_162 (Option.some.inj hf)
  have j117_0 : ∀ (a0_117 : Nat) (i1_117 : Int32) (i2_117 : Int32) (i3_117 : Int32) (i4_117 : Int32) (σ : ZT), f_X9_ordersOver_J117 a0_117 i1_117 i2_117 i3_117 i4_117 σ = some out → ZW l G 5 X (ZQ G X (.returned (some (.int out.1))) out.2) σ 117 [(0, .ref a0_117), (1, .int i1_117), (2, .int i2_117), (3, .int i3_117), (4, .int i4_117)] [] := by
    intro a0_117 i1_117 i2_117 i3_117 i4_117 σ hf
    unfold f_X9_ordersOver_J117 at hf
    refine z_iload (q := 119) (i := 4) C 4 dX9_ordersOver_117 rfl rfl ?_
    refine z_ifeq (q := 122) (tgt := 134) C dX9_ordersOver_119 (by decide) rfl hf (fun c119 hf => ?_) (fun c119 hf => ?_)
    · refine z_aload_n (q := 135) (i := 0) C 0 dX9_ordersOver_134 rfl rfl rfl ?_
      refine z_dup (q := 136) C dX9_ordersOver_135 rfl rfl ?_
      refine z_getI (q := 139) C flX9_446 dX9_ordersOver_136 hf rfl fun v11 hf => ?_
      refine z_iconst (q := 140) C (1 : Int32) dX9_ordersOver_139 ki_1 rfl ?_
      refine z_iadd (q := 141) C dX9_ordersOver_140 rfl ?_
      refine z_putI (q := 144) C puX9_446 dX9_ordersOver_141 hf rfl fun σ hf => ?_
      refine z_aload_n (q := 145) (i := 0) C 0 dX9_ordersOver_144 rfl rfl rfl ?_
      refine z_iload_n (q := 146) (i := 1) C 1 dX9_ordersOver_145 rfl rfl rfl ?_
      refine z_iload_n (q := 147) (i := 3) C 3 dX9_ordersOver_146 rfl rfl rfl ?_
      refine z_callVv (q := 150) (As := [.int i1_117, .int i3_117]) C (fun o ho => m_X9_crosses _ _ _ _ ho) zk9 vvX9_331 cdX9_crosses pnX9 dX9_ordersOver_147 rfl (by decide) (Nat.le_of_ble_eq_true rfl) hf rfl fun σ hf => ?_
      refine z_iload_n (q := 151) (i := 2) C 2 dX9_ordersOver_150 rfl rfl rfl ?_
      refine z_iconst (q := 152) C (-1 : Int32) dX9_ordersOver_151 ki_m1 rfl ?_
      refine z_icmpeq (q := 155) (tgt := 161) C dX9_ordersOver_152 (by decide) rfl hf (fun c152 hf => ?_) (fun c152 hf => ?_)
      · refine z_lv [] rfl ?_
        exact j161_0  σ hf
      · refine z_aload_n (q := 156) (i := 0) C 0 dX9_ordersOver_155 rfl rfl rfl ?_
        refine z_iload_n (q := 157) (i := 2) C 2 dX9_ordersOver_156 rfl rfl rfl ?_
        refine z_iload_n (q := 158) (i := 3) C 3 dX9_ordersOver_157 rfl rfl rfl ?_
        refine z_callVv (q := 161) (As := [.int i2_117, .int i3_117]) C (fun o ho => m_X9_crosses _ _ _ _ ho) zk9 vvX9_331 cdX9_crosses pnX9 dX9_ordersOver_158 rfl (by decide) (Nat.le_of_ble_eq_true rfl) hf rfl fun σ hf => ?_
        refine z_lv [] rfl ?_
        exact j161_0  σ hf
    · refine z_aload_n (q := 123) (i := 0) C 0 dX9_ordersOver_122 rfl rfl rfl ?_
      refine z_dup (q := 124) C dX9_ordersOver_123 rfl rfl ?_
      refine z_getI (q := 127) C flX9_443 dX9_ordersOver_124 hf rfl fun v14 hf => ?_
      refine z_iconst (q := 128) C (1 : Int32) dX9_ordersOver_127 ki_1 rfl ?_
      refine z_iadd (q := 129) C dX9_ordersOver_128 rfl ?_
      refine z_putI (q := 132) C puX9_443 dX9_ordersOver_129 hf rfl fun σ hf => ?_
      refine z_iconst (q := 133) C (1 : Int32) dX9_ordersOver_132 ki_1 rfl ?_
      exact z_zreturn C rfl z_nb1 dX9_ordersOver_133 (Option.some.inj hf)
  have j115_0 : ∀ (a0_115 : Nat) (i1_115 : Int32) (i2_115 : Int32) (i3_115 : Int32) (w0_115 : Int32) (σ : ZT), f_X9_ordersOver_J115 a0_115 i1_115 i2_115 i3_115 w0_115 σ = some out → ZW l G 5 X (ZQ G X (.returned (some (.int out.1))) out.2) σ 115 [(0, .ref a0_115), (1, .int i1_115), (2, .int i2_115), (3, .int i3_115)] [.int w0_115] := by
    intro a0_115 i1_115 i2_115 i3_115 w0_115 σ hf
    unfold f_X9_ordersOver_J115 at hf
    refine z_istore (q := 117) (i := 4) (lv' := [(4, .int w0_115), (0, .ref a0_115), (1, .int i1_115), (2, .int i2_115), (3, .int i3_115)]) C dX9_ordersOver_115 (by decide) rfl rfl ?_
    refine z_lv [1, 2, 3, 4, 0] rfl ?_
    exact j117_0 a0_115 i1_115 i2_115 i3_115 w0_115 σ hf
  have j110_0 : ∀ (a0_110 : Nat) (i1_110 : Int32) (i2_110 : Int32) (i3_110 : Int32) (σ : ZT), f_X9_ordersOver_J110 a0_110 i1_110 i2_110 i3_110 σ = some out → ZW l G 5 X (ZQ G X (.returned (some (.int out.1))) out.2) σ 110 [(0, .ref a0_110), (1, .int i1_110), (2, .int i2_110), (3, .int i3_110)] [] := by
    intro a0_110 i1_110 i2_110 i3_110 σ hf
    unfold f_X9_ordersOver_J110 at hf
    refine z_iconst (q := 111) C (1 : Int32) dX9_ordersOver_110 ki_1 rfl ?_
    refine z_goto (q := 115) C dX9_ordersOver_111 (by decide) ?_
    exact j115_0 a0_110 i1_110 i2_110 i3_110 (1 : Int32) σ hf
  have j64_0 : ∀ (a0_64 : Nat) (i1_64 : Int32) (i2_64 : Int32) (i3_64 : Int32) (w0_64 : Int32) (w1_64 : Int32) (w2_64 : Int32) (w3_64 : Nat) (σ : ZT), f_X9_ordersOver_J64 a0_64 i1_64 i2_64 i3_64 w0_64 w1_64 w2_64 w3_64 σ = some out → ZW l G 5 X (ZQ G X (.returned (some (.int out.1))) out.2) σ 64 [(0, .ref a0_64), (1, .int i1_64), (2, .int i2_64), (3, .int i3_64)] [.int w0_64, .int w1_64, .int w2_64, .ref w3_64] := by
    intro a0_64 i1_64 i2_64 i3_64 w0_64 w1_64 w2_64 w3_64 σ hf
    unfold f_X9_ordersOver_J64 at hf
    refine z_imul (q := 65) C dX9_ordersOver_64 rfl ?_
    refine z_iadd (q := 66) C dX9_ordersOver_65 rfl ?_
    refine z_putI (q := 69) C puX9_434 dX9_ordersOver_66 hf rfl fun σ hf => ?_
    refine z_aload_n (q := 70) (i := 0) C 0 dX9_ordersOver_69 rfl rfl rfl ?_
    refine z_dup (q := 71) C dX9_ordersOver_70 rfl rfl ?_
    refine z_getI (q := 74) C flX9_437 dX9_ordersOver_71 hf rfl fun v7 hf => ?_
    refine z_aload_n (q := 75) (i := 0) C 0 dX9_ordersOver_74 rfl rfl rfl ?_
    refine z_iload_n (q := 76) (i := 3) C 3 dX9_ordersOver_75 rfl rfl rfl ?_
    refine z_bipush (q := 78) C (7 : Int32) dX9_ordersOver_76 kb_7 rfl ?_
    refine z_callVi (q := 81) (As := [.int i3_64, .int (7 : Int32)]) C (fun o ho => m_X9_ofBridge _ _ _ _ ho) zk9 vvX9_282 cdX9_ofBridge pnX9 dX9_ordersOver_78 rfl (by decide) (Nat.le_of_ble_eq_true rfl) hf rfl fun v8 σ hf => ?_
    refine z_iadd (q := 82) C dX9_ordersOver_81 rfl ?_
    refine z_putI (q := 85) C puX9_437 dX9_ordersOver_82 hf rfl fun σ hf => ?_
    refine z_aload_n (q := 86) (i := 0) C 0 dX9_ordersOver_85 rfl rfl rfl ?_
    refine z_iload_n (q := 87) (i := 3) C 3 dX9_ordersOver_86 rfl rfl rfl ?_
    refine z_callVi (q := 90) (As := [.int i3_64]) C (fun o ho => m_X9_slips _ _ _ ho) zk9 vvX9_440 cdX9_slips pnX9 dX9_ordersOver_87 rfl (by decide) (Nat.le_of_ble_eq_true rfl) hf rfl fun v9 σ hf => ?_
    refine z_istore (q := 92) (i := 4) (lv' := [(4, .int v9), (0, .ref a0_64), (1, .int i1_64), (2, .int i2_64), (3, .int i3_64)]) C dX9_ordersOver_90 (by decide) rfl rfl ?_
    refine z_iload_n (q := 93) (i := 2) C 3 dX9_ordersOver_92 rfl rfl rfl ?_
    refine z_iconst (q := 94) C (-1 : Int32) dX9_ordersOver_93 ki_m1 rfl ?_
    refine z_icmpeq (q := 97) (tgt := 117) C dX9_ordersOver_94 (by decide) rfl hf (fun c94 hf => ?_) (fun c94 hf => ?_)
    · refine z_lv [1, 2, 3, 4, 0] rfl ?_
      exact j117_0 a0_64 i1_64 i2_64 i3_64 v9 σ hf
    · refine z_aload_n (q := 98) (i := 0) C 1 dX9_ordersOver_97 rfl rfl rfl ?_
      refine z_iload_n (q := 99) (i := 3) C 4 dX9_ordersOver_98 rfl rfl rfl ?_
      refine z_callVi (q := 102) (As := [.int i3_64]) C (fun o ho => m_X9_slips _ _ _ ho) zk9 vvX9_440 cdX9_slips pnX9 dX9_ordersOver_99 rfl (by decide) (Nat.le_of_ble_eq_true rfl) hf rfl fun v10 σ hf => ?_
      refine z_ifne (q := 105) (tgt := 110) C dX9_ordersOver_102 (by decide) rfl hf (fun c102 hf => ?_) (fun c102 hf => ?_)
      · refine z_lv [1, 2, 3, 4] rfl ?_
        exact j110_0 a0_64 i1_64 i2_64 i3_64 σ hf
      · refine z_iload (q := 107) (i := 4) C 0 dX9_ordersOver_105 rfl rfl ?_
        refine z_ifeq (q := 110) (tgt := 114) C dX9_ordersOver_107 (by decide) rfl hf (fun c107 hf => ?_) (fun c107 hf => ?_)
        · refine z_iconst (q := 115) C (0 : Int32) dX9_ordersOver_114 ki_0 rfl ?_
          refine z_lv [1, 2, 3, 4] rfl ?_
          exact j115_0 a0_64 i1_64 i2_64 i3_64 (0 : Int32) σ hf
        · refine z_lv [1, 2, 3, 4] rfl ?_
          exact j110_0 a0_64 i1_64 i2_64 i3_64 σ hf
  have j40_0 : ∀  (σ : ZT), f_X9_ordersOver_J40  σ = some out → ZW l G 5 X (ZQ G X (.returned (some (.int out.1))) out.2) σ 40 [] [] := by
    intro  σ hf
    unfold f_X9_ordersOver_J40 at hf
    refine z_iconst (q := 41) C (0 : Int32) dX9_ordersOver_40 ki_0 rfl ?_
    exact z_zreturn C rfl z_nb0 dX9_ordersOver_41 (Option.some.inj hf)
  have j22_0 : ∀ (a0_22 : Nat) (i1_22 : Int32) (i2_22 : Int32) (i3_22 : Int32) (σ : ZT), f_X9_ordersOver_J22 a0_22 i1_22 i2_22 i3_22 σ = some out → ZW l G 5 X (ZQ G X (.returned (some (.int out.1))) out.2) σ 22 [(0, .ref a0_22), (1, .int i1_22), (2, .int i2_22), (3, .int i3_22)] [] := by
    intro a0_22 i1_22 i2_22 i3_22 σ hf
    unfold f_X9_ordersOver_J22 at hf
    refine z_aload_n (q := 23) (i := 0) C 0 dX9_ordersOver_22 rfl rfl rfl ?_
    refine z_iload_n (q := 24) (i := 3) C 3 dX9_ordersOver_23 rfl rfl rfl ?_
    refine z_callVi (q := 27) (As := [.int i3_22]) C (fun o ho => m_X9_isBridge _ _ _ ho) zk9 vvX9_291 cdX9_isBridge pnX9 dX9_ordersOver_24 rfl (by decide) (Nat.le_of_ble_eq_true rfl) hf rfl fun v3 σ hf => ?_
    refine z_ifeq (q := 30) (tgt := 40) C dX9_ordersOver_27 (by decide) rfl hf (fun c27 hf => ?_) (fun c27 hf => ?_)
    · refine z_lv [] rfl ?_
      exact j40_0  σ hf
    · refine z_aload_n (q := 31) (i := 0) C 0 dX9_ordersOver_30 rfl rfl rfl ?_
      refine z_iload_n (q := 32) (i := 1) C 1 dX9_ordersOver_31 rfl rfl rfl ?_
      refine z_iload_n (q := 33) (i := 2) C 2 dX9_ordersOver_32 rfl rfl rfl ?_
      refine z_iload_n (q := 34) (i := 3) C 3 dX9_ordersOver_33 rfl rfl rfl ?_
      refine z_callVi (q := 37) (As := [.int i1_22, .int i2_22, .int i3_22]) C (fun o ho => m_X9_whyNot _ _ _ _ _ ho) zk9 vvX9_327 cdX9_whyNot pnX9 dX9_ordersOver_34 rfl (by decide) (Nat.le_of_ble_eq_true rfl) hf rfl fun v4 σ hf => ?_
      refine z_ifle (q := 40) (tgt := 42) C dX9_ordersOver_37 (by decide) rfl hf (fun c37 hf => ?_) (fun c37 hf => ?_)
      · refine z_aload_n (q := 43) (i := 0) C 0 dX9_ordersOver_42 rfl rfl rfl ?_
        refine z_dup (q := 44) C dX9_ordersOver_43 rfl rfl ?_
        refine z_getI (q := 47) C flX9_434 dX9_ordersOver_44 hf rfl fun v5 hf => ?_
        refine z_aload_n (q := 48) (i := 0) C 0 dX9_ordersOver_47 rfl rfl rfl ?_
        refine z_iload_n (q := 49) (i := 3) C 3 dX9_ordersOver_48 rfl rfl rfl ?_
        refine z_bipush (q := 51) C (6 : Int32) dX9_ordersOver_49 kb_6 rfl ?_
        refine z_callVi (q := 54) (As := [.int i3_22, .int (6 : Int32)]) C (fun o ho => m_X9_ofBridge _ _ _ _ ho) zk9 vvX9_282 cdX9_ofBridge pnX9 dX9_ordersOver_51 rfl (by decide) (Nat.le_of_ble_eq_true rfl) hf rfl fun v6 σ hf => ?_
        refine z_iload_n (q := 55) (i := 2) C 2 dX9_ordersOver_54 rfl rfl rfl ?_
        refine z_iconst (q := 56) C (-1 : Int32) dX9_ordersOver_55 ki_m1 rfl ?_
        refine z_icmpne (q := 59) (tgt := 63) C dX9_ordersOver_56 (by decide) rfl hf (fun c56 hf => ?_) (fun c56 hf => ?_)
        · refine z_iconst (q := 64) C (2 : Int32) dX9_ordersOver_63 ki_2 rfl ?_
          exact j64_0 a0_22 i1_22 i2_22 i3_22 (2 : Int32) v6 v5 a0_22 σ hf
        · refine z_iconst (q := 60) C (1 : Int32) dX9_ordersOver_59 ki_1 rfl ?_
          refine z_goto (q := 64) C dX9_ordersOver_60 (by decide) ?_
          exact j64_0 a0_22 i1_22 i2_22 i3_22 (1 : Int32) v6 v5 a0_22 σ hf
      · refine z_lv [] rfl ?_
        exact j40_0  σ hf
  refine z_aload_n (q := 1) (i := 0) C 0 dX9_ordersOver_0 rfl rfl rfl ?_
  refine z_iload_n (q := 2) (i := 1) C 1 dX9_ordersOver_1 rfl rfl rfl ?_
  refine z_callVi (q := 5) (As := [.int i1]) C (fun o ho => m_X9_isPerson _ _ _ ho) zk9 vvX9_297 cdX9_isPerson pnX9 dX9_ordersOver_2 rfl (by decide) (Nat.le_of_ble_eq_true rfl) hf rfl fun v1 σ hf => ?_
  refine z_ifeq (q := 8) (tgt := 40) C dX9_ordersOver_5 (by decide) rfl hf (fun c5 hf => ?_) (fun c5 hf => ?_)
  · refine z_lv [] rfl ?_
    exact j40_0  σ hf
  · refine z_iload_n (q := 9) (i := 2) C 2 dX9_ordersOver_8 rfl rfl rfl ?_
    refine z_iconst (q := 10) C (-1 : Int32) dX9_ordersOver_9 ki_m1 rfl ?_
    refine z_icmpeq (q := 13) (tgt := 22) C dX9_ordersOver_10 (by decide) rfl hf (fun c10 hf => ?_) (fun c10 hf => ?_)
    · exact j22_0 a0 i1 i2 i3 σ hf
    · refine z_aload_n (q := 14) (i := 0) C 0 dX9_ordersOver_13 rfl rfl rfl ?_
      refine z_iload_n (q := 15) (i := 1) C 1 dX9_ordersOver_14 rfl rfl rfl ?_
      refine z_iload_n (q := 16) (i := 2) C 2 dX9_ordersOver_15 rfl rfl rfl ?_
      refine z_callVi (q := 19) (As := [.int i1, .int i2]) C (fun o ho => m_X9_areTwo _ _ _ _ ho) zk9 vvX9_345 cdX9_areTwo pnX9 dX9_ordersOver_16 rfl (by decide) (Nat.le_of_ble_eq_true rfl) hf rfl fun v2 σ hf => ?_
      refine z_ifeq (q := 22) (tgt := 40) C dX9_ordersOver_19 (by decide) rfl hf (fun c19 hf => ?_) (fun c19 hf => ?_)
      · refine z_lv [] rfl ?_
        exact j40_0  σ hf
      · exact j22_0 a0 i1 i2 i3 σ hf

noncomputable def f_X9_ordersMove_J28 (a0_28 : Nat) (i1_28 : Int32) (i3_28 : Int32) (σ : ZT) : Option (Int32 × ZT) :=
  (gR 9 900 a0_28 σ).bind fun v13 =>
  (ldI 0 v13 (i1_28 + (2 : Int32)) σ).bind fun v14 =>
  (gR 9 900 a0_28 σ).bind fun v15 =>
  (ldI 0 v15 (i1_28 + (3 : Int32)) σ).bind fun v16 =>
  bnd2 (vc 9 a0_28 σ (f_X9_ordersOver a0_28 i3_28 v14 v16 σ)) fun v17 σ =>
  (rz v17).bind fun z18 =>
  some (z18, σ)
noncomputable def f_X9_ordersMove_J128 (i4_128 : Int32) (w0_128 : Int32) (w1_128 : Int32) (w2_128 : Nat) (σ : ZT) : Option (Int32 × ZT) :=
  (pI 9 943 w2_128 (w1_128 + w0_128) σ).bind fun σ =>
  (rz i4_128).bind fun z20 =>
  some (z20, σ)
noncomputable def f_X9_ordersMove_J111 (a0_111 : Nat) (w0_111 : Int32) (σ : ZT) : Option (Int32 × ZT) :=
  (gI 9 943 a0_111 σ).bind fun v19 =>
  if w0_111 = 0 then
  (f_X9_ordersMove_J128 w0_111 (0 : Int32) v19 a0_111 σ)
  else
  (f_X9_ordersMove_J128 w0_111 (1 : Int32) v19 a0_111 σ)
noncomputable def f_X9_ordersMove_J110 (a0_110 : Nat) (σ : ZT) : Option (Int32 × ZT) :=
  f_X9_ordersMove_J111 a0_110 (0 : Int32) σ
noncomputable def f_X9_ordersMove_J106 (a0_106 : Nat) (σ : ZT) : Option (Int32 × ZT) :=
  f_X9_ordersMove_J111 a0_106 (1 : Int32) σ
noncomputable def f_X9_ordersMove (a0 : Nat) (i1 : Int32) (σ : ZT) : Option (Int32 × ZT) :=
  (gR 9 900 a0 σ).bind fun v1 =>
  (ldI 0 v1 i1 σ).bind fun v2 =>
  (gR 9 900 a0 σ).bind fun v3 =>
  (ldI 0 v3 (i1 + (1 : Int32)) σ).bind fun v4 =>
  if v2 = (19 : Int32) then
  (f_X9_ordersMove_J28 a0 i1 v4 σ)
  else
  (if v2 = (20 : Int32) then
  (f_X9_ordersMove_J28 a0 i1 v4 σ)
  else
  (bnd2 (vc 9 a0 σ (f_X9_isPerson a0 v4 σ)) fun v5 σ =>
  if v5 = 0 then
  (f_X9_ordersMove_J110 a0 σ)
  else
  (if v2 = (22 : Int32) then
  ((gR 9 900 a0 σ).bind fun v7 =>
  (ldI 0 v7 (i1 + (3 : Int32)) σ).bind fun v8 =>
  bnd2 (vc 9 a0 σ (f_X9_isLoad a0 v8 σ)) fun v9 σ =>
  if v9 = 0 then
  (f_X9_ordersMove_J110 a0 σ)
  else
  ((gR 9 900 a0 σ).bind fun v10 =>
  (ldI 0 v10 (i1 + (3 : Int32)) σ).bind fun v11 =>
  bnd2 (vc 9 a0 σ (f_X9_lifts a0 v4 v11 σ)) fun v12 σ =>
  if v12 = 0 then
  (f_X9_ordersMove_J110 a0 σ)
  else
  (f_X9_ordersMove_J106 a0 σ)))
  else
  (bnd2 (vc 9 a0 σ (f_X9_drops a0 v4 σ)) fun v6 σ =>
  if v6 = 0 then
  (f_X9_ordersMove_J110 a0 σ)
  else
  (f_X9_ordersMove_J106 a0 σ)))))
set_option maxHeartbeats 4000000 in
theorem m_X9_ordersMove {l : Launch} {G : ZG} (a0 : Nat) (i1 : Int32) (σ : ZT) {out : (Int32 × ZT)} (hf : f_X9_ordersMove a0 i1 σ = some out) : ZM l G yX9_ordersMove cX9_ordersMove 5 (some .boolean) [] 7 [.ref a0, .int i1] σ (.returned (some (.int out.1))) out.2 := by
  refine ZM.of [(0, .ref a0), (1, .int i1)] rfl (Nat.le_of_ble_eq_true rfl) fun X (C : ZC G RX9 "ordersMove" cX9_ordersMove 5 (some .boolean) [] X 7) => ?_
  unfold f_X9_ordersMove at hf
  have j128_0 : ∀ (i4_128 : Int32) (w0_128 : Int32) (w1_128 : Int32) (w2_128 : Nat) (σ : ZT), f_X9_ordersMove_J128 i4_128 w0_128 w1_128 w2_128 σ = some out → ZW l G 5 X (ZQ G X (.returned (some (.int out.1))) out.2) σ 128 [(4, .int i4_128)] [.int w0_128, .int w1_128, .ref w2_128] := by
    intro i4_128 w0_128 w1_128 w2_128 σ hf
    unfold f_X9_ordersMove_J128 at hf
    refine z_iadd (q := 129) C dX9_ordersMove_128 rfl ?_
    refine z_putI (q := 132) C puX9_446 dX9_ordersMove_129 hf rfl fun σ hf => ?_
    refine z_iload (q := 134) (i := 4) C 0 dX9_ordersMove_132 rfl rfl ?_
    refine z_rz C hf fun hn hf => ?_
    exact z_zreturn C rfl hn dX9_ordersMove_134 (Option.some.inj hf)
  have j111_0 : ∀ (a0_111 : Nat) (w0_111 : Int32) (σ : ZT), f_X9_ordersMove_J111 a0_111 w0_111 σ = some out → ZW l G 5 X (ZQ G X (.returned (some (.int out.1))) out.2) σ 111 [(0, .ref a0_111)] [.int w0_111] := by
    intro a0_111 w0_111 σ hf
    unfold f_X9_ordersMove_J111 at hf
    refine z_istore (q := 113) (i := 4) (lv' := [(4, .int w0_111), (0, .ref a0_111)]) C dX9_ordersMove_111 (by decide) rfl rfl ?_
    refine z_aload_n (q := 114) (i := 0) C 1 dX9_ordersMove_113 rfl rfl rfl ?_
    refine z_dup (q := 115) C dX9_ordersMove_114 rfl rfl ?_
    refine z_getI (q := 118) C flX9_446 dX9_ordersMove_115 hf rfl fun v19 hf => ?_
    refine z_iload (q := 120) (i := 4) C 0 dX9_ordersMove_118 rfl rfl ?_
    refine z_ifeq (q := 123) (tgt := 127) C dX9_ordersMove_120 (by decide) rfl hf (fun c120 hf => ?_) (fun c120 hf => ?_)
    · refine z_iconst (q := 128) C (0 : Int32) dX9_ordersMove_127 ki_0 rfl ?_
      refine z_lv [0] rfl ?_
      exact j128_0 w0_111 (0 : Int32) v19 a0_111 σ hf
    · refine z_iconst (q := 124) C (1 : Int32) dX9_ordersMove_123 ki_1 rfl ?_
      refine z_goto (q := 128) C dX9_ordersMove_124 (by decide) ?_
      refine z_lv [0] rfl ?_
      exact j128_0 w0_111 (1 : Int32) v19 a0_111 σ hf
  have j110_0 : ∀ (a0_110 : Nat) (σ : ZT), f_X9_ordersMove_J110 a0_110 σ = some out → ZW l G 5 X (ZQ G X (.returned (some (.int out.1))) out.2) σ 110 [(0, .ref a0_110)] [] := by
    intro a0_110 σ hf
    unfold f_X9_ordersMove_J110 at hf
    refine z_iconst (q := 111) C (0 : Int32) dX9_ordersMove_110 ki_0 rfl ?_
    exact j111_0 a0_110 (0 : Int32) σ hf
  have j106_0 : ∀ (a0_106 : Nat) (σ : ZT), f_X9_ordersMove_J106 a0_106 σ = some out → ZW l G 5 X (ZQ G X (.returned (some (.int out.1))) out.2) σ 106 [(0, .ref a0_106)] [] := by
    intro a0_106 σ hf
    unfold f_X9_ordersMove_J106 at hf
    refine z_iconst (q := 107) C (1 : Int32) dX9_ordersMove_106 ki_1 rfl ?_
    refine z_goto (q := 111) C dX9_ordersMove_107 (by decide) ?_
    exact j111_0 a0_106 (1 : Int32) σ hf
  have j28_0 : ∀ (a0_28 : Nat) (i1_28 : Int32) (i3_28 : Int32) (σ : ZT), f_X9_ordersMove_J28 a0_28 i1_28 i3_28 σ = some out → ZW l G 5 X (ZQ G X (.returned (some (.int out.1))) out.2) σ 28 [(0, .ref a0_28), (1, .int i1_28), (3, .int i3_28)] [] := by
    intro a0_28 i1_28 i3_28 σ hf
    unfold f_X9_ordersMove_J28 at hf
    refine z_aload_n (q := 29) (i := 0) C 0 dX9_ordersMove_28 rfl rfl rfl ?_
    refine z_iload_n (q := 30) (i := 3) C 2 dX9_ordersMove_29 rfl rfl rfl ?_
    refine z_aload_n (q := 31) (i := 0) C 0 dX9_ordersMove_30 rfl rfl rfl ?_
    refine z_getR (q := 34) C flX9_7 dX9_ordersMove_31 hf rfl fun v13 hf => ?_
    refine z_iload_n (q := 35) (i := 1) C 1 dX9_ordersMove_34 rfl rfl rfl ?_
    refine z_iconst (q := 36) C (2 : Int32) dX9_ordersMove_35 ki_2 rfl ?_
    refine z_iadd (q := 37) C dX9_ordersMove_36 rfl ?_
    refine z_iald (q := 38) C dX9_ordersMove_37 hf rfl fun v14 hf => ?_
    refine z_aload_n (q := 39) (i := 0) C 0 dX9_ordersMove_38 rfl rfl rfl ?_
    refine z_getR (q := 42) C flX9_7 dX9_ordersMove_39 hf rfl fun v15 hf => ?_
    refine z_iload_n (q := 43) (i := 1) C 1 dX9_ordersMove_42 rfl rfl rfl ?_
    refine z_iconst (q := 44) C (3 : Int32) dX9_ordersMove_43 ki_3 rfl ?_
    refine z_iadd (q := 45) C dX9_ordersMove_44 rfl ?_
    refine z_iald (q := 46) C dX9_ordersMove_45 hf rfl fun v16 hf => ?_
    refine z_callVi (q := 49) (As := [.int i3_28, .int v14, .int v16]) C (fun o ho => m_X9_ordersOver _ _ _ _ _ ho) zk9 vvX9_449 cdX9_ordersOver pnX9 dX9_ordersMove_46 rfl (by decide) (Nat.le_of_ble_eq_true rfl) hf rfl fun v17 σ hf => ?_
    refine z_rz C hf fun hn hf => ?_
    exact z_zreturn C rfl hn dX9_ordersMove_49 (Option.some.inj hf)
  refine z_aload_n (q := 1) (i := 0) C 0 dX9_ordersMove_0 rfl rfl rfl ?_
  refine z_getR (q := 4) C flX9_7 dX9_ordersMove_1 hf rfl fun v1 hf => ?_
  refine z_iload_n (q := 5) (i := 1) C 1 dX9_ordersMove_4 rfl rfl rfl ?_
  refine z_iald (q := 6) C dX9_ordersMove_5 hf rfl fun v2 hf => ?_
  refine z_istore_n (q := 7) (i := 2) (lv' := [(2, .int v2), (0, .ref a0), (1, .int i1)]) C dX9_ordersMove_6 rfl (by decide) rfl rfl ?_
  refine z_aload_n (q := 8) (i := 0) C 1 dX9_ordersMove_7 rfl rfl rfl ?_
  refine z_getR (q := 11) C flX9_7 dX9_ordersMove_8 hf rfl fun v3 hf => ?_
  refine z_iload_n (q := 12) (i := 1) C 2 dX9_ordersMove_11 rfl rfl rfl ?_
  refine z_iconst (q := 13) C (1 : Int32) dX9_ordersMove_12 ki_1 rfl ?_
  refine z_iadd (q := 14) C dX9_ordersMove_13 rfl ?_
  refine z_iald (q := 15) C dX9_ordersMove_14 hf rfl fun v4 hf => ?_
  refine z_istore_n (q := 16) (i := 3) (lv' := [(3, .int v4), (2, .int v2), (0, .ref a0), (1, .int i1)]) C dX9_ordersMove_15 rfl (by decide) rfl rfl ?_
  refine z_iload_n (q := 17) (i := 2) C 1 dX9_ordersMove_16 rfl rfl rfl ?_
  refine z_bipush (q := 19) C (19 : Int32) dX9_ordersMove_17 kb_19 rfl ?_
  refine z_icmpeq (q := 22) (tgt := 28) C dX9_ordersMove_19 (by decide) rfl hf (fun c19 hf => ?_) (fun c19 hf => ?_)
  · refine z_lv [2, 3, 0] rfl ?_
    exact j28_0 a0 i1 v4 σ hf
  · refine z_iload_n (q := 23) (i := 2) C 1 dX9_ordersMove_22 rfl rfl rfl ?_
    refine z_bipush (q := 25) C (20 : Int32) dX9_ordersMove_23 kb_20 rfl ?_
    refine z_icmpne (q := 28) (tgt := 50) C dX9_ordersMove_25 (by decide) rfl hf (fun c25 hf => ?_) (fun c25 hf => ?_)
    · refine z_aload_n (q := 51) (i := 0) C 2 dX9_ordersMove_50 rfl rfl rfl ?_
      refine z_iload_n (q := 52) (i := 3) C 0 dX9_ordersMove_51 rfl rfl rfl ?_
      refine z_callVi (q := 55) (As := [.int v4]) C (fun o ho => m_X9_isPerson _ _ _ ho) zk9 vvX9_297 cdX9_isPerson pnX9 dX9_ordersMove_52 rfl (by decide) (Nat.le_of_ble_eq_true rfl) hf rfl fun v5 σ hf => ?_
      refine z_ifeq (q := 58) (tgt := 110) C dX9_ordersMove_55 (by decide) rfl hf (fun c55 hf => ?_) (fun c55 hf => ?_)
      · refine z_lv [2] rfl ?_
        exact j110_0 a0 σ hf
      · refine z_iload_n (q := 59) (i := 2) C 1 dX9_ordersMove_58 rfl rfl rfl ?_
        refine z_bipush (q := 61) C (22 : Int32) dX9_ordersMove_59 kb_22 rfl ?_
        refine z_icmpne (q := 64) (tgt := 98) C dX9_ordersMove_61 (by decide) rfl hf (fun c61 hf => ?_) (fun c61 hf => ?_)
        · refine z_aload_n (q := 99) (i := 0) C 2 dX9_ordersMove_98 rfl rfl rfl ?_
          refine z_iload_n (q := 100) (i := 3) C 0 dX9_ordersMove_99 rfl rfl rfl ?_
          refine z_callVi (q := 103) (As := [.int v4]) C (fun o ho => m_X9_drops _ _ _ ho) zk9 vvX9_351 cdX9_drops pnX9 dX9_ordersMove_100 rfl (by decide) (Nat.le_of_ble_eq_true rfl) hf rfl fun v6 σ hf => ?_
          refine z_ifeq (q := 106) (tgt := 110) C dX9_ordersMove_103 (by decide) rfl hf (fun c103 hf => ?_) (fun c103 hf => ?_)
          · refine z_lv [2] rfl ?_
            exact j110_0 a0 σ hf
          · refine z_lv [2] rfl ?_
            exact j106_0 a0 σ hf
        · refine z_aload_n (q := 65) (i := 0) C 2 dX9_ordersMove_64 rfl rfl rfl ?_
          refine z_aload_n (q := 66) (i := 0) C 2 dX9_ordersMove_65 rfl rfl rfl ?_
          refine z_getR (q := 69) C flX9_7 dX9_ordersMove_66 hf rfl fun v7 hf => ?_
          refine z_iload_n (q := 70) (i := 1) C 3 dX9_ordersMove_69 rfl rfl rfl ?_
          refine z_iconst (q := 71) C (3 : Int32) dX9_ordersMove_70 ki_3 rfl ?_
          refine z_iadd (q := 72) C dX9_ordersMove_71 rfl ?_
          refine z_iald (q := 73) C dX9_ordersMove_72 hf rfl fun v8 hf => ?_
          refine z_callVi (q := 76) (As := [.int v8]) C (fun o ho => m_X9_isLoad _ _ _ ho) zk9 vvX9_321 cdX9_isLoad pnX9 dX9_ordersMove_73 rfl (by decide) (Nat.le_of_ble_eq_true rfl) hf rfl fun v9 σ hf => ?_
          refine z_ifeq (q := 79) (tgt := 110) C dX9_ordersMove_76 (by decide) rfl hf (fun c76 hf => ?_) (fun c76 hf => ?_)
          · refine z_lv [2] rfl ?_
            exact j110_0 a0 σ hf
          · refine z_aload_n (q := 80) (i := 0) C 2 dX9_ordersMove_79 rfl rfl rfl ?_
            refine z_iload_n (q := 81) (i := 3) C 0 dX9_ordersMove_80 rfl rfl rfl ?_
            refine z_aload_n (q := 82) (i := 0) C 2 dX9_ordersMove_81 rfl rfl rfl ?_
            refine z_getR (q := 85) C flX9_7 dX9_ordersMove_82 hf rfl fun v10 hf => ?_
            refine z_iload_n (q := 86) (i := 1) C 3 dX9_ordersMove_85 rfl rfl rfl ?_
            refine z_iconst (q := 87) C (3 : Int32) dX9_ordersMove_86 ki_3 rfl ?_
            refine z_iadd (q := 88) C dX9_ordersMove_87 rfl ?_
            refine z_iald (q := 89) C dX9_ordersMove_88 hf rfl fun v11 hf => ?_
            refine z_callVi (q := 92) (As := [.int v4, .int v11]) C (fun o ho => m_X9_lifts _ _ _ _ ho) zk9 vvX9_348 cdX9_lifts pnX9 dX9_ordersMove_89 rfl (by decide) (Nat.le_of_ble_eq_true rfl) hf rfl fun v12 σ hf => ?_
            refine z_ifeq (q := 95) (tgt := 110) C dX9_ordersMove_92 (by decide) rfl hf (fun c92 hf => ?_) (fun c92 hf => ?_)
            · refine z_lv [2] rfl ?_
              exact j110_0 a0 σ hf
            · refine z_goto (q := 106) C dX9_ordersMove_95 (by decide) ?_
              refine z_lv [2] rfl ?_
              exact j106_0 a0 σ hf
    · refine z_lv [2, 3, 0] rfl ?_
      exact j28_0 a0 i1 v4 σ hf

noncomputable def f_X9_holdsNow_J97 (w0_97 : Int32) (σ : ZT) : Option (Int32 × ZT) :=
  (rz w0_97).bind fun z14 =>
  some (z14, σ)
noncomputable def f_X9_holdsNow_J96  (σ : ZT) : Option (Int32 × ZT) :=
  f_X9_holdsNow_J97 (0 : Int32) σ
noncomputable def f_X9_holdsNow_J92  (σ : ZT) : Option (Int32 × ZT) :=
  f_X9_holdsNow_J97 (1 : Int32) σ
noncomputable def f_X9_holdsNow_J48 (w0_48 : Int32) (σ : ZT) : Option (Int32 × ZT) :=
  (rz w0_48).bind fun z13 =>
  some (z13, σ)
noncomputable def f_X9_holdsNow_J47  (σ : ZT) : Option (Int32 × ZT) :=
  f_X9_holdsNow_J48 (0 : Int32) σ
noncomputable def f_X9_holdsNow (a0 : Nat) (i1 : Int32) (σ : ZT) : Option (Int32 × ZT) :=
  (gR 9 900 a0 σ).bind fun v1 =>
  (ldI 0 v1 i1 σ).bind fun v2 =>
  (gR 9 900 a0 σ).bind fun v3 =>
  (ldI 0 v3 (i1 + (1 : Int32)) σ).bind fun v4 =>
  if (v2 - (2400 : Int32)) = (25 : Int32) then
  (bnd2 (vc 9 a0 σ (f_X9_isBridge a0 v4 σ)) fun v11 σ =>
  if v11 = 0 then
  (f_X9_holdsNow_J47  σ)
  else
  (bnd2 (vc 9 a0 σ (f_X9_hangsBy a0 v4 (0 : Int32) σ)) fun v12 σ =>
  if v12 = 0 then
  (f_X9_holdsNow_J47  σ)
  else
  (f_X9_holdsNow_J48 (1 : Int32) σ)))
  else
  (bnd2 (vc 9 a0 σ (f_X9_isPerson a0 v4 σ)) fun v5 σ =>
  if v5 = 0 then
  (f_X9_holdsNow_J96  σ)
  else
  (if (v2 - (2400 : Int32)) = (26 : Int32) then
  (bnd2 (vc 9 a0 σ (f_X9_loadOf a0 v4 σ)) fun v10 σ =>
  if v10 = (-1 : Int32) then
  (f_X9_holdsNow_J96  σ)
  else
  (f_X9_holdsNow_J92  σ))
  else
  ((gR 9 924 a0 σ).bind fun v6 =>
  (ldI 0 v6 v4 σ).bind fun v7 =>
  (gR 9 900 a0 σ).bind fun v8 =>
  (ldI 0 v8 (i1 + (2 : Int32)) σ).bind fun v9 =>
  if v7 = v9 then
  (f_X9_holdsNow_J92  σ)
  else
  (f_X9_holdsNow_J96  σ))))
set_option maxHeartbeats 4000000 in
theorem m_X9_holdsNow {l : Launch} {G : ZG} (a0 : Nat) (i1 : Int32) (σ : ZT) {out : (Int32 × ZT)} (hf : f_X9_holdsNow a0 i1 σ = some out) : ZM l G yX9_holdsNow cX9_holdsNow 4 (some .boolean) [] 5 [.ref a0, .int i1] σ (.returned (some (.int out.1))) out.2 := by
  refine ZM.of [(0, .ref a0), (1, .int i1)] rfl (Nat.le_of_ble_eq_true rfl) fun X (C : ZC G RX9 "holdsNow" cX9_holdsNow 4 (some .boolean) [] X 5) => ?_
  unfold f_X9_holdsNow at hf
  have j97_0 : ∀ (w0_97 : Int32) (σ : ZT), f_X9_holdsNow_J97 w0_97 σ = some out → ZW l G 4 X (ZQ G X (.returned (some (.int out.1))) out.2) σ 97 [] [.int w0_97] := by
    intro w0_97 σ hf
    unfold f_X9_holdsNow_J97 at hf
    refine z_rz C hf fun hn hf => ?_
    exact z_zreturn C rfl hn dX9_holdsNow_97 (Option.some.inj hf)
  have j96_0 : ∀  (σ : ZT), f_X9_holdsNow_J96  σ = some out → ZW l G 4 X (ZQ G X (.returned (some (.int out.1))) out.2) σ 96 [] [] := by
    intro  σ hf
    unfold f_X9_holdsNow_J96 at hf
    refine z_iconst (q := 97) C (0 : Int32) dX9_holdsNow_96 ki_0 rfl ?_
    exact j97_0 (0 : Int32) σ hf
  have j92_0 : ∀  (σ : ZT), f_X9_holdsNow_J92  σ = some out → ZW l G 4 X (ZQ G X (.returned (some (.int out.1))) out.2) σ 92 [] [] := by
    intro  σ hf
    unfold f_X9_holdsNow_J92 at hf
    refine z_iconst (q := 93) C (1 : Int32) dX9_holdsNow_92 ki_1 rfl ?_
    refine z_goto (q := 97) C dX9_holdsNow_93 (by decide) ?_
    exact j97_0 (1 : Int32) σ hf
  have j48_0 : ∀ (w0_48 : Int32) (σ : ZT), f_X9_holdsNow_J48 w0_48 σ = some out → ZW l G 4 X (ZQ G X (.returned (some (.int out.1))) out.2) σ 48 [] [.int w0_48] := by
    intro w0_48 σ hf
    unfold f_X9_holdsNow_J48 at hf
    refine z_rz C hf fun hn hf => ?_
    exact z_zreturn C rfl hn dX9_holdsNow_48 (Option.some.inj hf)
  have j47_0 : ∀  (σ : ZT), f_X9_holdsNow_J47  σ = some out → ZW l G 4 X (ZQ G X (.returned (some (.int out.1))) out.2) σ 47 [] [] := by
    intro  σ hf
    unfold f_X9_holdsNow_J47 at hf
    refine z_iconst (q := 48) C (0 : Int32) dX9_holdsNow_47 ki_0 rfl ?_
    exact j48_0 (0 : Int32) σ hf
  refine z_aload_n (q := 1) (i := 0) C 0 dX9_holdsNow_0 rfl rfl rfl ?_
  refine z_getR (q := 4) C flX9_7 dX9_holdsNow_1 hf rfl fun v1 hf => ?_
  refine z_iload_n (q := 5) (i := 1) C 1 dX9_holdsNow_4 rfl rfl rfl ?_
  refine z_iald (q := 6) C dX9_holdsNow_5 hf rfl fun v2 hf => ?_
  refine z_sipush (q := 9) C (2400 : Int32) dX9_holdsNow_6 ks_2400 rfl ?_
  refine z_isub (q := 10) C dX9_holdsNow_9 rfl ?_
  refine z_istore_n (q := 11) (i := 2) (lv' := [(2, .int (v2 - (2400 : Int32))), (0, .ref a0), (1, .int i1)]) C dX9_holdsNow_10 rfl (by decide) rfl rfl ?_
  refine z_aload_n (q := 12) (i := 0) C 1 dX9_holdsNow_11 rfl rfl rfl ?_
  refine z_getR (q := 15) C flX9_7 dX9_holdsNow_12 hf rfl fun v3 hf => ?_
  refine z_iload_n (q := 16) (i := 1) C 2 dX9_holdsNow_15 rfl rfl rfl ?_
  refine z_iconst (q := 17) C (1 : Int32) dX9_holdsNow_16 ki_1 rfl ?_
  refine z_iadd (q := 18) C dX9_holdsNow_17 rfl ?_
  refine z_iald (q := 19) C dX9_holdsNow_18 hf rfl fun v4 hf => ?_
  refine z_istore_n (q := 20) (i := 3) (lv' := [(3, .int v4), (2, .int (v2 - (2400 : Int32))), (0, .ref a0), (1, .int i1)]) C dX9_holdsNow_19 rfl (by decide) rfl rfl ?_
  refine z_iload_n (q := 21) (i := 2) C 1 dX9_holdsNow_20 rfl rfl rfl ?_
  refine z_bipush (q := 23) C (25 : Int32) dX9_holdsNow_21 kb_25 rfl ?_
  refine z_icmpne (q := 26) (tgt := 49) C dX9_holdsNow_23 (by decide) rfl hf (fun c23 hf => ?_) (fun c23 hf => ?_)
  · refine z_aload_n (q := 50) (i := 0) C 2 dX9_holdsNow_49 rfl rfl rfl ?_
    refine z_iload_n (q := 51) (i := 3) C 0 dX9_holdsNow_50 rfl rfl rfl ?_
    refine z_callVi (q := 54) (As := [.int v4]) C (fun o ho => m_X9_isPerson _ _ _ ho) zk9 vvX9_297 cdX9_isPerson pnX9 dX9_holdsNow_51 rfl (by decide) (Nat.le_of_ble_eq_true rfl) hf rfl fun v5 σ hf => ?_
    refine z_ifeq (q := 57) (tgt := 96) C dX9_holdsNow_54 (by decide) rfl hf (fun c54 hf => ?_) (fun c54 hf => ?_)
    · refine z_lv [] rfl ?_
      exact j96_0  σ hf
    · refine z_iload_n (q := 58) (i := 2) C 1 dX9_holdsNow_57 rfl rfl rfl ?_
      refine z_bipush (q := 60) C (26 : Int32) dX9_holdsNow_58 kb_26 rfl ?_
      refine z_icmpne (q := 63) (tgt := 75) C dX9_holdsNow_60 (by decide) rfl hf (fun c60 hf => ?_) (fun c60 hf => ?_)
      · refine z_aload_n (q := 76) (i := 0) C 2 dX9_holdsNow_75 rfl rfl rfl ?_
        refine z_getR (q := 79) C flX9_47 dX9_holdsNow_76 hf rfl fun v6 hf => ?_
        refine z_iload_n (q := 80) (i := 3) C 0 dX9_holdsNow_79 rfl rfl rfl ?_
        refine z_iald (q := 81) C dX9_holdsNow_80 hf rfl fun v7 hf => ?_
        refine z_aload_n (q := 82) (i := 0) C 2 dX9_holdsNow_81 rfl rfl rfl ?_
        refine z_getR (q := 85) C flX9_7 dX9_holdsNow_82 hf rfl fun v8 hf => ?_
        refine z_iload_n (q := 86) (i := 1) C 3 dX9_holdsNow_85 rfl rfl rfl ?_
        refine z_iconst (q := 87) C (2 : Int32) dX9_holdsNow_86 ki_2 rfl ?_
        refine z_iadd (q := 88) C dX9_holdsNow_87 rfl ?_
        refine z_iald (q := 89) C dX9_holdsNow_88 hf rfl fun v9 hf => ?_
        refine z_icmpne (q := 92) (tgt := 96) C dX9_holdsNow_89 (by decide) rfl hf (fun c89 hf => ?_) (fun c89 hf => ?_)
        · refine z_lv [] rfl ?_
          exact j96_0  σ hf
        · refine z_lv [] rfl ?_
          exact j92_0  σ hf
      · refine z_aload_n (q := 64) (i := 0) C 2 dX9_holdsNow_63 rfl rfl rfl ?_
        refine z_iload_n (q := 65) (i := 3) C 0 dX9_holdsNow_64 rfl rfl rfl ?_
        refine z_callVi (q := 68) (As := [.int v4]) C (fun o ho => m_X9_loadOf _ _ _ ho) zk9 vvX9_306 cdX9_loadOf pnX9 dX9_holdsNow_65 rfl (by decide) (Nat.le_of_ble_eq_true rfl) hf rfl fun v10 σ hf => ?_
        refine z_iconst (q := 69) C (-1 : Int32) dX9_holdsNow_68 ki_m1 rfl ?_
        refine z_icmpeq (q := 72) (tgt := 96) C dX9_holdsNow_69 (by decide) rfl hf (fun c69 hf => ?_) (fun c69 hf => ?_)
        · refine z_lv [] rfl ?_
          exact j96_0  σ hf
        · refine z_goto (q := 92) C dX9_holdsNow_72 (by decide) ?_
          refine z_lv [] rfl ?_
          exact j92_0  σ hf
  · refine z_aload_n (q := 27) (i := 0) C 2 dX9_holdsNow_26 rfl rfl rfl ?_
    refine z_iload_n (q := 28) (i := 3) C 0 dX9_holdsNow_27 rfl rfl rfl ?_
    refine z_callVi (q := 31) (As := [.int v4]) C (fun o ho => m_X9_isBridge _ _ _ ho) zk9 vvX9_291 cdX9_isBridge pnX9 dX9_holdsNow_28 rfl (by decide) (Nat.le_of_ble_eq_true rfl) hf rfl fun v11 σ hf => ?_
    refine z_ifeq (q := 34) (tgt := 47) C dX9_holdsNow_31 (by decide) rfl hf (fun c31 hf => ?_) (fun c31 hf => ?_)
    · refine z_lv [] rfl ?_
      exact j47_0  σ hf
    · refine z_aload_n (q := 35) (i := 0) C 2 dX9_holdsNow_34 rfl rfl rfl ?_
      refine z_iload_n (q := 36) (i := 3) C 0 dX9_holdsNow_35 rfl rfl rfl ?_
      refine z_iconst (q := 37) C (0 : Int32) dX9_holdsNow_36 ki_0 rfl ?_
      refine z_callVi (q := 40) (As := [.int v4, .int (0 : Int32)]) C (fun o ho => m_X9_hangsBy _ _ _ _ ho) zk9 vvX9_324 cdX9_hangsBy pnX9 dX9_holdsNow_37 rfl (by decide) (Nat.le_of_ble_eq_true rfl) hf rfl fun v12 σ hf => ?_
      refine z_ifeq (q := 43) (tgt := 47) C dX9_holdsNow_40 (by decide) rfl hf (fun c40 hf => ?_) (fun c40 hf => ?_)
      · refine z_lv [] rfl ?_
        exact j47_0  σ hf
      · refine z_iconst (q := 44) C (1 : Int32) dX9_holdsNow_43 ki_1 rfl ?_
        refine z_goto (q := 48) C dX9_holdsNow_44 (by decide) ?_
        refine z_lv [] rfl ?_
        exact j48_0 (1 : Int32) σ hf

noncomputable def f_X9_behindEnds_J107_2 (a0_107 : Nat) (w0_107 : Int32) (σ : ZT) : Option ((Int32 × ZT) ⊕ (Int32 × ZT)) :=
  some (.inl (w0_107, σ))
noncomputable def f_X9_behindEnds_J91_2 (a0_91 : Nat) (i2_91 : Int32) (i3_91 : Int32) (i4_91 : Int32) (w0_91 : Int32) (w1_91 : Int32) (w2_91 : Int32) (w3_91 : Nat) (σ : ZT) : Option ((Int32 × ZT) ⊕ (Int32 × ZT)) :=
  (stI w3_91 w2_91 (w1_91 - w0_91) σ).bind fun σ =>
  if i4_91 = 0 then
  (f_X9_behindEnds_J107_2 a0_91 (i2_91 + (1 : Int32)) σ)
  else
  (f_X9_behindEnds_J107_2 a0_91 (i3_91 + (1 : Int32)) σ)
noncomputable def f_X9_behindEnds_J72_2 (a0_72 : Nat) (i2_72 : Int32) (i3_72 : Int32) (w0_72 : Int32) (σ : ZT) : Option ((Int32 × ZT) ⊕ (Int32 × ZT)) :=
  (gR 9 949 a0_72 σ).bind fun v12 =>
  (ldI 0 v12 i3_72 σ).bind fun v13 =>
  if w0_72 = 0 then
  (f_X9_behindEnds_J91_2 a0_72 i2_72 i3_72 w0_72 (0 : Int32) v13 i3_72 v12 σ)
  else
  (f_X9_behindEnds_J91_2 a0_72 i2_72 i3_72 w0_72 (1 : Int32) v13 i3_72 v12 σ)
noncomputable def f_X9_behindEnds_J71_2 (a0_71 : Nat) (i2_71 : Int32) (i3_71 : Int32) (σ : ZT) : Option ((Int32 × ZT) ⊕ (Int32 × ZT)) :=
  f_X9_behindEnds_J72_2 a0_71 i2_71 i3_71 (0 : Int32) σ
noncomputable def f_X9_behindEnds_L2 (c0_2 : Nat) (i_1 : Int32) (σ : ZT) : Option ((Int32 × ZT) ⊕ (Int32 × ZT)) :=
  (gR 9 900 c0_2 σ).bind fun v2 =>
  (ldI 0 v2 (4 : Int32) σ).bind fun v3 =>
  if i_1 < v3 then
  ((gR 9 900 c0_2 σ).bind fun v4 =>
  (ldI 0 v4 ((120 : Int32) + ((5 : Int32) * i_1)) σ).bind fun v5 =>
  if v5 = (28 : Int32) then
  ((gR 9 900 c0_2 σ).bind fun v6 =>
  (ldI 0 v6 (((120 : Int32) + ((5 : Int32) * i_1)) + (4 : Int32)) σ).bind fun v7 =>
  (gR 9 900 c0_2 σ).bind fun v8 =>
  (ldI 0 v8 ((120 : Int32) + ((5 : Int32) * v7)) σ).bind fun v9 =>
  if v9 = (27 : Int32) then
  ((gR 9 949 c0_2 σ).bind fun v10 =>
  (ldI 0 v10 v7 σ).bind fun v11 =>
  if 0 < v11 then
  (f_X9_behindEnds_J72_2 c0_2 i_1 v7 (1 : Int32) σ)
  else
  (f_X9_behindEnds_J71_2 c0_2 i_1 v7 σ))
  else
  (f_X9_behindEnds_J71_2 c0_2 i_1 v7 σ))
  else
  (some (.inr (i_1, σ))))
  else
  (some (.inr (i_1, σ)))
noncomputable def f_X9_behindEnds_J111 (i2_111 : Int32) (σ : ZT) : Option (Int32 × ZT) :=
  some (i2_111, σ)
noncomputable def f_X9_behindEnds (a0 : Nat) (i1 : Int32) (σ : ZT) : Option (Int32 × ZT) :=
  (loopC (fun s : (Int32 × ZT) => f_X9_behindEnds_L2 a0 s.1 s.2) (i1, σ)).bind fun x => (match x with
  | (x14, σ) => f_X9_behindEnds_J111 x14 σ)
set_option maxHeartbeats 4000000 in
theorem m_X9_behindEnds {l : Launch} {G : ZG} (a0 : Nat) (i1 : Int32) (σ : ZT) {out : (Int32 × ZT)} (hf : f_X9_behindEnds a0 i1 σ = some out) : ZM l G yX9_behindEnds cX9_behindEnds 5 (some .int) [] 1 [.ref a0, .int i1] σ (.returned (some (.int out.1))) out.2 := by
  refine ZM.of [(0, .ref a0), (1, .int i1)] rfl (Nat.le_of_ble_eq_true rfl) fun X (C : ZC G RX9 "behindEnds" cX9_behindEnds 5 (some .int) [] X 1) => ?_
  unfold f_X9_behindEnds at hf
  have j111_0 : ∀ (i2_111 : Int32) (σ : ZT), f_X9_behindEnds_J111 i2_111 σ = some out → ZW l G 5 X (ZQ G X (.returned (some (.int out.1))) out.2) σ 111 [(2, .int i2_111)] [] := by
    intro i2_111 σ hf
    unfold f_X9_behindEnds_J111 at hf
    refine z_iload_n (q := 112) (i := 2) C 0 dX9_behindEnds_111 rfl rfl rfl ?_
    exact z_ireturn C rfl dX9_behindEnds_112 (Option.some.inj hf)
  refine z_iload_n (q := 1) (i := 1) C 1 dX9_behindEnds_0 rfl rfl rfl ?_
  refine z_istore_n (q := 2) (i := 2) (lv' := [(2, .int i1), (0, .ref a0), (1, .int i1)]) C dX9_behindEnds_1 rfl (by decide) rfl rfl ?_
  refine z_lv [1, 0] rfl ?_
  obtain ⟨r1, hr1, hk1⟩ := Option.bind_eq_some_iff.mp hf
  refine loopC_ind (P := fun s => ZW l G 5 X (ZQ G X (.returned (some (.int out.1))) out.2) s.2 2 [(0, .ref a0), (2, .int s.1)] []) (fun s x1 hf hx1 => ?_) hr1
  obtain ⟨i_1, σ⟩ := s
  unfold f_X9_behindEnds_L2 at hf
  try dsimp only at hf
  try dsimp only
  have j107_1 : ∀ (w0_107 : Int32) (σ : ZT), f_X9_behindEnds_J107_2 a0 w0_107 σ = some x1 → ZW l G 5 X (ZQ G X (.returned (some (.int out.1))) out.2) σ 107 [(0, .ref a0)] [.int w0_107] := by
    intro w0_107 σ hf
    unfold f_X9_behindEnds_J107_2 at hf
    refine z_istore_n (q := 108) (i := 2) (lv' := [(2, .int w0_107), (0, .ref a0)]) C dX9_behindEnds_107 rfl (by decide) rfl rfl ?_
    refine z_goto (q := 2) C dX9_behindEnds_108 (by decide) ?_
    refine z_lv [1, 0] rfl ?_
    have hc1 := zl_c hf hx1
    exact hc1
  have j91_1 : ∀ (i2_91 : Int32) (i3_91 : Int32) (i4_91 : Int32) (w0_91 : Int32) (w1_91 : Int32) (w2_91 : Int32) (w3_91 : Nat) (σ : ZT), f_X9_behindEnds_J91_2 a0 i2_91 i3_91 i4_91 w0_91 w1_91 w2_91 w3_91 σ = some x1 → ZW l G 5 X (ZQ G X (.returned (some (.int out.1))) out.2) σ 91 [(0, .ref a0), (2, .int i2_91), (3, .int i3_91), (4, .int i4_91)] [.int w0_91, .int w1_91, .int w2_91, .ref w3_91] := by
    intro i2_91 i3_91 i4_91 w0_91 w1_91 w2_91 w3_91 σ hf
    unfold f_X9_behindEnds_J91_2 at hf
    refine z_isub (q := 92) C dX9_behindEnds_91 rfl ?_
    refine z_iast (q := 93) C dX9_behindEnds_92 hf rfl fun σ hf => ?_
    refine z_iload (q := 95) (i := 4) C 3 dX9_behindEnds_93 rfl rfl ?_
    refine z_ifeq (q := 98) (tgt := 104) C dX9_behindEnds_95 (by decide) rfl hf (fun c95 hf => ?_) (fun c95 hf => ?_)
    · refine z_iload_n (q := 105) (i := 2) C 1 dX9_behindEnds_104 rfl rfl rfl ?_
      refine z_iconst (q := 106) C (1 : Int32) dX9_behindEnds_105 ki_1 rfl ?_
      refine z_iadd (q := 107) C dX9_behindEnds_106 rfl ?_
      refine z_lv [0] rfl ?_
      exact j107_1 (i2_91 + (1 : Int32)) σ hf
    · refine z_iload_n (q := 99) (i := 3) C 2 dX9_behindEnds_98 rfl rfl rfl ?_
      refine z_iconst (q := 100) C (1 : Int32) dX9_behindEnds_99 ki_1 rfl ?_
      refine z_iadd (q := 101) C dX9_behindEnds_100 rfl ?_
      refine z_goto (q := 107) C dX9_behindEnds_101 (by decide) ?_
      refine z_lv [0] rfl ?_
      exact j107_1 (i3_91 + (1 : Int32)) σ hf
  have j72_1 : ∀ (i2_72 : Int32) (i3_72 : Int32) (w0_72 : Int32) (σ : ZT), f_X9_behindEnds_J72_2 a0 i2_72 i3_72 w0_72 σ = some x1 → ZW l G 5 X (ZQ G X (.returned (some (.int out.1))) out.2) σ 72 [(0, .ref a0), (2, .int i2_72), (3, .int i3_72)] [.int w0_72] := by
    intro i2_72 i3_72 w0_72 σ hf
    unfold f_X9_behindEnds_J72_2 at hf
    refine z_istore (q := 74) (i := 4) (lv' := [(4, .int w0_72), (0, .ref a0), (2, .int i2_72), (3, .int i3_72)]) C dX9_behindEnds_72 (by decide) rfl rfl ?_
    refine z_aload_n (q := 75) (i := 0) C 1 dX9_behindEnds_74 rfl rfl rfl ?_
    refine z_getR (q := 78) C flX9_85 dX9_behindEnds_75 hf rfl fun v12 hf => ?_
    refine z_iload_n (q := 79) (i := 3) C 3 dX9_behindEnds_78 rfl rfl rfl ?_
    refine z_dup2 (q := 80) C dX9_behindEnds_79 rfl rfl rfl ?_
    refine z_iald (q := 81) C dX9_behindEnds_80 hf rfl fun v13 hf => ?_
    refine z_iload (q := 83) (i := 4) C 0 dX9_behindEnds_81 rfl rfl ?_
    refine z_ifeq (q := 86) (tgt := 90) C dX9_behindEnds_83 (by decide) rfl hf (fun c83 hf => ?_) (fun c83 hf => ?_)
    · refine z_iconst (q := 91) C (0 : Int32) dX9_behindEnds_90 ki_0 rfl ?_
      refine z_lv [1, 2, 3, 0] rfl ?_
      exact j91_1 i2_72 i3_72 w0_72 (0 : Int32) v13 i3_72 v12 σ hf
    · refine z_iconst (q := 87) C (1 : Int32) dX9_behindEnds_86 ki_1 rfl ?_
      refine z_goto (q := 91) C dX9_behindEnds_87 (by decide) ?_
      refine z_lv [1, 2, 3, 0] rfl ?_
      exact j91_1 i2_72 i3_72 w0_72 (1 : Int32) v13 i3_72 v12 σ hf
  have j71_1 : ∀ (i2_71 : Int32) (i3_71 : Int32) (σ : ZT), f_X9_behindEnds_J71_2 a0 i2_71 i3_71 σ = some x1 → ZW l G 5 X (ZQ G X (.returned (some (.int out.1))) out.2) σ 71 [(0, .ref a0), (2, .int i2_71), (3, .int i3_71)] [] := by
    intro i2_71 i3_71 σ hf
    unfold f_X9_behindEnds_J71_2 at hf
    refine z_iconst (q := 72) C (0 : Int32) dX9_behindEnds_71 ki_0 rfl ?_
    exact j72_1 i2_71 i3_71 (0 : Int32) σ hf
  refine z_iload_n (q := 3) (i := 2) C 1 dX9_behindEnds_2 rfl rfl rfl ?_
  refine z_aload_n (q := 4) (i := 0) C 0 dX9_behindEnds_3 rfl rfl rfl ?_
  refine z_getR (q := 7) C flX9_7 dX9_behindEnds_4 hf rfl fun v2 hf => ?_
  refine z_iconst (q := 8) C (4 : Int32) dX9_behindEnds_7 ki_4 rfl ?_
  refine z_iald (q := 9) C dX9_behindEnds_8 hf rfl fun v3 hf => ?_
  refine z_icmpge (q := 12) (tgt := 111) C dX9_behindEnds_9 (by decide) rfl hf (fun c9 hf => ?_) (fun c9 hf => ?_)
  · have e1 := zl_x hf hx1
    have hf := hk1
    rw [← e1] at hf
    try dsimp only at hf
    refine z_lv [1] rfl ?_
    exact j111_0 i_1 σ hf
  · refine z_aload_n (q := 13) (i := 0) C 0 dX9_behindEnds_12 rfl rfl rfl ?_
    refine z_getR (q := 16) C flX9_7 dX9_behindEnds_13 hf rfl fun v4 hf => ?_
    refine z_bipush (q := 18) C (120 : Int32) dX9_behindEnds_16 kb_120 rfl ?_
    refine z_iconst (q := 19) C (5 : Int32) dX9_behindEnds_18 ki_5 rfl ?_
    refine z_iload_n (q := 20) (i := 2) C 1 dX9_behindEnds_19 rfl rfl rfl ?_
    refine z_imul (q := 21) C dX9_behindEnds_20 rfl ?_
    refine z_iadd (q := 22) C dX9_behindEnds_21 rfl ?_
    refine z_iald (q := 23) C dX9_behindEnds_22 hf rfl fun v5 hf => ?_
    refine z_bipush (q := 25) C (28 : Int32) dX9_behindEnds_23 kb_28 rfl ?_
    refine z_icmpne (q := 28) (tgt := 111) C dX9_behindEnds_25 (by decide) rfl hf (fun c25 hf => ?_) (fun c25 hf => ?_)
    · have e1 := zl_x hf hx1
      have hf := hk1
      rw [← e1] at hf
      try dsimp only at hf
      refine z_lv [1] rfl ?_
      exact j111_0 i_1 σ hf
    · refine z_aload_n (q := 29) (i := 0) C 0 dX9_behindEnds_28 rfl rfl rfl ?_
      refine z_getR (q := 32) C flX9_7 dX9_behindEnds_29 hf rfl fun v6 hf => ?_
      refine z_bipush (q := 34) C (120 : Int32) dX9_behindEnds_32 kb_120 rfl ?_
      refine z_iconst (q := 35) C (5 : Int32) dX9_behindEnds_34 ki_5 rfl ?_
      refine z_iload_n (q := 36) (i := 2) C 1 dX9_behindEnds_35 rfl rfl rfl ?_
      refine z_imul (q := 37) C dX9_behindEnds_36 rfl ?_
      refine z_iadd (q := 38) C dX9_behindEnds_37 rfl ?_
      refine z_iconst (q := 39) C (4 : Int32) dX9_behindEnds_38 ki_4 rfl ?_
      refine z_iadd (q := 40) C dX9_behindEnds_39 rfl ?_
      refine z_iald (q := 41) C dX9_behindEnds_40 hf rfl fun v7 hf => ?_
      refine z_istore_n (q := 42) (i := 3) (lv' := [(3, .int v7), (0, .ref a0), (2, .int i_1)]) C dX9_behindEnds_41 rfl (by decide) rfl rfl ?_
      refine z_aload_n (q := 43) (i := 0) C 1 dX9_behindEnds_42 rfl rfl rfl ?_
      refine z_getR (q := 46) C flX9_7 dX9_behindEnds_43 hf rfl fun v8 hf => ?_
      refine z_bipush (q := 48) C (120 : Int32) dX9_behindEnds_46 kb_120 rfl ?_
      refine z_iconst (q := 49) C (5 : Int32) dX9_behindEnds_48 ki_5 rfl ?_
      refine z_iload_n (q := 50) (i := 3) C 0 dX9_behindEnds_49 rfl rfl rfl ?_
      refine z_imul (q := 51) C dX9_behindEnds_50 rfl ?_
      refine z_iadd (q := 52) C dX9_behindEnds_51 rfl ?_
      refine z_iald (q := 53) C dX9_behindEnds_52 hf rfl fun v9 hf => ?_
      refine z_bipush (q := 55) C (27 : Int32) dX9_behindEnds_53 kb_27 rfl ?_
      refine z_icmpne (q := 58) (tgt := 71) C dX9_behindEnds_55 (by decide) rfl hf (fun c55 hf => ?_) (fun c55 hf => ?_)
      · refine z_lv [1, 2, 0] rfl ?_
        exact j71_1 i_1 v7 σ hf
      · refine z_aload_n (q := 59) (i := 0) C 1 dX9_behindEnds_58 rfl rfl rfl ?_
        refine z_getR (q := 62) C flX9_85 dX9_behindEnds_59 hf rfl fun v10 hf => ?_
        refine z_iload_n (q := 63) (i := 3) C 0 dX9_behindEnds_62 rfl rfl rfl ?_
        refine z_iald (q := 64) C dX9_behindEnds_63 hf rfl fun v11 hf => ?_
        refine z_ifle (q := 67) (tgt := 71) C dX9_behindEnds_64 (by decide) rfl hf (fun c64 hf => ?_) (fun c64 hf => ?_)
        · refine z_lv [1, 2, 0] rfl ?_
          exact j71_1 i_1 v7 σ hf
        · refine z_iconst (q := 68) C (1 : Int32) dX9_behindEnds_67 ki_1 rfl ?_
          refine z_goto (q := 72) C dX9_behindEnds_68 (by decide) ?_
          refine z_lv [1, 2, 0] rfl ?_
          exact j72_1 i_1 v7 (1 : Int32) σ hf

noncomputable def f_X9_runs_J223_55 (a0_223 : Nat) (w0_223 : Int32) (w1_223 : Nat) (σ : ZT) : Option ((Int32 × ZT) ⊕ (ZT ⊕ ZT)) :=
  bnd2 (vc 9 w1_223 σ (f_X9_behindEnds w1_223 w0_223 σ)) fun v20 σ =>
  some (.inl (v20, σ))
noncomputable def f_X9_runs_J220_55 (a0_220 : Nat) (i2_220 : Int32) (w0_220 : Nat) (σ : ZT) : Option ((Int32 × ZT) ⊕ (ZT ⊕ ZT)) :=
  f_X9_runs_J223_55 a0_220 (i2_220 + (1 : Int32)) w0_220 σ
noncomputable def f_X9_runs_J190_55 (a0_190 : Nat) (i2_190 : Int32) (i3_190 : Int32) (i4_190 : Int32) (σ : ZT) : Option ((Int32 × ZT) ⊕ (ZT ⊕ ZT)) :=
  if i4_190 < (2400 : Int32) then
  (f_X9_runs_J220_55 a0_190 i2_190 a0_190 σ)
  else
  (bnd2 (vc 9 a0_190 σ (f_X9_holdsNow a0_190 i3_190 σ)) fun v17 σ =>
  if v17 = 0 then
  ((gR 9 900 a0_190 σ).bind fun v18 =>
  (ldI 0 v18 (i3_190 + (4 : Int32)) σ).bind fun v19 =>
  f_X9_runs_J223_55 a0_190 (v19 + (1 : Int32)) a0_190 σ)
  else
  (f_X9_runs_J220_55 a0_190 i2_190 a0_190 σ))
noncomputable def f_X9_runs_J167_55 (a0_167 : Nat) (i2_167 : Int32) (i3_167 : Int32) (i4_167 : Int32) (σ : ZT) : Option ((Int32 × ZT) ⊕ (ZT ⊕ ZT)) :=
  if i4_167 = (27 : Int32) then
  ((gR 9 949 a0_167 σ).bind fun v12 =>
  (gR 9 900 a0_167 σ).bind fun v13 =>
  (ldI 0 v13 (i3_167 + (1 : Int32)) σ).bind fun v14 =>
  (stI v12 i2_167 (v14 - (1 : Int32)) σ).bind fun σ =>
  f_X9_runs_J190_55 a0_167 i2_167 i3_167 i4_167 σ)
  else
  (f_X9_runs_J190_55 a0_167 i2_167 i3_167 i4_167 σ)
noncomputable def f_X9_runs_J146_55 (a0_146 : Nat) (i2_146 : Int32) (i3_146 : Int32) (i4_146 : Int32) (i5_146 : Int32) (w0_146 : Int32) (w1_146 : Int32) (w2_146 : Nat) (σ : ZT) : Option ((Int32 × ZT) ⊕ (ZT ⊕ ZT)) :=
  (pI 9 944 w2_146 (w1_146 + w0_146) σ).bind fun σ =>
  (gI 9 943 a0_146 σ).bind fun v15 =>
  if i5_146 < v15 then
  (bnd2 (vc 9 a0_146 σ (f_X9_isDone a0_146 σ)) fun v16 σ =>
  if v16 = 0 then
  (f_X9_runs_J167_55 a0_146 i2_146 i3_146 i4_146 σ)
  else
  (some (.inr (.inl σ))))
  else
  (f_X9_runs_J167_55 a0_146 i2_146 i3_146 i4_146 σ)
noncomputable def f_X9_runs_L55 (c0_55 : Nat) (i_2 : Int32) (σ : ZT) : Option ((Int32 × ZT) ⊕ (ZT ⊕ ZT)) :=
  (gR 9 900 c0_55 σ).bind fun v3 =>
  (ldI 0 v3 (4 : Int32) σ).bind fun v4 =>
  if i_2 < v4 then
  ((gI 9 942 c0_55 σ).bind fun v5 =>
  if v5 < (400 : Int32) then
  ((gR 9 900 c0_55 σ).bind fun v6 =>
  (ldI 0 v6 ((120 : Int32) + ((5 : Int32) * i_2)) σ).bind fun v7 =>
  (gI 9 942 c0_55 σ).bind fun v8 =>
  (pI 9 942 c0_55 (v8 + (1 : Int32)) σ).bind fun σ =>
  if v7 = (29 : Int32) then
  (some (.inr (.inl σ)))
  else
  (if v7 < (19 : Int32) then
  (f_X9_runs_J167_55 c0_55 i_2 ((120 : Int32) + ((5 : Int32) * i_2)) v7 σ)
  else
  (if (23 : Int32) < v7 then
  (f_X9_runs_J167_55 c0_55 i_2 ((120 : Int32) + ((5 : Int32) * i_2)) v7 σ)
  else
  ((gI 9 943 c0_55 σ).bind fun v9 =>
  (gI 9 944 c0_55 σ).bind fun v10 =>
  bnd2 (vc 9 c0_55 σ (f_X9_ordersMove c0_55 ((120 : Int32) + ((5 : Int32) * i_2)) σ)) fun v11 σ =>
  if v11 = 0 then
  (f_X9_runs_J146_55 c0_55 i_2 ((120 : Int32) + ((5 : Int32) * i_2)) v7 v9 (1 : Int32) v10 c0_55 σ)
  else
  (f_X9_runs_J146_55 c0_55 i_2 ((120 : Int32) + ((5 : Int32) * i_2)) v7 v9 (0 : Int32) v10 c0_55 σ)))))
  else
  (some (.inr (.inr σ))))
  else
  (some (.inr (.inr σ)))
noncomputable def f_X9_runs_J230  (σ : ZT) : Option ZT :=
  some σ
noncomputable def f_X9_runs_J15 (a0_15 : Nat) (i1_15 : Int32) (w0_15 : Int32) (w1_15 : Nat) (σ : ZT) : Option ZT :=
  (pZ 9 948 w1_15 w0_15 σ).bind fun σ =>
  (pI 9 941 a0_15 i1_15 σ).bind fun σ =>
  (pI 9 942 a0_15 (0 : Int32) σ).bind fun σ =>
  (pI 9 943 a0_15 (0 : Int32) σ).bind fun σ =>
  (pI 9 944 a0_15 (0 : Int32) σ).bind fun σ =>
  (pI 9 945 a0_15 (0 : Int32) σ).bind fun σ =>
  (pI 9 946 a0_15 (0 : Int32) σ).bind fun σ =>
  (pI 9 947 a0_15 (0 : Int32) σ).bind fun σ =>
  (loopC (fun s : (Int32 × ZT) => f_X9_runs_L55 a0_15 s.1 s.2) ((0 : Int32), σ)).bind fun x => (match x with
  | .inl o => some o
  | .inr σ => f_X9_runs_J230  σ)
noncomputable def f_X9_runs (a0 : Nat) (i1 : Int32) (σ : ZT) : Option ZT :=
  (vc 9 a0 σ (f_X9_takesNow a0 σ)).bind fun σ =>
  if i1 = (-1 : Int32) then
  (f_X9_runs_J15 a0 i1 (0 : Int32) a0 σ)
  else
  (f_X9_runs_J15 a0 i1 (1 : Int32) a0 σ)
set_option maxHeartbeats 4000000 in
theorem m_X9_runs {l : Launch} {G : ZG} (a0 : Nat) (i1 : Int32) (σ : ZT) {out : ZT} (hf : f_X9_runs a0 i1 σ = some out) : ZM l G yX9_runs cX9_runs 6 none [] 8 [.ref a0, .int i1] σ (.returned none) out := by
  refine ZM.of [(0, .ref a0), (1, .int i1)] rfl (Nat.le_of_ble_eq_true rfl) fun X (C : ZC G RX9 "runs" cX9_runs 6 none [] X 8) => ?_
  unfold f_X9_runs at hf
  have j230_0 : ∀  (σ : ZT), f_X9_runs_J230  σ = some out → ZW l G 6 X (ZQ G X (.returned none) out) σ 230 [] [] := by
    intro  σ hf
    unfold f_X9_runs_J230 at hf
    exact z_return C rfl dX9_runs_230 (Option.some.inj hf)
  have j15_0 : ∀ (a0_15 : Nat) (i1_15 : Int32) (w0_15 : Int32) (w1_15 : Nat) (σ : ZT), f_X9_runs_J15 a0_15 i1_15 w0_15 w1_15 σ = some out → ZW l G 6 X (ZQ G X (.returned none) out) σ 15 [(0, .ref a0_15), (1, .int i1_15)] [.int w0_15, .ref w1_15] := by
    intro a0_15 i1_15 w0_15 w1_15 σ hf
    unfold f_X9_runs_J15 at hf
    refine z_putZ (q := 18) C puX9_426 dX9_runs_15 hf rfl fun σ hf => ?_
    refine z_aload_n (q := 19) (i := 0) C 0 dX9_runs_18 rfl rfl rfl ?_
    refine z_iload_n (q := 20) (i := 1) C 1 dX9_runs_19 rfl rfl rfl ?_
    refine z_putI (q := 23) C puX9_430 dX9_runs_20 hf rfl fun σ hf => ?_
    refine z_aload_n (q := 24) (i := 0) C 0 dX9_runs_23 rfl rfl rfl ?_
    refine z_iconst (q := 25) C (0 : Int32) dX9_runs_24 ki_0 rfl ?_
    refine z_putI (q := 28) C puX9_452 dX9_runs_25 hf rfl fun σ hf => ?_
    refine z_aload_n (q := 29) (i := 0) C 0 dX9_runs_28 rfl rfl rfl ?_
    refine z_iconst (q := 30) C (0 : Int32) dX9_runs_29 ki_0 rfl ?_
    refine z_putI (q := 33) C puX9_446 dX9_runs_30 hf rfl fun σ hf => ?_
    refine z_aload_n (q := 34) (i := 0) C 0 dX9_runs_33 rfl rfl rfl ?_
    refine z_iconst (q := 35) C (0 : Int32) dX9_runs_34 ki_0 rfl ?_
    refine z_putI (q := 38) C puX9_455 dX9_runs_35 hf rfl fun σ hf => ?_
    refine z_aload_n (q := 39) (i := 0) C 0 dX9_runs_38 rfl rfl rfl ?_
    refine z_iconst (q := 40) C (0 : Int32) dX9_runs_39 ki_0 rfl ?_
    refine z_putI (q := 43) C puX9_443 dX9_runs_40 hf rfl fun σ hf => ?_
    refine z_aload_n (q := 44) (i := 0) C 0 dX9_runs_43 rfl rfl rfl ?_
    refine z_iconst (q := 45) C (0 : Int32) dX9_runs_44 ki_0 rfl ?_
    refine z_putI (q := 48) C puX9_434 dX9_runs_45 hf rfl fun σ hf => ?_
    refine z_aload_n (q := 49) (i := 0) C 0 dX9_runs_48 rfl rfl rfl ?_
    refine z_iconst (q := 50) C (0 : Int32) dX9_runs_49 ki_0 rfl ?_
    refine z_putI (q := 53) C puX9_437 dX9_runs_50 hf rfl fun σ hf => ?_
    refine z_iconst (q := 54) C (0 : Int32) dX9_runs_53 ki_0 rfl ?_
    refine z_istore_n (q := 55) (i := 2) (lv' := [(2, .int (0 : Int32)), (0, .ref a0_15), (1, .int i1_15)]) C dX9_runs_54 rfl (by decide) rfl rfl ?_
    refine z_lv [1, 0] rfl ?_
    obtain ⟨r1, hr1, hk1⟩ := Option.bind_eq_some_iff.mp hf
    refine loopC_ind (P := fun s => ZW l G 6 X (ZQ G X (.returned none) out) s.2 55 [(0, .ref a0_15), (2, .int s.1)] []) (fun s x1 hf hx1 => ?_) hr1
    obtain ⟨i_2, σ⟩ := s
    unfold f_X9_runs_L55 at hf
    try dsimp only at hf
    try dsimp only
    have j223_1 : ∀ (w0_223 : Int32) (w1_223 : Nat) (σ : ZT), f_X9_runs_J223_55 a0_15 w0_223 w1_223 σ = some x1 → ZW l G 6 X (ZQ G X (.returned none) out) σ 223 [(0, .ref a0_15)] [.int w0_223, .ref w1_223] := by
      intro w0_223 w1_223 σ hf
      unfold f_X9_runs_J223_55 at hf
      refine z_callVi (q := 226) (As := [.int w0_223]) C (fun o ho => m_X9_behindEnds _ _ _ ho) zk9 vvX9_464 cdX9_behindEnds pnX9 dX9_runs_223 rfl (by decide) (Nat.le_of_ble_eq_true rfl) hf rfl fun v20 σ hf => ?_
      refine z_istore_n (q := 227) (i := 2) (lv' := [(2, .int v20), (0, .ref a0_15)]) C dX9_runs_226 rfl (by decide) rfl rfl ?_
      refine z_goto (q := 55) C dX9_runs_227 (by decide) ?_
      refine z_lv [1, 0] rfl ?_
      have hc1 := zl_c hf hx1
      exact hc1
    have j220_1 : ∀ (i2_220 : Int32) (w0_220 : Nat) (σ : ZT), f_X9_runs_J220_55 a0_15 i2_220 w0_220 σ = some x1 → ZW l G 6 X (ZQ G X (.returned none) out) σ 220 [(0, .ref a0_15), (2, .int i2_220)] [.ref w0_220] := by
      intro i2_220 w0_220 σ hf
      unfold f_X9_runs_J220_55 at hf
      refine z_iload_n (q := 221) (i := 2) C 1 dX9_runs_220 rfl rfl rfl ?_
      refine z_iconst (q := 222) C (1 : Int32) dX9_runs_221 ki_1 rfl ?_
      refine z_iadd (q := 223) C dX9_runs_222 rfl ?_
      refine z_lv [0] rfl ?_
      exact j223_1 (i2_220 + (1 : Int32)) w0_220 σ hf
    have j190_1 : ∀ (i2_190 : Int32) (i3_190 : Int32) (i4_190 : Int32) (σ : ZT), f_X9_runs_J190_55 a0_15 i2_190 i3_190 i4_190 σ = some x1 → ZW l G 6 X (ZQ G X (.returned none) out) σ 190 [(0, .ref a0_15), (2, .int i2_190), (3, .int i3_190), (4, .int i4_190)] [] := by
      intro i2_190 i3_190 i4_190 σ hf
      unfold f_X9_runs_J190_55 at hf
      refine z_aload_n (q := 191) (i := 0) C 0 dX9_runs_190 rfl rfl rfl ?_
      refine z_iload (q := 193) (i := 4) C 3 dX9_runs_191 rfl rfl ?_
      refine z_sipush (q := 196) C (2400 : Int32) dX9_runs_193 ks_2400 rfl ?_
      refine z_icmplt (q := 199) (tgt := 220) C dX9_runs_196 (by decide) rfl hf (fun c196 hf => ?_) (fun c196 hf => ?_)
      · refine z_lv [0, 1] rfl ?_
        exact j220_1 i2_190 a0_15 σ hf
      · refine z_aload_n (q := 200) (i := 0) C 0 dX9_runs_199 rfl rfl rfl ?_
        refine z_iload_n (q := 201) (i := 3) C 2 dX9_runs_200 rfl rfl rfl ?_
        refine z_callVi (q := 204) (As := [.int i3_190]) C (fun o ho => m_X9_holdsNow _ _ _ ho) zk9 vvX9_461 cdX9_holdsNow pnX9 dX9_runs_201 rfl (by decide) (Nat.le_of_ble_eq_true rfl) hf rfl fun v17 σ hf => ?_
        refine z_ifne (q := 207) (tgt := 220) C dX9_runs_204 (by decide) rfl hf (fun c204 hf => ?_) (fun c204 hf => ?_)
        · refine z_lv [0, 1] rfl ?_
          exact j220_1 i2_190 a0_15 σ hf
        · refine z_aload_n (q := 208) (i := 0) C 0 dX9_runs_207 rfl rfl rfl ?_
          refine z_getR (q := 211) C flX9_7 dX9_runs_208 hf rfl fun v18 hf => ?_
          refine z_iload_n (q := 212) (i := 3) C 2 dX9_runs_211 rfl rfl rfl ?_
          refine z_iconst (q := 213) C (4 : Int32) dX9_runs_212 ki_4 rfl ?_
          refine z_iadd (q := 214) C dX9_runs_213 rfl ?_
          refine z_iald (q := 215) C dX9_runs_214 hf rfl fun v19 hf => ?_
          refine z_iconst (q := 216) C (1 : Int32) dX9_runs_215 ki_1 rfl ?_
          refine z_iadd (q := 217) C dX9_runs_216 rfl ?_
          refine z_goto (q := 223) C dX9_runs_217 (by decide) ?_
          refine z_lv [0] rfl ?_
          exact j223_1 (v19 + (1 : Int32)) a0_15 σ hf
    have j167_1 : ∀ (i2_167 : Int32) (i3_167 : Int32) (i4_167 : Int32) (σ : ZT), f_X9_runs_J167_55 a0_15 i2_167 i3_167 i4_167 σ = some x1 → ZW l G 6 X (ZQ G X (.returned none) out) σ 167 [(0, .ref a0_15), (2, .int i2_167), (3, .int i3_167), (4, .int i4_167)] [] := by
      intro i2_167 i3_167 i4_167 σ hf
      unfold f_X9_runs_J167_55 at hf
      refine z_iload (q := 169) (i := 4) C 3 dX9_runs_167 rfl rfl ?_
      refine z_bipush (q := 171) C (27 : Int32) dX9_runs_169 kb_27 rfl ?_
      refine z_icmpne (q := 174) (tgt := 190) C dX9_runs_171 (by decide) rfl hf (fun c171 hf => ?_) (fun c171 hf => ?_)
      · exact j190_1 i2_167 i3_167 i4_167 σ hf
      · refine z_aload_n (q := 175) (i := 0) C 0 dX9_runs_174 rfl rfl rfl ?_
        refine z_getR (q := 178) C flX9_85 dX9_runs_175 hf rfl fun v12 hf => ?_
        refine z_iload_n (q := 179) (i := 2) C 1 dX9_runs_178 rfl rfl rfl ?_
        refine z_aload_n (q := 180) (i := 0) C 0 dX9_runs_179 rfl rfl rfl ?_
        refine z_getR (q := 183) C flX9_7 dX9_runs_180 hf rfl fun v13 hf => ?_
        refine z_iload_n (q := 184) (i := 3) C 2 dX9_runs_183 rfl rfl rfl ?_
        refine z_iconst (q := 185) C (1 : Int32) dX9_runs_184 ki_1 rfl ?_
        refine z_iadd (q := 186) C dX9_runs_185 rfl ?_
        refine z_iald (q := 187) C dX9_runs_186 hf rfl fun v14 hf => ?_
        refine z_iconst (q := 188) C (1 : Int32) dX9_runs_187 ki_1 rfl ?_
        refine z_isub (q := 189) C dX9_runs_188 rfl ?_
        refine z_iast (q := 190) C dX9_runs_189 hf rfl fun σ hf => ?_
        exact j190_1 i2_167 i3_167 i4_167 σ hf
    have j146_1 : ∀ (i2_146 : Int32) (i3_146 : Int32) (i4_146 : Int32) (i5_146 : Int32) (w0_146 : Int32) (w1_146 : Int32) (w2_146 : Nat) (σ : ZT), f_X9_runs_J146_55 a0_15 i2_146 i3_146 i4_146 i5_146 w0_146 w1_146 w2_146 σ = some x1 → ZW l G 6 X (ZQ G X (.returned none) out) σ 146 [(0, .ref a0_15), (2, .int i2_146), (3, .int i3_146), (4, .int i4_146), (5, .int i5_146)] [.int w0_146, .int w1_146, .ref w2_146] := by
      intro i2_146 i3_146 i4_146 i5_146 w0_146 w1_146 w2_146 σ hf
      unfold f_X9_runs_J146_55 at hf
      refine z_iadd (q := 147) C dX9_runs_146 rfl ?_
      refine z_putI (q := 150) C puX9_455 dX9_runs_147 hf rfl fun σ hf => ?_
      refine z_aload_n (q := 151) (i := 0) C 0 dX9_runs_150 rfl rfl rfl ?_
      refine z_getI (q := 154) C flX9_446 dX9_runs_151 hf rfl fun v15 hf => ?_
      refine z_iload (q := 156) (i := 5) C 4 dX9_runs_154 rfl rfl ?_
      refine z_icmple (q := 159) (tgt := 167) C dX9_runs_156 (by decide) rfl hf (fun c156 hf => ?_) (fun c156 hf => ?_)
      · refine z_lv [0, 1, 2, 3] rfl ?_
        exact j167_1 i2_146 i3_146 i4_146 σ hf
      · refine z_aload_n (q := 160) (i := 0) C 0 dX9_runs_159 rfl rfl rfl ?_
        refine z_callVi (q := 163) (As := []) C (fun o ho => m_X9_isDone _ _ ho) zk9 vvX9_288 cdX9_isDone pnX9 dX9_runs_160 rfl (by decide) (Nat.le_of_ble_eq_true rfl) hf rfl fun v16 σ hf => ?_
        refine z_ifeq (q := 166) (tgt := 167) C dX9_runs_163 (by decide) rfl hf (fun c163 hf => ?_) (fun c163 hf => ?_)
        · refine z_lv [0, 1, 2, 3] rfl ?_
          exact j167_1 i2_146 i3_146 i4_146 σ hf
        · have e1 := zl_x hf hx1
          have hf := hk1
          rw [← e1] at hf
          try dsimp only at hf
          exact z_return C rfl dX9_runs_166 (Option.some.inj hf)
    refine z_iload_n (q := 56) (i := 2) C 1 dX9_runs_55 rfl rfl rfl ?_
    refine z_aload_n (q := 57) (i := 0) C 0 dX9_runs_56 rfl rfl rfl ?_
    refine z_getR (q := 60) C flX9_7 dX9_runs_57 hf rfl fun v3 hf => ?_
    refine z_iconst (q := 61) C (4 : Int32) dX9_runs_60 ki_4 rfl ?_
    refine z_iald (q := 62) C dX9_runs_61 hf rfl fun v4 hf => ?_
    refine z_icmpge (q := 65) (tgt := 230) C dX9_runs_62 (by decide) rfl hf (fun c62 hf => ?_) (fun c62 hf => ?_)
    · have e1 := zl_x hf hx1
      have hf := hk1
      rw [← e1] at hf
      try dsimp only at hf
      refine z_lv [] rfl ?_
      exact j230_0  σ hf
    · refine z_aload_n (q := 66) (i := 0) C 0 dX9_runs_65 rfl rfl rfl ?_
      refine z_getI (q := 69) C flX9_452 dX9_runs_66 hf rfl fun v5 hf => ?_
      refine z_sipush (q := 72) C (400 : Int32) dX9_runs_69 ks_400 rfl ?_
      refine z_icmpge (q := 75) (tgt := 230) C dX9_runs_72 (by decide) rfl hf (fun c72 hf => ?_) (fun c72 hf => ?_)
      · have e1 := zl_x hf hx1
        have hf := hk1
        rw [← e1] at hf
        try dsimp only at hf
        refine z_lv [] rfl ?_
        exact j230_0  σ hf
      · refine z_bipush (q := 77) C (120 : Int32) dX9_runs_75 kb_120 rfl ?_
        refine z_iconst (q := 78) C (5 : Int32) dX9_runs_77 ki_5 rfl ?_
        refine z_iload_n (q := 79) (i := 2) C 1 dX9_runs_78 rfl rfl rfl ?_
        refine z_imul (q := 80) C dX9_runs_79 rfl ?_
        refine z_iadd (q := 81) C dX9_runs_80 rfl ?_
        refine z_istore_n (q := 82) (i := 3) (lv' := [(3, .int ((120 : Int32) + ((5 : Int32) * i_2))), (0, .ref a0_15), (2, .int i_2)]) C dX9_runs_81 rfl (by decide) rfl rfl ?_
        refine z_aload_n (q := 83) (i := 0) C 1 dX9_runs_82 rfl rfl rfl ?_
        refine z_getR (q := 86) C flX9_7 dX9_runs_83 hf rfl fun v6 hf => ?_
        refine z_iload_n (q := 87) (i := 3) C 0 dX9_runs_86 rfl rfl rfl ?_
        refine z_iald (q := 88) C dX9_runs_87 hf rfl fun v7 hf => ?_
        refine z_istore (q := 90) (i := 4) (lv' := [(4, .int v7), (3, .int ((120 : Int32) + ((5 : Int32) * i_2))), (0, .ref a0_15), (2, .int i_2)]) C dX9_runs_88 (by decide) rfl rfl ?_
        refine z_aload_n (q := 91) (i := 0) C 2 dX9_runs_90 rfl rfl rfl ?_
        refine z_dup (q := 92) C dX9_runs_91 rfl rfl ?_
        refine z_getI (q := 95) C flX9_452 dX9_runs_92 hf rfl fun v8 hf => ?_
        refine z_iconst (q := 96) C (1 : Int32) dX9_runs_95 ki_1 rfl ?_
        refine z_iadd (q := 97) C dX9_runs_96 rfl ?_
        refine z_putI (q := 100) C puX9_452 dX9_runs_97 hf rfl fun σ hf => ?_
        refine z_iload (q := 102) (i := 4) C 0 dX9_runs_100 rfl rfl ?_
        refine z_bipush (q := 104) C (29 : Int32) dX9_runs_102 kb_29 rfl ?_
        refine z_icmpne (q := 107) (tgt := 108) C dX9_runs_104 (by decide) rfl hf (fun c104 hf => ?_) (fun c104 hf => ?_)
        · refine z_iload (q := 110) (i := 4) C 0 dX9_runs_108 rfl rfl ?_
          refine z_bipush (q := 112) C (19 : Int32) dX9_runs_110 kb_19 rfl ?_
          refine z_icmplt (q := 115) (tgt := 167) C dX9_runs_112 (by decide) rfl hf (fun c112 hf => ?_) (fun c112 hf => ?_)
          · refine z_lv [2, 3, 1, 0] rfl ?_
            exact j167_1 i_2 ((120 : Int32) + ((5 : Int32) * i_2)) v7 σ hf
          · refine z_iload (q := 117) (i := 4) C 0 dX9_runs_115 rfl rfl ?_
            refine z_bipush (q := 119) C (23 : Int32) dX9_runs_117 kb_23 rfl ?_
            refine z_icmpgt (q := 122) (tgt := 167) C dX9_runs_119 (by decide) rfl hf (fun c119 hf => ?_) (fun c119 hf => ?_)
            · refine z_lv [2, 3, 1, 0] rfl ?_
              exact j167_1 i_2 ((120 : Int32) + ((5 : Int32) * i_2)) v7 σ hf
            · refine z_aload_n (q := 123) (i := 0) C 2 dX9_runs_122 rfl rfl rfl ?_
              refine z_getI (q := 126) C flX9_446 dX9_runs_123 hf rfl fun v9 hf => ?_
              refine z_istore (q := 128) (i := 5) (lv' := [(5, .int v9), (4, .int v7), (3, .int ((120 : Int32) + ((5 : Int32) * i_2))), (0, .ref a0_15), (2, .int i_2)]) C dX9_runs_126 (by decide) rfl rfl ?_
              refine z_aload_n (q := 129) (i := 0) C 3 dX9_runs_128 rfl rfl rfl ?_
              refine z_dup (q := 130) C dX9_runs_129 rfl rfl ?_
              refine z_getI (q := 133) C flX9_455 dX9_runs_130 hf rfl fun v10 hf => ?_
              refine z_aload_n (q := 134) (i := 0) C 3 dX9_runs_133 rfl rfl rfl ?_
              refine z_iload_n (q := 135) (i := 3) C 2 dX9_runs_134 rfl rfl rfl ?_
              refine z_callVi (q := 138) (As := [.int ((120 : Int32) + ((5 : Int32) * i_2))]) C (fun o ho => m_X9_ordersMove _ _ _ ho) zk9 vvX9_458 cdX9_ordersMove pnX9 dX9_runs_135 rfl (by decide) (Nat.le_of_ble_eq_true rfl) hf rfl fun v11 σ hf => ?_
              refine z_ifeq (q := 141) (tgt := 145) C dX9_runs_138 (by decide) rfl hf (fun c138 hf => ?_) (fun c138 hf => ?_)
              · refine z_iconst (q := 146) C (1 : Int32) dX9_runs_145 ki_1 rfl ?_
                refine z_lv [3, 4, 2, 1, 0] rfl ?_
                exact j146_1 i_2 ((120 : Int32) + ((5 : Int32) * i_2)) v7 v9 (1 : Int32) v10 a0_15 σ hf
              · refine z_iconst (q := 142) C (0 : Int32) dX9_runs_141 ki_0 rfl ?_
                refine z_goto (q := 146) C dX9_runs_142 (by decide) ?_
                refine z_lv [3, 4, 2, 1, 0] rfl ?_
                exact j146_1 i_2 ((120 : Int32) + ((5 : Int32) * i_2)) v7 v9 (0 : Int32) v10 a0_15 σ hf
        · have e1 := zl_x hf hx1
          have hf := hk1
          rw [← e1] at hf
          try dsimp only at hf
          exact z_return C rfl dX9_runs_107 (Option.some.inj hf)
  refine z_aload_n (q := 1) (i := 0) C 0 dX9_runs_0 rfl rfl rfl ?_
  refine z_callVv (q := 4) (As := []) C (fun o ho => m_X9_takesNow _ _ ho) zk9 vvX9_285 cdX9_takesNow pnX9 dX9_runs_1 rfl (by decide) (Nat.le_of_ble_eq_true rfl) hf rfl fun σ hf => ?_
  refine z_aload_n (q := 5) (i := 0) C 0 dX9_runs_4 rfl rfl rfl ?_
  refine z_iload_n (q := 6) (i := 1) C 1 dX9_runs_5 rfl rfl rfl ?_
  refine z_iconst (q := 7) C (-1 : Int32) dX9_runs_6 ki_m1 rfl ?_
  refine z_icmpeq (q := 10) (tgt := 14) C dX9_runs_7 (by decide) rfl hf (fun c7 hf => ?_) (fun c7 hf => ?_)
  · refine z_iconst (q := 15) C (0 : Int32) dX9_runs_14 ki_0 rfl ?_
    exact j15_0 a0 i1 (0 : Int32) a0 σ hf
  · refine z_iconst (q := 11) C (1 : Int32) dX9_runs_10 ki_1 rfl ?_
    refine z_goto (q := 15) C dX9_runs_11 (by decide) ?_
    exact j15_0 a0 i1 (1 : Int32) a0 σ hf

noncomputable def f_X9_run_L115 (c0_115 : Nat) (i_19 : Int32) (σ : ZT) : Option ((Int32 × ZT) ⊕ ZT) :=
  if i_19 < (4 : Int32) then
  ((gR 9 951 c0_115 σ).bind fun v24 =>
  (gR 9 924 c0_115 σ).bind fun v25 =>
  (ldI 0 v25 i_19 σ).bind fun v26 =>
  (stI v24 i_19 v26 σ).bind fun σ =>
  some (.inl ((i_19 + (1 : Int32)), σ)))
  else
  (some (.inr σ))
noncomputable def f_X9_run_J112 (a0_112 : Nat) (w0_112 : Int32) (w1_112 : Int32) (w2_112 : Nat) (σ : ZT) : Option (Int32 × ZT) :=
  (stI w2_112 w1_112 w0_112 σ).bind fun σ =>
  (loopC (fun s : (Int32 × ZT) => f_X9_run_L115 a0_112 s.1 s.2) ((0 : Int32), σ)).bind fun σ =>
  (gR 9 900 a0_112 σ).bind fun v27 =>
  (ldI 0 v27 (2 : Int32) σ).bind fun v28 =>
  (pI 9 952 a0_112 v28 σ).bind fun σ =>
  (gI 9 942 a0_112 σ).bind fun v29 =>
  bnd2 (vc 9 a0_112 σ (f_X9_gives a0_112 v29 σ)) fun v30 σ =>
  some (v30, σ)
noncomputable def f_X9_run_J23 (a0_23 : Nat) (i1_23 : Int32) (σ : ZT) : Option (Int32 × ZT) :=
  (gR 9 900 a0_23 σ).bind fun v3 =>
  (ldI 0 v3 (4 : Int32) σ).bind fun v4 =>
  if v4 = (-1 : Int32) then
  (bnd2 (vc 9 a0_23 σ (f_X9_refuse a0_23 (6 : Int32) σ)) fun v18 σ =>
  some (v18, σ))
  else
  ((vc 9 a0_23 σ (f_X9_runs a0_23 i1_23 σ)).bind fun σ =>
  (gR 9 950 a0_23 σ).bind fun v6 =>
  (gI 9 943 a0_23 σ).bind fun v7 =>
  (stI v6 (0 : Int32) v7 σ).bind fun σ =>
  (gR 9 950 a0_23 σ).bind fun v8 =>
  (gI 9 944 a0_23 σ).bind fun v9 =>
  (stI v8 (1 : Int32) v9 σ).bind fun σ =>
  (gR 9 950 a0_23 σ).bind fun v10 =>
  (gI 9 945 a0_23 σ).bind fun v11 =>
  (stI v10 (2 : Int32) v11 σ).bind fun σ =>
  (gR 9 950 a0_23 σ).bind fun v12 =>
  (gI 9 946 a0_23 σ).bind fun v13 =>
  (stI v12 (3 : Int32) v13 σ).bind fun σ =>
  (gR 9 950 a0_23 σ).bind fun v14 =>
  (gI 9 947 a0_23 σ).bind fun v15 =>
  (stI v14 (4 : Int32) v15 σ).bind fun σ =>
  (gR 9 950 a0_23 σ).bind fun v16 =>
  bnd2 (vc 9 a0_23 σ (f_X9_isDone a0_23 σ)) fun v17 σ =>
  if v17 = 0 then
  (f_X9_run_J112 a0_23 (0 : Int32) (5 : Int32) v16 σ)
  else
  (f_X9_run_J112 a0_23 (1 : Int32) (5 : Int32) v16 σ))
noncomputable def f_X9_run (a0 : Nat) (i1 : Int32) (σ : ZT) : Option (Int32 × ZT) :=
  if i1 = (-1 : Int32) then
  (f_X9_run_J23 a0 i1 σ)
  else
  (bnd2 (f_X9_isFrom (i1.toInt64) (0 : Int64) (9999 : Int64) σ) fun v1 σ =>
  if v1 = 0 then
  (bnd2 (vc 9 a0 σ (f_X9_refuse a0 (1 : Int32) σ)) fun v2 σ =>
  some (v2, σ))
  else
  (f_X9_run_J23 a0 i1 σ))
set_option maxHeartbeats 4000000 in
theorem m_X9_run {l : Launch} {G : ZG} (a0 : Nat) (i1 : Int32) (σ : ZT) {out : (Int32 × ZT)} (hf : f_X9_run a0 i1 σ = some out) : ZM l G yX9_run cX9_run 3 (some .int) [] 9 [.ref a0, .int i1] σ (.returned (some (.int out.1))) out.2 := by
  refine ZM.of [(0, .ref a0), (1, .int i1)] rfl (Nat.le_of_ble_eq_true rfl) fun X (C : ZC G RX9 "run" cX9_run 3 (some .int) [] X 9) => ?_
  unfold f_X9_run at hf
  have j112_0 : ∀ (a0_112 : Nat) (w0_112 : Int32) (w1_112 : Int32) (w2_112 : Nat) (σ : ZT), f_X9_run_J112 a0_112 w0_112 w1_112 w2_112 σ = some out → ZW l G 3 X (ZQ G X (.returned (some (.int out.1))) out.2) σ 112 [(0, .ref a0_112)] [.int w0_112, .int w1_112, .ref w2_112] := by
    intro a0_112 w0_112 w1_112 w2_112 σ hf
    unfold f_X9_run_J112 at hf
    refine z_iast (q := 113) C dX9_run_112 hf rfl fun σ hf => ?_
    refine z_iconst (q := 114) C (0 : Int32) dX9_run_113 ki_0 rfl ?_
    refine z_istore_n (q := 115) (i := 2) (lv' := [(2, .int (0 : Int32)), (0, .ref a0_112)]) C dX9_run_114 rfl (by decide) rfl rfl ?_
    refine z_lv [1, 0] rfl ?_
    obtain ⟨r1, hr1, hk1⟩ := Option.bind_eq_some_iff.mp hf
    refine loopC_ind (P := fun s => ZW l G 3 X (ZQ G X (.returned (some (.int out.1))) out.2) s.2 115 [(0, .ref a0_112), (2, .int s.1)] []) (fun s x1 hf hx1 => ?_) hr1
    obtain ⟨i_19, σ⟩ := s
    unfold f_X9_run_L115 at hf
    try dsimp only at hf
    try dsimp only
    refine z_iload_n (q := 116) (i := 2) C 1 dX9_run_115 rfl rfl rfl ?_
    refine z_iconst (q := 117) C (4 : Int32) dX9_run_116 ki_4 rfl ?_
    refine z_icmpge (q := 120) (tgt := 138) C dX9_run_117 (by decide) rfl hf (fun c117 hf => ?_) (fun c117 hf => ?_)
    · have e1 := zl_x hf hx1
      have hf := hk1
      rw [← e1] at hf
      try dsimp only at hf
      refine z_aload_n (q := 139) (i := 0) C 0 dX9_run_138 rfl rfl rfl ?_
      refine z_aload_n (q := 140) (i := 0) C 0 dX9_run_139 rfl rfl rfl ?_
      refine z_getR (q := 143) C flX9_7 dX9_run_140 hf rfl fun v20 hf => ?_
      refine z_iconst (q := 144) C (2 : Int32) dX9_run_143 ki_2 rfl ?_
      refine z_iald (q := 145) C dX9_run_144 hf rfl fun v21 hf => ?_
      refine z_putI (q := 148) C puX9_94 dX9_run_145 hf rfl fun σ hf => ?_
      refine z_aload_n (q := 149) (i := 0) C 0 dX9_run_148 rfl rfl rfl ?_
      refine z_aload_n (q := 150) (i := 0) C 0 dX9_run_149 rfl rfl rfl ?_
      refine z_getI (q := 153) C flX9_452 dX9_run_150 hf rfl fun v22 hf => ?_
      refine z_callVi (q := 156) (As := [.int v22]) C (fun o ho => m_X9_gives _ _ _ ho) zk9 vvX9_107 cdX9_gives pnX9 dX9_run_153 rfl (by decide) (Nat.le_of_ble_eq_true rfl) hf rfl fun v23 σ hf => ?_
      exact z_ireturn C rfl dX9_run_156 (Option.some.inj hf)
    · refine z_aload_n (q := 121) (i := 0) C 0 dX9_run_120 rfl rfl rfl ?_
      refine z_getR (q := 124) C flX9_91 dX9_run_121 hf rfl fun v24 hf => ?_
      refine z_iload_n (q := 125) (i := 2) C 1 dX9_run_124 rfl rfl rfl ?_
      refine z_aload_n (q := 126) (i := 0) C 0 dX9_run_125 rfl rfl rfl ?_
      refine z_getR (q := 129) C flX9_47 dX9_run_126 hf rfl fun v25 hf => ?_
      refine z_iload_n (q := 130) (i := 2) C 1 dX9_run_129 rfl rfl rfl ?_
      refine z_iald (q := 131) C dX9_run_130 hf rfl fun v26 hf => ?_
      refine z_iast (q := 132) C dX9_run_131 hf rfl fun σ hf => ?_
      refine z_iinc (q := 135) (i := 2) (lv' := [(2, .int (i_19 + (1 : Int32))), (0, .ref a0_112)]) C 1 (i_19 + (1 : Int32)) dX9_run_132 rfl (kn_1 _) (by decide) rfl rfl ?_
      refine z_goto (q := 115) C dX9_run_135 (by decide) ?_
      refine z_lv [1, 0] rfl ?_
      have hc1 := zl_c hf hx1
      exact hc1
  have j23_0 : ∀ (a0_23 : Nat) (i1_23 : Int32) (σ : ZT), f_X9_run_J23 a0_23 i1_23 σ = some out → ZW l G 3 X (ZQ G X (.returned (some (.int out.1))) out.2) σ 23 [(0, .ref a0_23), (1, .int i1_23)] [] := by
    intro a0_23 i1_23 σ hf
    unfold f_X9_run_J23 at hf
    refine z_aload_n (q := 24) (i := 0) C 0 dX9_run_23 rfl rfl rfl ?_
    refine z_getR (q := 27) C flX9_7 dX9_run_24 hf rfl fun v3 hf => ?_
    refine z_iconst (q := 28) C (4 : Int32) dX9_run_27 ki_4 rfl ?_
    refine z_iald (q := 29) C dX9_run_28 hf rfl fun v4 hf => ?_
    refine z_iconst (q := 30) C (-1 : Int32) dX9_run_29 ki_m1 rfl ?_
    refine z_icmpne (q := 33) (tgt := 40) C dX9_run_30 (by decide) rfl hf (fun c30 hf => ?_) (fun c30 hf => ?_)
    · refine z_aload_n (q := 41) (i := 0) C 0 dX9_run_40 rfl rfl rfl ?_
      refine z_iload_n (q := 42) (i := 1) C 1 dX9_run_41 rfl rfl rfl ?_
      refine z_callVv (q := 45) (As := [.int i1_23]) C (fun o ho => m_X9_runs _ _ _ ho) zk9 vvX9_467 cdX9_runs pnX9 dX9_run_42 rfl (by decide) (Nat.le_of_ble_eq_true rfl) hf rfl fun σ hf => ?_
      refine z_aload_n (q := 46) (i := 0) C 0 dX9_run_45 rfl rfl rfl ?_
      refine z_getR (q := 49) C flX9_88 dX9_run_46 hf rfl fun v6 hf => ?_
      refine z_iconst (q := 50) C (0 : Int32) dX9_run_49 ki_0 rfl ?_
      refine z_aload_n (q := 51) (i := 0) C 0 dX9_run_50 rfl rfl rfl ?_
      refine z_getI (q := 54) C flX9_446 dX9_run_51 hf rfl fun v7 hf => ?_
      refine z_iast (q := 55) C dX9_run_54 hf rfl fun σ hf => ?_
      refine z_aload_n (q := 56) (i := 0) C 0 dX9_run_55 rfl rfl rfl ?_
      refine z_getR (q := 59) C flX9_88 dX9_run_56 hf rfl fun v8 hf => ?_
      refine z_iconst (q := 60) C (1 : Int32) dX9_run_59 ki_1 rfl ?_
      refine z_aload_n (q := 61) (i := 0) C 0 dX9_run_60 rfl rfl rfl ?_
      refine z_getI (q := 64) C flX9_455 dX9_run_61 hf rfl fun v9 hf => ?_
      refine z_iast (q := 65) C dX9_run_64 hf rfl fun σ hf => ?_
      refine z_aload_n (q := 66) (i := 0) C 0 dX9_run_65 rfl rfl rfl ?_
      refine z_getR (q := 69) C flX9_88 dX9_run_66 hf rfl fun v10 hf => ?_
      refine z_iconst (q := 70) C (2 : Int32) dX9_run_69 ki_2 rfl ?_
      refine z_aload_n (q := 71) (i := 0) C 0 dX9_run_70 rfl rfl rfl ?_
      refine z_getI (q := 74) C flX9_443 dX9_run_71 hf rfl fun v11 hf => ?_
      refine z_iast (q := 75) C dX9_run_74 hf rfl fun σ hf => ?_
      refine z_aload_n (q := 76) (i := 0) C 0 dX9_run_75 rfl rfl rfl ?_
      refine z_getR (q := 79) C flX9_88 dX9_run_76 hf rfl fun v12 hf => ?_
      refine z_iconst (q := 80) C (3 : Int32) dX9_run_79 ki_3 rfl ?_
      refine z_aload_n (q := 81) (i := 0) C 0 dX9_run_80 rfl rfl rfl ?_
      refine z_getI (q := 84) C flX9_434 dX9_run_81 hf rfl fun v13 hf => ?_
      refine z_iast (q := 85) C dX9_run_84 hf rfl fun σ hf => ?_
      refine z_aload_n (q := 86) (i := 0) C 0 dX9_run_85 rfl rfl rfl ?_
      refine z_getR (q := 89) C flX9_88 dX9_run_86 hf rfl fun v14 hf => ?_
      refine z_iconst (q := 90) C (4 : Int32) dX9_run_89 ki_4 rfl ?_
      refine z_aload_n (q := 91) (i := 0) C 0 dX9_run_90 rfl rfl rfl ?_
      refine z_getI (q := 94) C flX9_437 dX9_run_91 hf rfl fun v15 hf => ?_
      refine z_iast (q := 95) C dX9_run_94 hf rfl fun σ hf => ?_
      refine z_aload_n (q := 96) (i := 0) C 0 dX9_run_95 rfl rfl rfl ?_
      refine z_getR (q := 99) C flX9_88 dX9_run_96 hf rfl fun v16 hf => ?_
      refine z_iconst (q := 100) C (5 : Int32) dX9_run_99 ki_5 rfl ?_
      refine z_aload_n (q := 101) (i := 0) C 0 dX9_run_100 rfl rfl rfl ?_
      refine z_callVi (q := 104) (As := []) C (fun o ho => m_X9_isDone _ _ ho) zk9 vvX9_288 cdX9_isDone pnX9 dX9_run_101 rfl (by decide) (Nat.le_of_ble_eq_true rfl) hf rfl fun v17 σ hf => ?_
      refine z_ifeq (q := 107) (tgt := 111) C dX9_run_104 (by decide) rfl hf (fun c104 hf => ?_) (fun c104 hf => ?_)
      · refine z_iconst (q := 112) C (0 : Int32) dX9_run_111 ki_0 rfl ?_
        refine z_lv [0] rfl ?_
        exact j112_0 a0_23 (0 : Int32) (5 : Int32) v16 σ hf
      · refine z_iconst (q := 108) C (1 : Int32) dX9_run_107 ki_1 rfl ?_
        refine z_goto (q := 112) C dX9_run_108 (by decide) ?_
        refine z_lv [0] rfl ?_
        exact j112_0 a0_23 (1 : Int32) (5 : Int32) v16 σ hf
    · refine z_aload_n (q := 34) (i := 0) C 0 dX9_run_33 rfl rfl rfl ?_
      refine z_bipush (q := 36) C (6 : Int32) dX9_run_34 kb_6 rfl ?_
      refine z_callVi (q := 39) (As := [.int (6 : Int32)]) C (fun o ho => m_X9_refuse _ _ _ ho) zk9 vvX9_103 cdX9_refuse pnX9 dX9_run_36 rfl (by decide) (Nat.le_of_ble_eq_true rfl) hf rfl fun v18 σ hf => ?_
      exact z_ireturn C rfl dX9_run_39 (Option.some.inj hf)
  refine z_iload_n (q := 1) (i := 1) C 1 dX9_run_0 rfl rfl rfl ?_
  refine z_iconst (q := 2) C (-1 : Int32) dX9_run_1 ki_m1 rfl ?_
  refine z_icmpeq (q := 5) (tgt := 23) C dX9_run_2 (by decide) rfl hf (fun c2 hf => ?_) (fun c2 hf => ?_)
  · exact j23_0 a0 i1 σ hf
  · refine z_iload_n (q := 6) (i := 1) C 1 dX9_run_5 rfl rfl rfl ?_
    refine z_i2l (q := 7) C dX9_run_6 rfl ?_
    refine z_lconst (q := 8) C (0 : Int64) dX9_run_7 rfl rfl ?_
    refine z_ldc2 (q := 11) C q2229 dX9_run_8 rfl ?_
    refine z_callSi (q := 14) (As := [.long (i1.toInt64), .long (0 : Int64), .long (9999 : Int64)]) C (fun o ho => m_X9_isFrom _ _ _ _ ho) vsX9_420 cdX9_isFrom pnX9 dX9_run_11 rfl (by decide) (Nat.le_of_ble_eq_true rfl) hf rfl fun v1 σ hf => ?_
    refine z_ifne (q := 17) (tgt := 23) C dX9_run_14 (by decide) rfl hf (fun c14 hf => ?_) (fun c14 hf => ?_)
    · exact j23_0 a0 i1 σ hf
    · refine z_aload_n (q := 18) (i := 0) C 0 dX9_run_17 rfl rfl rfl ?_
      refine z_iconst (q := 19) C (1 : Int32) dX9_run_18 ki_1 rfl ?_
      refine z_callVi (q := 22) (As := [.int (1 : Int32)]) C (fun o ho => m_X9_refuse _ _ _ ho) zk9 vvX9_103 cdX9_refuse pnX9 dX9_run_19 rfl (by decide) (Nat.le_of_ble_eq_true rfl) hf rfl fun v2 σ hf => ?_
      exact z_ireturn C rfl dX9_run_22 (Option.some.inj hf)

noncomputable def f_X9_ran_J44 (w0_44 : Int32) (σ : ZT) : Option (Int32 × ZT) :=
  some (w0_44, σ)
noncomputable def f_X9_ran_J9 (a0_9 : Nat) (σ : ZT) : Option (Int32 × ZT) :=
  bnd2 (vc 9 a0_9 σ (f_X9_refuse a0_9 (1 : Int32) σ)) fun v6 σ =>
  f_X9_ran_J44 v6 σ
noncomputable def f_X9_ran (a0 : Nat) (i1 : Int32) (σ : ZT) : Option (Int32 × ZT) :=
  if i1 < 0 then
  (f_X9_ran_J9 a0 σ)
  else
  (if (5 : Int32) < i1 then
  (f_X9_ran_J9 a0 σ)
  else
  ((gI 9 952 a0 σ).bind fun v1 =>
  if v1 = (-1 : Int32) then
  (bnd2 (vc 9 a0 σ (f_X9_refuse a0 (6 : Int32) σ)) fun v5 σ =>
  f_X9_ran_J44 v5 σ)
  else
  ((gR 9 950 a0 σ).bind fun v2 =>
  (ldI 0 v2 i1 σ).bind fun v3 =>
  bnd2 (vc 9 a0 σ (f_X9_gives a0 v3 σ)) fun v4 σ =>
  f_X9_ran_J44 v4 σ)))
set_option maxHeartbeats 4000000 in
theorem m_X9_ran {l : Launch} {G : ZG} (a0 : Nat) (i1 : Int32) (σ : ZT) {out : (Int32 × ZT)} (hf : f_X9_ran a0 i1 σ = some out) : ZM l G yX9_ran cX9_ran 2 (some .int) [] 2 [.ref a0, .int i1] σ (.returned (some (.int out.1))) out.2 := by
  refine ZM.of [(0, .ref a0), (1, .int i1)] rfl (Nat.le_of_ble_eq_true rfl) fun X (C : ZC G RX9 "ran" cX9_ran 2 (some .int) [] X 2) => ?_
  unfold f_X9_ran at hf
  have j44_0 : ∀ (w0_44 : Int32) (σ : ZT), f_X9_ran_J44 w0_44 σ = some out → ZW l G 2 X (ZQ G X (.returned (some (.int out.1))) out.2) σ 44 [] [.int w0_44] := by
    intro w0_44 σ hf
    unfold f_X9_ran_J44 at hf
    exact z_ireturn C rfl dX9_ran_44 (Option.some.inj hf)
  have j9_0 : ∀ (a0_9 : Nat) (σ : ZT), f_X9_ran_J9 a0_9 σ = some out → ZW l G 2 X (ZQ G X (.returned (some (.int out.1))) out.2) σ 9 [(0, .ref a0_9)] [] := by
    intro a0_9 σ hf
    unfold f_X9_ran_J9 at hf
    refine z_aload_n (q := 10) (i := 0) C 0 dX9_ran_9 rfl rfl rfl ?_
    refine z_iconst (q := 11) C (1 : Int32) dX9_ran_10 ki_1 rfl ?_
    refine z_callVi (q := 14) (As := [.int (1 : Int32)]) C (fun o ho => m_X9_refuse _ _ _ ho) zk9 vvX9_103 cdX9_refuse pnX9 dX9_ran_11 rfl (by decide) (Nat.le_of_ble_eq_true rfl) hf rfl fun v6 σ hf => ?_
    refine z_goto (q := 44) C dX9_ran_14 (by decide) ?_
    refine z_lv [] rfl ?_
    exact j44_0 v6 σ hf
  refine z_iload_n (q := 1) (i := 1) C 1 dX9_ran_0 rfl rfl rfl ?_
  refine z_iflt (q := 4) (tgt := 9) C dX9_ran_1 (by decide) rfl hf (fun c1 hf => ?_) (fun c1 hf => ?_)
  · refine z_lv [0] rfl ?_
    exact j9_0 a0 σ hf
  · refine z_iload_n (q := 5) (i := 1) C 1 dX9_ran_4 rfl rfl rfl ?_
    refine z_iconst (q := 6) C (5 : Int32) dX9_ran_5 ki_5 rfl ?_
    refine z_icmple (q := 9) (tgt := 17) C dX9_ran_6 (by decide) rfl hf (fun c6 hf => ?_) (fun c6 hf => ?_)
    · refine z_aload_n (q := 18) (i := 0) C 0 dX9_ran_17 rfl rfl rfl ?_
      refine z_getI (q := 21) C flX9_94 dX9_ran_18 hf rfl fun v1 hf => ?_
      refine z_iconst (q := 22) C (-1 : Int32) dX9_ran_21 ki_m1 rfl ?_
      refine z_icmpne (q := 25) (tgt := 34) C dX9_ran_22 (by decide) rfl hf (fun c22 hf => ?_) (fun c22 hf => ?_)
      · refine z_aload_n (q := 35) (i := 0) C 0 dX9_ran_34 rfl rfl rfl ?_
        refine z_aload_n (q := 36) (i := 0) C 0 dX9_ran_35 rfl rfl rfl ?_
        refine z_getR (q := 39) C flX9_88 dX9_ran_36 hf rfl fun v2 hf => ?_
        refine z_iload_n (q := 40) (i := 1) C 1 dX9_ran_39 rfl rfl rfl ?_
        refine z_iald (q := 41) C dX9_ran_40 hf rfl fun v3 hf => ?_
        refine z_callVi (q := 44) (As := [.int v3]) C (fun o ho => m_X9_gives _ _ _ ho) zk9 vvX9_107 cdX9_gives pnX9 dX9_ran_41 rfl (by decide) (Nat.le_of_ble_eq_true rfl) hf rfl fun v4 σ hf => ?_
        refine z_lv [] rfl ?_
        exact j44_0 v4 σ hf
      · refine z_aload_n (q := 26) (i := 0) C 0 dX9_ran_25 rfl rfl rfl ?_
        refine z_bipush (q := 28) C (6 : Int32) dX9_ran_26 kb_6 rfl ?_
        refine z_callVi (q := 31) (As := [.int (6 : Int32)]) C (fun o ho => m_X9_refuse _ _ _ ho) zk9 vvX9_103 cdX9_refuse pnX9 dX9_ran_28 rfl (by decide) (Nat.le_of_ble_eq_true rfl) hf rfl fun v5 σ hf => ?_
        refine z_goto (q := 44) C dX9_ran_31 (by decide) ?_
        refine z_lv [] rfl ?_
        exact j44_0 v5 σ hf
    · refine z_lv [0] rfl ?_
      exact j9_0 a0 σ hf

noncomputable def f_X9_ranAt_J44 (w0_44 : Int32) (σ : ZT) : Option (Int32 × ZT) :=
  some (w0_44, σ)
noncomputable def f_X9_ranAt_J9 (a0_9 : Nat) (σ : ZT) : Option (Int32 × ZT) :=
  bnd2 (vc 9 a0_9 σ (f_X9_refuse a0_9 (1 : Int32) σ)) fun v6 σ =>
  f_X9_ranAt_J44 v6 σ
noncomputable def f_X9_ranAt (a0 : Nat) (i1 : Int32) (σ : ZT) : Option (Int32 × ZT) :=
  if i1 < 0 then
  (f_X9_ranAt_J9 a0 σ)
  else
  (if i1 < (4 : Int32) then
  ((gI 9 952 a0 σ).bind fun v1 =>
  if i1 < v1 then
  ((gR 9 951 a0 σ).bind fun v2 =>
  (ldI 0 v2 i1 σ).bind fun v3 =>
  bnd2 (vc 9 a0 σ (f_X9_gives a0 v3 σ)) fun v4 σ =>
  f_X9_ranAt_J44 v4 σ)
  else
  (bnd2 (vc 9 a0 σ (f_X9_refuse a0 (6 : Int32) σ)) fun v5 σ =>
  f_X9_ranAt_J44 v5 σ))
  else
  (f_X9_ranAt_J9 a0 σ))
set_option maxHeartbeats 4000000 in
theorem m_X9_ranAt {l : Launch} {G : ZG} (a0 : Nat) (i1 : Int32) (σ : ZT) {out : (Int32 × ZT)} (hf : f_X9_ranAt a0 i1 σ = some out) : ZM l G yX9_ranAt cX9_ranAt 2 (some .int) [] 2 [.ref a0, .int i1] σ (.returned (some (.int out.1))) out.2 := by
  refine ZM.of [(0, .ref a0), (1, .int i1)] rfl (Nat.le_of_ble_eq_true rfl) fun X (C : ZC G RX9 "ranAt" cX9_ranAt 2 (some .int) [] X 2) => ?_
  unfold f_X9_ranAt at hf
  have j44_0 : ∀ (w0_44 : Int32) (σ : ZT), f_X9_ranAt_J44 w0_44 σ = some out → ZW l G 2 X (ZQ G X (.returned (some (.int out.1))) out.2) σ 44 [] [.int w0_44] := by
    intro w0_44 σ hf
    unfold f_X9_ranAt_J44 at hf
    exact z_ireturn C rfl dX9_ranAt_44 (Option.some.inj hf)
  have j9_0 : ∀ (a0_9 : Nat) (σ : ZT), f_X9_ranAt_J9 a0_9 σ = some out → ZW l G 2 X (ZQ G X (.returned (some (.int out.1))) out.2) σ 9 [(0, .ref a0_9)] [] := by
    intro a0_9 σ hf
    unfold f_X9_ranAt_J9 at hf
    refine z_aload_n (q := 10) (i := 0) C 0 dX9_ranAt_9 rfl rfl rfl ?_
    refine z_iconst (q := 11) C (1 : Int32) dX9_ranAt_10 ki_1 rfl ?_
    refine z_callVi (q := 14) (As := [.int (1 : Int32)]) C (fun o ho => m_X9_refuse _ _ _ ho) zk9 vvX9_103 cdX9_refuse pnX9 dX9_ranAt_11 rfl (by decide) (Nat.le_of_ble_eq_true rfl) hf rfl fun v6 σ hf => ?_
    refine z_goto (q := 44) C dX9_ranAt_14 (by decide) ?_
    refine z_lv [] rfl ?_
    exact j44_0 v6 σ hf
  refine z_iload_n (q := 1) (i := 1) C 1 dX9_ranAt_0 rfl rfl rfl ?_
  refine z_iflt (q := 4) (tgt := 9) C dX9_ranAt_1 (by decide) rfl hf (fun c1 hf => ?_) (fun c1 hf => ?_)
  · refine z_lv [0] rfl ?_
    exact j9_0 a0 σ hf
  · refine z_iload_n (q := 5) (i := 1) C 1 dX9_ranAt_4 rfl rfl rfl ?_
    refine z_iconst (q := 6) C (4 : Int32) dX9_ranAt_5 ki_4 rfl ?_
    refine z_icmplt (q := 9) (tgt := 17) C dX9_ranAt_6 (by decide) rfl hf (fun c6 hf => ?_) (fun c6 hf => ?_)
    · refine z_iload_n (q := 18) (i := 1) C 1 dX9_ranAt_17 rfl rfl rfl ?_
      refine z_aload_n (q := 19) (i := 0) C 0 dX9_ranAt_18 rfl rfl rfl ?_
      refine z_getI (q := 22) C flX9_94 dX9_ranAt_19 hf rfl fun v1 hf => ?_
      refine z_icmplt (q := 25) (tgt := 34) C dX9_ranAt_22 (by decide) rfl hf (fun c22 hf => ?_) (fun c22 hf => ?_)
      · refine z_aload_n (q := 35) (i := 0) C 0 dX9_ranAt_34 rfl rfl rfl ?_
        refine z_aload_n (q := 36) (i := 0) C 0 dX9_ranAt_35 rfl rfl rfl ?_
        refine z_getR (q := 39) C flX9_91 dX9_ranAt_36 hf rfl fun v2 hf => ?_
        refine z_iload_n (q := 40) (i := 1) C 1 dX9_ranAt_39 rfl rfl rfl ?_
        refine z_iald (q := 41) C dX9_ranAt_40 hf rfl fun v3 hf => ?_
        refine z_callVi (q := 44) (As := [.int v3]) C (fun o ho => m_X9_gives _ _ _ ho) zk9 vvX9_107 cdX9_gives pnX9 dX9_ranAt_41 rfl (by decide) (Nat.le_of_ble_eq_true rfl) hf rfl fun v4 σ hf => ?_
        refine z_lv [] rfl ?_
        exact j44_0 v4 σ hf
      · refine z_aload_n (q := 26) (i := 0) C 0 dX9_ranAt_25 rfl rfl rfl ?_
        refine z_bipush (q := 28) C (6 : Int32) dX9_ranAt_26 kb_6 rfl ?_
        refine z_callVi (q := 31) (As := [.int (6 : Int32)]) C (fun o ho => m_X9_refuse _ _ _ ho) zk9 vvX9_103 cdX9_refuse pnX9 dX9_ranAt_28 rfl (by decide) (Nat.le_of_ble_eq_true rfl) hf rfl fun v5 σ hf => ?_
        refine z_goto (q := 44) C dX9_ranAt_31 (by decide) ?_
        refine z_lv [] rfl ?_
        exact j44_0 v5 σ hf
    · refine z_lv [0] rfl ?_
      exact j9_0 a0 σ hf

noncomputable def f_X9_tellsBy_L6 (c0_6 : Nat) (c1_6 : Int64) (c3_6 : Int64) (l_1 : Int64) (l_2 : Int64) (σ : ZT) : Option ((Int64 × Int64 × ZT) ⊕ (Int64 × ZT)) :=
  if (lg_cmp l_2 (0 : Int64)) = 0 then
  (some (.inr (l_1, σ)))
  else
  ((zlrem l_1 l_2).bind fun v7 =>
  some (.inl (l_2, v7, σ)))
noncomputable def f_X9_tellsBy (a0 : Nat) (l1 : Int64) (l3 : Int64) (σ : ZT) : Option (Int32 × ZT) :=
  (loopC (fun s : (Int64 × Int64 × ZT) => f_X9_tellsBy_L6 a0 l1 l3 s.1 s.2.1 s.2.2) (l1, l3, σ)).bind fun x => (match x with
  | (x8, σ) => (zldiv l1 x8).bind fun v9 =>
  (pL 9 903 a0 v9 σ).bind fun σ =>
  (zldiv l3 x8).bind fun v10 =>
  (pL 9 904 a0 v10 σ).bind fun σ =>
  bnd2 (vc 9 a0 σ (f_X9_is a0 (0 : Int32) σ)) fun v11 σ =>
  (rz v11).bind fun z12 =>
  some (z12, σ))
set_option maxHeartbeats 4000000 in
theorem m_X9_tellsBy {l : Launch} {G : ZG} (a0 : Nat) (l1 : Int64) (l3 : Int64) (σ : ZT) {out : (Int32 × ZT)} (hf : f_X9_tellsBy a0 l1 l3 σ = some out) : ZM l G yX9_tellsBy cX9_tellsBy 11 (some .boolean) [] 2 [.ref a0, .long l1, .long l3] σ (.returned (some (.int out.1))) out.2 := by
  refine ZM.of [(0, .ref a0), (1, .long l1), (3, .long l3)] rfl (Nat.le_of_ble_eq_true rfl) fun X (C : ZC G RX9 "tellsBy" cX9_tellsBy 11 (some .boolean) [] X 2) => ?_
  unfold f_X9_tellsBy at hf
  refine z_lload_n (q := 1) (i := 1) C 1 dX9_tellsBy_0 rfl rfl rfl ?_
  refine z_lstore (q := 3) (i := 5) (lv' := [(5, .long l1), (0, .ref a0), (1, .long l1), (3, .long l3)]) C dX9_tellsBy_1 (by decide) rfl rfl ?_
  refine z_lload_n (q := 4) (i := 3) C 3 dX9_tellsBy_3 rfl rfl rfl ?_
  refine z_lstore (q := 6) (i := 7) (lv' := [(7, .long l3), (5, .long l1), (0, .ref a0), (1, .long l1), (3, .long l3)]) C dX9_tellsBy_4 (by decide) rfl rfl ?_
  refine z_lv [2, 3, 4, 1, 0] rfl ?_
  obtain ⟨r1, hr1, hk1⟩ := Option.bind_eq_some_iff.mp hf
  refine loopC_ind (P := fun s => ZW l G 11 X (ZQ G X (.returned (some (.int out.1))) out.2) s.2.2 6 [(0, .ref a0), (1, .long l1), (3, .long l3), (5, .long s.1), (7, .long s.2.1)] []) (fun s x1 hf hx1 => ?_) hr1
  obtain ⟨l_1, l_2, σ⟩ := s
  unfold f_X9_tellsBy_L6 at hf
  try dsimp only at hf
  try dsimp only
  refine z_lload (q := 8) (i := 7) C 4 dX9_tellsBy_6 rfl rfl ?_
  refine z_lconst (q := 9) C (0 : Int64) dX9_tellsBy_8 rfl rfl ?_
  refine z_lcmp (q := 10) C dX9_tellsBy_9 rfl ?_
  refine z_ifeq (q := 13) (tgt := 31) C dX9_tellsBy_10 (by decide) rfl hf (fun c10 hf => ?_) (fun c10 hf => ?_)
  · have e1 := zl_x hf hx1
    have hf := hk1
    rw [← e1] at hf
    try dsimp only at hf
    refine z_aload_n (q := 32) (i := 0) C 0 dX9_tellsBy_31 rfl rfl rfl ?_
    refine z_lload_n (q := 33) (i := 1) C 1 dX9_tellsBy_32 rfl rfl rfl ?_
    refine z_lload (q := 35) (i := 5) C 3 dX9_tellsBy_33 rfl rfl ?_
    refine z_ldiv (q := 36) C dX9_tellsBy_35 hf rfl fun v3 hf => ?_
    refine z_putL (q := 39) C puX9_100 dX9_tellsBy_36 hf rfl fun σ hf => ?_
    refine z_aload_n (q := 40) (i := 0) C 0 dX9_tellsBy_39 rfl rfl rfl ?_
    refine z_lload_n (q := 41) (i := 3) C 2 dX9_tellsBy_40 rfl rfl rfl ?_
    refine z_lload (q := 43) (i := 5) C 3 dX9_tellsBy_41 rfl rfl ?_
    refine z_ldiv (q := 44) C dX9_tellsBy_43 hf rfl fun v4 hf => ?_
    refine z_putL (q := 47) C puX9_17 dX9_tellsBy_44 hf rfl fun σ hf => ?_
    refine z_aload_n (q := 48) (i := 0) C 0 dX9_tellsBy_47 rfl rfl rfl ?_
    refine z_iconst (q := 49) C (0 : Int32) dX9_tellsBy_48 ki_0 rfl ?_
    refine z_callVi (q := 52) (As := [.int (0 : Int32)]) C (fun o ho => m_X9_is _ _ _ ho) zk9 vvX9_110 cdX9_is pnX9 dX9_tellsBy_49 rfl (by decide) (Nat.le_of_ble_eq_true rfl) hf rfl fun v5 σ hf => ?_
    refine z_rz C hf fun hn hf => ?_
    exact z_zreturn C rfl hn dX9_tellsBy_52 (Option.some.inj hf)
  · refine z_lload (q := 15) (i := 5) C 3 dX9_tellsBy_13 rfl rfl ?_
    refine z_lload (q := 17) (i := 7) C 4 dX9_tellsBy_15 rfl rfl ?_
    refine z_lrem (q := 18) C dX9_tellsBy_17 hf rfl fun v7 hf => ?_
    refine z_lstore (q := 20) (i := 9) (lv' := [(9, .long v7), (0, .ref a0), (1, .long l1), (3, .long l3), (5, .long l_1), (7, .long l_2)]) C dX9_tellsBy_18 (by decide) rfl rfl ?_
    refine z_lload (q := 22) (i := 7) C 5 dX9_tellsBy_20 rfl rfl ?_
    refine z_lstore (q := 24) (i := 5) (lv' := [(5, .long l_2), (9, .long v7), (0, .ref a0), (1, .long l1), (3, .long l3), (7, .long l_2)]) C dX9_tellsBy_22 (by decide) rfl rfl ?_
    refine z_lload (q := 26) (i := 9) C 1 dX9_tellsBy_24 rfl rfl ?_
    refine z_lstore (q := 28) (i := 7) (lv' := [(7, .long v7), (5, .long l_2), (9, .long v7), (0, .ref a0), (1, .long l1), (3, .long l3)]) C dX9_tellsBy_26 (by decide) rfl rfl ?_
    refine z_goto (q := 6) C dX9_tellsBy_28 (by decide) ?_
    refine z_lv [3, 4, 5, 1, 0] rfl ?_
    have hc1 := zl_c hf hx1
    exact hc1

noncomputable def f_X9_odds_J90_63 (a0_90 : Nat) (i1_90 : Int32) (i2_90 : Int32) (i4_90 : Int32) (w0_90 : Int32) (w1_90 : Int32) (σ : ZT) : Option ((Int32 × Int32 × ZT) ⊕ (Int32 × ZT)) :=
  some (.inl ((w1_90 + w0_90), (i4_90 + (1 : Int32)), σ))
noncomputable def f_X9_odds_L63 (c0_63 : Nat) (c1_63 : Int32) (c2_63 : Int32) (i_5 : Int32) (i_6 : Int32) (σ : ZT) : Option ((Int32 × Int32 × ZT) ⊕ (Int32 × ZT)) :=
  if i_6 < c2_63 then
  ((vc 9 c0_63 σ (f_X9_runs c0_63 (c1_63 + i_6) σ)).bind fun σ =>
  bnd2 (vc 9 c0_63 σ (f_X9_isDone c0_63 σ)) fun v10 σ =>
  if v10 = 0 then
  (f_X9_odds_J90_63 c0_63 c1_63 c2_63 i_6 (0 : Int32) i_5 σ)
  else
  (f_X9_odds_J90_63 c0_63 c1_63 c2_63 i_6 (1 : Int32) i_5 σ))
  else
  (some (.inr (i_5, σ)))
noncomputable def f_X9_odds_J35 (a0_35 : Nat) (σ : ZT) : Option (Int32 × ZT) :=
  bnd2 (vc 9 a0_35 σ (f_X9_is a0_35 (1 : Int32) σ)) fun v16 σ =>
  (rz v16).bind fun z17 =>
  some (z17, σ)
noncomputable def f_X9_odds (a0 : Nat) (i1 : Int32) (i2 : Int32) (σ : ZT) : Option (Int32 × ZT) :=
  bnd2 (f_X9_isFrom (i1.toInt64) (0 : Int64) (9999 : Int64) σ) fun v1 σ =>
  if v1 = 0 then
  (f_X9_odds_J35 a0 σ)
  else
  (bnd2 (f_X9_isFrom (i2.toInt64) (1 : Int64) (30 : Int64) σ) fun v2 σ =>
  if v2 = 0 then
  (f_X9_odds_J35 a0 σ)
  else
  (if (9999 : Int32) < ((i1 + i2) - (1 : Int32)) then
  (f_X9_odds_J35 a0 σ)
  else
  ((gR 9 900 a0 σ).bind fun v3 =>
  (ldI 0 v3 (4 : Int32) σ).bind fun v4 =>
  if v4 = (-1 : Int32) then
  (bnd2 (vc 9 a0 σ (f_X9_is a0 (6 : Int32) σ)) fun v14 σ =>
  (rz v14).bind fun z15 =>
  some (z15, σ))
  else
  ((loopC (fun s : (Int32 × Int32 × ZT) => f_X9_odds_L63 a0 i1 i2 s.1 s.2.1 s.2.2) ((0 : Int32), (0 : Int32), σ)).bind fun x => (match x with
  | (x11, σ) => bnd2 (vc 9 a0 σ (f_X9_tellsBy a0 (x11.toInt64) (i2.toInt64) σ)) fun v12 σ =>
  (rz v12).bind fun z13 =>
  some (z13, σ))))))
set_option maxHeartbeats 4000000 in
theorem m_X9_odds {l : Launch} {G : ZG} (a0 : Nat) (i1 : Int32) (i2 : Int32) (σ : ZT) {out : (Int32 × ZT)} (hf : f_X9_odds a0 i1 i2 σ = some out) : ZM l G yX9_odds cX9_odds 5 (some .boolean) [] 9 [.ref a0, .int i1, .int i2] σ (.returned (some (.int out.1))) out.2 := by
  refine ZM.of [(0, .ref a0), (1, .int i1), (2, .int i2)] rfl (Nat.le_of_ble_eq_true rfl) fun X (C : ZC G RX9 "odds" cX9_odds 5 (some .boolean) [] X 9) => ?_
  unfold f_X9_odds at hf
  have j35_0 : ∀ (a0_35 : Nat) (σ : ZT), f_X9_odds_J35 a0_35 σ = some out → ZW l G 5 X (ZQ G X (.returned (some (.int out.1))) out.2) σ 35 [(0, .ref a0_35)] [] := by
    intro a0_35 σ hf
    unfold f_X9_odds_J35 at hf
    refine z_aload_n (q := 36) (i := 0) C 0 dX9_odds_35 rfl rfl rfl ?_
    refine z_iconst (q := 37) C (1 : Int32) dX9_odds_36 ki_1 rfl ?_
    refine z_callVi (q := 40) (As := [.int (1 : Int32)]) C (fun o ho => m_X9_is _ _ _ ho) zk9 vvX9_110 cdX9_is pnX9 dX9_odds_37 rfl (by decide) (Nat.le_of_ble_eq_true rfl) hf rfl fun v13 σ hf => ?_
    refine z_rz C hf fun hn hf => ?_
    exact z_zreturn C rfl hn dX9_odds_40 (Option.some.inj hf)
  refine z_iload_n (q := 1) (i := 1) C 1 dX9_odds_0 rfl rfl rfl ?_
  refine z_i2l (q := 2) C dX9_odds_1 rfl ?_
  refine z_lconst (q := 3) C (0 : Int64) dX9_odds_2 rfl rfl ?_
  refine z_ldc2 (q := 6) C q2229 dX9_odds_3 rfl ?_
  refine z_callSi (q := 9) (As := [.long (i1.toInt64), .long (0 : Int64), .long (9999 : Int64)]) C (fun o ho => m_X9_isFrom _ _ _ _ ho) vsX9_420 cdX9_isFrom pnX9 dX9_odds_6 rfl (by decide) (Nat.le_of_ble_eq_true rfl) hf rfl fun v1 σ hf => ?_
  refine z_ifeq (q := 12) (tgt := 35) C dX9_odds_9 (by decide) rfl hf (fun c9 hf => ?_) (fun c9 hf => ?_)
  · refine z_lv [0] rfl ?_
    exact j35_0 a0 σ hf
  · refine z_iload_n (q := 13) (i := 2) C 2 dX9_odds_12 rfl rfl rfl ?_
    refine z_i2l (q := 14) C dX9_odds_13 rfl ?_
    refine z_lconst (q := 15) C (1 : Int64) dX9_odds_14 rfl rfl ?_
    refine z_ldc2 (q := 18) C q2225 dX9_odds_15 rfl ?_
    refine z_callSi (q := 21) (As := [.long (i2.toInt64), .long (1 : Int64), .long (30 : Int64)]) C (fun o ho => m_X9_isFrom _ _ _ _ ho) vsX9_420 cdX9_isFrom pnX9 dX9_odds_18 rfl (by decide) (Nat.le_of_ble_eq_true rfl) hf rfl fun v2 σ hf => ?_
    refine z_ifeq (q := 24) (tgt := 35) C dX9_odds_21 (by decide) rfl hf (fun c21 hf => ?_) (fun c21 hf => ?_)
    · refine z_lv [0] rfl ?_
      exact j35_0 a0 σ hf
    · refine z_iload_n (q := 25) (i := 1) C 1 dX9_odds_24 rfl rfl rfl ?_
      refine z_iload_n (q := 26) (i := 2) C 2 dX9_odds_25 rfl rfl rfl ?_
      refine z_iadd (q := 27) C dX9_odds_26 rfl ?_
      refine z_iconst (q := 28) C (1 : Int32) dX9_odds_27 ki_1 rfl ?_
      refine z_isub (q := 29) C dX9_odds_28 rfl ?_
      refine z_sipush (q := 32) C (9999 : Int32) dX9_odds_29 ks_9999 rfl ?_
      refine z_icmple (q := 35) (tgt := 41) C dX9_odds_32 (by decide) rfl hf (fun c32 hf => ?_) (fun c32 hf => ?_)
      · refine z_aload_n (q := 42) (i := 0) C 0 dX9_odds_41 rfl rfl rfl ?_
        refine z_getR (q := 45) C flX9_7 dX9_odds_42 hf rfl fun v3 hf => ?_
        refine z_iconst (q := 46) C (4 : Int32) dX9_odds_45 ki_4 rfl ?_
        refine z_iald (q := 47) C dX9_odds_46 hf rfl fun v4 hf => ?_
        refine z_iconst (q := 48) C (-1 : Int32) dX9_odds_47 ki_m1 rfl ?_
        refine z_icmpne (q := 51) (tgt := 58) C dX9_odds_48 (by decide) rfl hf (fun c48 hf => ?_) (fun c48 hf => ?_)
        · refine z_iconst (q := 59) C (0 : Int32) dX9_odds_58 ki_0 rfl ?_
          refine z_istore_n (q := 60) (i := 3) (lv' := [(3, .int (0 : Int32)), (0, .ref a0), (1, .int i1), (2, .int i2)]) C dX9_odds_59 rfl (by decide) rfl rfl ?_
          refine z_iconst (q := 61) C (0 : Int32) dX9_odds_60 ki_0 rfl ?_
          refine z_istore (q := 63) (i := 4) (lv' := [(4, .int (0 : Int32)), (3, .int (0 : Int32)), (0, .ref a0), (1, .int i1), (2, .int i2)]) C dX9_odds_61 (by decide) rfl rfl ?_
          refine z_lv [2, 3, 4, 1, 0] rfl ?_
          obtain ⟨r1, hr1, hk1⟩ := Option.bind_eq_some_iff.mp hf
          refine loopC_ind (P := fun s => ZW l G 5 X (ZQ G X (.returned (some (.int out.1))) out.2) s.2.2 63 [(0, .ref a0), (1, .int i1), (2, .int i2), (3, .int s.1), (4, .int s.2.1)] []) (fun s x1 hf hx1 => ?_) hr1
          obtain ⟨i_5, i_6, σ⟩ := s
          unfold f_X9_odds_L63 at hf
          try dsimp only at hf
          try dsimp only
          have j90_1 : ∀ (i4_90 : Int32) (w0_90 : Int32) (w1_90 : Int32) (σ : ZT), f_X9_odds_J90_63 a0 i1 i2 i4_90 w0_90 w1_90 σ = some x1 → ZW l G 5 X (ZQ G X (.returned (some (.int out.1))) out.2) σ 90 [(0, .ref a0), (1, .int i1), (2, .int i2), (4, .int i4_90)] [.int w0_90, .int w1_90] := by
            intro i4_90 w0_90 w1_90 σ hf
            unfold f_X9_odds_J90_63 at hf
            refine z_iadd (q := 91) C dX9_odds_90 rfl ?_
            refine z_istore_n (q := 92) (i := 3) (lv' := [(3, .int (w1_90 + w0_90)), (0, .ref a0), (1, .int i1), (2, .int i2), (4, .int i4_90)]) C dX9_odds_91 rfl (by decide) rfl rfl ?_
            refine z_iinc (q := 95) (i := 4) (lv' := [(4, .int (i4_90 + (1 : Int32))), (3, .int (w1_90 + w0_90)), (0, .ref a0), (1, .int i1), (2, .int i2)]) C 4 (i4_90 + (1 : Int32)) dX9_odds_92 rfl (kn_1 _) (by decide) rfl rfl ?_
            refine z_goto (q := 63) C dX9_odds_95 (by decide) ?_
            refine z_lv [2, 3, 4, 1, 0] rfl ?_
            have hc1 := zl_c hf hx1
            exact hc1
          refine z_iload (q := 65) (i := 4) C 4 dX9_odds_63 rfl rfl ?_
          refine z_iload_n (q := 66) (i := 2) C 2 dX9_odds_65 rfl rfl rfl ?_
          refine z_icmpge (q := 69) (tgt := 98) C dX9_odds_66 (by decide) rfl hf (fun c66 hf => ?_) (fun c66 hf => ?_)
          · have e1 := zl_x hf hx1
            have hf := hk1
            rw [← e1] at hf
            try dsimp only at hf
            refine z_aload_n (q := 99) (i := 0) C 0 dX9_odds_98 rfl rfl rfl ?_
            refine z_iload_n (q := 100) (i := 3) C 3 dX9_odds_99 rfl rfl rfl ?_
            refine z_i2l (q := 101) C dX9_odds_100 rfl ?_
            refine z_iload_n (q := 102) (i := 2) C 2 dX9_odds_101 rfl rfl rfl ?_
            refine z_i2l (q := 103) C dX9_odds_102 rfl ?_
            refine z_callVi (q := 106) (As := [.long (i_5.toInt64), .long (i2.toInt64)]) C (fun o ho => m_X9_tellsBy _ _ _ _ ho) zk9 vvX9_470 cdX9_tellsBy pnX9 dX9_odds_103 rfl (by decide) (Nat.le_of_ble_eq_true rfl) hf rfl fun v7 σ hf => ?_
            refine z_rz C hf fun hn hf => ?_
            exact z_zreturn C rfl hn dX9_odds_106 (Option.some.inj hf)
          · refine z_aload_n (q := 70) (i := 0) C 0 dX9_odds_69 rfl rfl rfl ?_
            refine z_iload_n (q := 71) (i := 1) C 1 dX9_odds_70 rfl rfl rfl ?_
            refine z_iload (q := 73) (i := 4) C 4 dX9_odds_71 rfl rfl ?_
            refine z_iadd (q := 74) C dX9_odds_73 rfl ?_
            refine z_callVv (q := 77) (As := [.int (i1 + i_6)]) C (fun o ho => m_X9_runs _ _ _ ho) zk9 vvX9_467 cdX9_runs pnX9 dX9_odds_74 rfl (by decide) (Nat.le_of_ble_eq_true rfl) hf rfl fun σ hf => ?_
            refine z_iload_n (q := 78) (i := 3) C 3 dX9_odds_77 rfl rfl rfl ?_
            refine z_aload_n (q := 79) (i := 0) C 0 dX9_odds_78 rfl rfl rfl ?_
            refine z_callVi (q := 82) (As := []) C (fun o ho => m_X9_isDone _ _ ho) zk9 vvX9_288 cdX9_isDone pnX9 dX9_odds_79 rfl (by decide) (Nat.le_of_ble_eq_true rfl) hf rfl fun v10 σ hf => ?_
            refine z_ifeq (q := 85) (tgt := 89) C dX9_odds_82 (by decide) rfl hf (fun c82 hf => ?_) (fun c82 hf => ?_)
            · refine z_iconst (q := 90) C (0 : Int32) dX9_odds_89 ki_0 rfl ?_
              refine z_lv [0, 1, 2, 4] rfl ?_
              exact j90_1 i_6 (0 : Int32) i_5 σ hf
            · refine z_iconst (q := 86) C (1 : Int32) dX9_odds_85 ki_1 rfl ?_
              refine z_goto (q := 90) C dX9_odds_86 (by decide) ?_
              refine z_lv [0, 1, 2, 4] rfl ?_
              exact j90_1 i_6 (1 : Int32) i_5 σ hf
        · refine z_aload_n (q := 52) (i := 0) C 0 dX9_odds_51 rfl rfl rfl ?_
          refine z_bipush (q := 54) C (6 : Int32) dX9_odds_52 kb_6 rfl ?_
          refine z_callVi (q := 57) (As := [.int (6 : Int32)]) C (fun o ho => m_X9_is _ _ _ ho) zk9 vvX9_110 cdX9_is pnX9 dX9_odds_54 rfl (by decide) (Nat.le_of_ble_eq_true rfl) hf rfl fun v11 σ hf => ?_
          refine z_rz C hf fun hn hf => ?_
          exact z_zreturn C rfl hn dX9_odds_57 (Option.some.inj hf)
      · refine z_lv [0] rfl ?_
        exact j35_0 a0 σ hf

noncomputable def f_X9_copies_L41 (c0_41 : Nat) (c1_41 : Int32) (c2_41 : Int32) (i_2 : Int32) (σ : ZT) : Option ((Int32 × ZT) ⊕ ZT) :=
  if i_2 < (20 : Int32) then
  ((gR 9 901 c0_41 σ).bind fun v3 =>
  (gR 9 901 c0_41 σ).bind fun v4 =>
  (ldL v4 (((20 : Int32) * c1_41) + i_2) σ).bind fun v5 =>
  (stL v3 (((20 : Int32) * c2_41) + i_2) v5 σ).bind fun σ =>
  some (.inl ((i_2 + (1 : Int32)), σ)))
  else
  (some (.inr σ))
noncomputable def f_X9_copies_L2 (c0_2 : Nat) (c1_2 : Int32) (c2_2 : Int32) (i_1 : Int32) (σ : ZT) : Option ((Int32 × ZT) ⊕ ZT) :=
  if i_1 < (430 : Int32) then
  ((gR 9 900 c0_2 σ).bind fun v6 =>
  (gR 9 900 c0_2 σ).bind fun v7 =>
  (ldI 0 v7 (((430 : Int32) * c1_2) + i_1) σ).bind fun v8 =>
  (stI v6 (((430 : Int32) * c2_2) + i_1) v8 σ).bind fun σ =>
  some (.inl ((i_1 + (1 : Int32)), σ)))
  else
  (some (.inr σ))
noncomputable def f_X9_copies (a0 : Nat) (i1 : Int32) (i2 : Int32) (σ : ZT) : Option ZT :=
  (loopC (fun s : (Int32 × ZT) => f_X9_copies_L2 a0 i1 i2 s.1 s.2) ((0 : Int32), σ)).bind fun σ =>
  (loopC (fun s : (Int32 × ZT) => f_X9_copies_L41 a0 i1 i2 s.1 s.2) ((0 : Int32), σ)).bind fun σ =>
  some σ
set_option maxHeartbeats 4000000 in
theorem m_X9_copies {l : Launch} {G : ZG} (a0 : Nat) (i1 : Int32) (i2 : Int32) (σ : ZT) {out : ZT} (hf : f_X9_copies a0 i1 i2 σ = some out) : ZM l G yX9_copies cX9_copies 4 none [] 1 [.ref a0, .int i1, .int i2] σ (.returned none) out := by
  refine ZM.of [(0, .ref a0), (1, .int i1), (2, .int i2)] rfl (Nat.le_of_ble_eq_true rfl) fun X (C : ZC G RX9 "copies" cX9_copies 4 none [] X 1) => ?_
  unfold f_X9_copies at hf
  refine z_iconst (q := 1) C (0 : Int32) dX9_copies_0 ki_0 rfl ?_
  refine z_istore_n (q := 2) (i := 3) (lv' := [(3, .int (0 : Int32)), (0, .ref a0), (1, .int i1), (2, .int i2)]) C dX9_copies_1 rfl (by decide) rfl rfl ?_
  refine z_lv [1, 2, 3, 0] rfl ?_
  obtain ⟨r1, hr1, hk1⟩ := Option.bind_eq_some_iff.mp hf
  refine loopC_ind (P := fun s => ZW l G 4 X (ZQ G X (.returned none) out) s.2 2 [(0, .ref a0), (1, .int i1), (2, .int i2), (3, .int s.1)] []) (fun s x1 hf hx1 => ?_) hr1
  obtain ⟨i_1, σ⟩ := s
  unfold f_X9_copies_L2 at hf
  try dsimp only at hf
  try dsimp only
  refine z_iload_n (q := 3) (i := 3) C 3 dX9_copies_2 rfl rfl rfl ?_
  refine z_sipush (q := 6) C (430 : Int32) dX9_copies_3 ks_430 rfl ?_
  refine z_icmpge (q := 9) (tgt := 39) C dX9_copies_6 (by decide) rfl hf (fun c6 hf => ?_) (fun c6 hf => ?_)
  · have e1 := zl_x hf hx1
    have hf := hk1
    rw [← e1] at hf
    try dsimp only at hf
    refine z_iconst (q := 40) C (0 : Int32) dX9_copies_39 ki_0 rfl ?_
    refine z_istore_n (q := 41) (i := 3) (lv' := [(3, .int (0 : Int32)), (0, .ref a0), (1, .int i1), (2, .int i2)]) C dX9_copies_40 rfl (by decide) rfl rfl ?_
    refine z_lv [1, 2, 3, 0] rfl ?_
    obtain ⟨r1, hr1, hk1⟩ := Option.bind_eq_some_iff.mp hf
    refine loopC_ind (P := fun s => ZW l G 4 X (ZQ G X (.returned none) out) s.2 41 [(0, .ref a0), (1, .int i1), (2, .int i2), (3, .int s.1)] []) (fun s x1 hf hx1 => ?_) hr1
    obtain ⟨i_2, σ⟩ := s
    unfold f_X9_copies_L41 at hf
    try dsimp only at hf
    try dsimp only
    refine z_iload_n (q := 42) (i := 3) C 3 dX9_copies_41 rfl rfl rfl ?_
    refine z_bipush (q := 44) C (20 : Int32) dX9_copies_42 kb_20 rfl ?_
    refine z_icmpge (q := 47) (tgt := 75) C dX9_copies_44 (by decide) rfl hf (fun c44 hf => ?_) (fun c44 hf => ?_)
    · have e1 := zl_x hf hx1
      have hf := hk1
      rw [← e1] at hf
      try dsimp only at hf
      exact z_return C rfl dX9_copies_75 (Option.some.inj hf)
    · refine z_aload_n (q := 48) (i := 0) C 0 dX9_copies_47 rfl rfl rfl ?_
      refine z_getR (q := 51) C flX9_13 dX9_copies_48 hf rfl fun v3 hf => ?_
      refine z_bipush (q := 53) C (20 : Int32) dX9_copies_51 kb_20 rfl ?_
      refine z_iload_n (q := 54) (i := 2) C 2 dX9_copies_53 rfl rfl rfl ?_
      refine z_imul (q := 55) C dX9_copies_54 rfl ?_
      refine z_iload_n (q := 56) (i := 3) C 3 dX9_copies_55 rfl rfl rfl ?_
      refine z_iadd (q := 57) C dX9_copies_56 rfl ?_
      refine z_aload_n (q := 58) (i := 0) C 0 dX9_copies_57 rfl rfl rfl ?_
      refine z_getR (q := 61) C flX9_13 dX9_copies_58 hf rfl fun v4 hf => ?_
      refine z_bipush (q := 63) C (20 : Int32) dX9_copies_61 kb_20 rfl ?_
      refine z_iload_n (q := 64) (i := 1) C 1 dX9_copies_63 rfl rfl rfl ?_
      refine z_imul (q := 65) C dX9_copies_64 rfl ?_
      refine z_iload_n (q := 66) (i := 3) C 3 dX9_copies_65 rfl rfl rfl ?_
      refine z_iadd (q := 67) C dX9_copies_66 rfl ?_
      refine z_lald (q := 68) C dX9_copies_67 hf rfl fun v5 hf => ?_
      refine z_last (q := 69) C dX9_copies_68 hf rfl fun σ hf => ?_
      refine z_iinc (q := 72) (i := 3) (lv' := [(3, .int (i_2 + (1 : Int32))), (0, .ref a0), (1, .int i1), (2, .int i2)]) C 3 (i_2 + (1 : Int32)) dX9_copies_69 rfl (kn_1 _) (by decide) rfl rfl ?_
      refine z_goto (q := 41) C dX9_copies_72 (by decide) ?_
      refine z_lv [1, 2, 3, 0] rfl ?_
      have hc1 := zl_c hf hx1
      exact hc1
  · refine z_aload_n (q := 10) (i := 0) C 0 dX9_copies_9 rfl rfl rfl ?_
    refine z_getR (q := 13) C flX9_7 dX9_copies_10 hf rfl fun v6 hf => ?_
    refine z_sipush (q := 16) C (430 : Int32) dX9_copies_13 ks_430 rfl ?_
    refine z_iload_n (q := 17) (i := 2) C 2 dX9_copies_16 rfl rfl rfl ?_
    refine z_imul (q := 18) C dX9_copies_17 rfl ?_
    refine z_iload_n (q := 19) (i := 3) C 3 dX9_copies_18 rfl rfl rfl ?_
    refine z_iadd (q := 20) C dX9_copies_19 rfl ?_
    refine z_aload_n (q := 21) (i := 0) C 0 dX9_copies_20 rfl rfl rfl ?_
    refine z_getR (q := 24) C flX9_7 dX9_copies_21 hf rfl fun v7 hf => ?_
    refine z_sipush (q := 27) C (430 : Int32) dX9_copies_24 ks_430 rfl ?_
    refine z_iload_n (q := 28) (i := 1) C 1 dX9_copies_27 rfl rfl rfl ?_
    refine z_imul (q := 29) C dX9_copies_28 rfl ?_
    refine z_iload_n (q := 30) (i := 3) C 3 dX9_copies_29 rfl rfl rfl ?_
    refine z_iadd (q := 31) C dX9_copies_30 rfl ?_
    refine z_iald (q := 32) C dX9_copies_31 hf rfl fun v8 hf => ?_
    refine z_iast (q := 33) C dX9_copies_32 hf rfl fun σ hf => ?_
    refine z_iinc (q := 36) (i := 3) (lv' := [(3, .int (i_1 + (1 : Int32))), (0, .ref a0), (1, .int i1), (2, .int i2)]) C 3 (i_1 + (1 : Int32)) dX9_copies_33 rfl (kn_1 _) (by decide) rfl rfl ?_
    refine z_goto (q := 2) C dX9_copies_36 (by decide) ?_
    refine z_lv [1, 2, 3, 0] rfl ?_
    have hc1 := zl_c hf hx1
    exact hc1

noncomputable def f_X9_mark (a0 : Nat) (σ : ZT) : Option (Int32 × ZT) :=
  (gI 9 953 a0 σ).bind fun v1 =>
  if v1 = (3 : Int32) then
  (bnd2 (vc 9 a0 σ (f_X9_refuse a0 (4 : Int32) σ)) fun v7 σ =>
  some (v7, σ))
  else
  ((gI 9 953 a0 σ).bind fun v2 =>
  (pI 9 953 a0 (v2 + (1 : Int32)) σ).bind fun σ =>
  (gI 9 953 a0 σ).bind fun v3 =>
  (vc 9 a0 σ (f_X9_copies a0 (0 : Int32) v3 σ)).bind fun σ =>
  (gI 9 953 a0 σ).bind fun v5 =>
  bnd2 (vc 9 a0 σ (f_X9_gives a0 v5 σ)) fun v6 σ =>
  some (v6, σ))
set_option maxHeartbeats 4000000 in
theorem m_X9_mark {l : Launch} {G : ZG} (a0 : Nat) (σ : ZT) {out : (Int32 × ZT)} (hf : f_X9_mark a0 σ = some out) : ZM l G yX9_mark cX9_mark 1 (some .int) [] 2 [.ref a0] σ (.returned (some (.int out.1))) out.2 := by
  refine ZM.of [(0, .ref a0)] rfl (Nat.le_of_ble_eq_true rfl) fun X (C : ZC G RX9 "mark" cX9_mark 1 (some .int) [] X 2) => ?_
  unfold f_X9_mark at hf
  refine z_aload_n (q := 1) (i := 0) C 0 dX9_mark_0 rfl rfl rfl ?_
  refine z_getI (q := 4) C flX9_474 dX9_mark_1 hf rfl fun v1 hf => ?_
  refine z_iconst (q := 5) C (3 : Int32) dX9_mark_4 ki_3 rfl ?_
  refine z_icmpne (q := 8) (tgt := 14) C dX9_mark_5 (by decide) rfl hf (fun c5 hf => ?_) (fun c5 hf => ?_)
  · refine z_aload_n (q := 15) (i := 0) C 0 dX9_mark_14 rfl rfl rfl ?_
    refine z_dup (q := 16) C dX9_mark_15 rfl rfl ?_
    refine z_getI (q := 19) C flX9_474 dX9_mark_16 hf rfl fun v2 hf => ?_
    refine z_iconst (q := 20) C (1 : Int32) dX9_mark_19 ki_1 rfl ?_
    refine z_iadd (q := 21) C dX9_mark_20 rfl ?_
    refine z_putI (q := 24) C puX9_474 dX9_mark_21 hf rfl fun σ hf => ?_
    refine z_aload_n (q := 25) (i := 0) C 0 dX9_mark_24 rfl rfl rfl ?_
    refine z_iconst (q := 26) C (0 : Int32) dX9_mark_25 ki_0 rfl ?_
    refine z_aload_n (q := 27) (i := 0) C 0 dX9_mark_26 rfl rfl rfl ?_
    refine z_getI (q := 30) C flX9_474 dX9_mark_27 hf rfl fun v3 hf => ?_
    refine z_callVv (q := 33) (As := [.int (0 : Int32), .int v3]) C (fun o ho => m_X9_copies _ _ _ _ ho) zk9 vvX9_477 cdX9_copies pnX9 dX9_mark_30 rfl (by decide) (Nat.le_of_ble_eq_true rfl) hf rfl fun σ hf => ?_
    refine z_aload_n (q := 34) (i := 0) C 0 dX9_mark_33 rfl rfl rfl ?_
    refine z_aload_n (q := 35) (i := 0) C 0 dX9_mark_34 rfl rfl rfl ?_
    refine z_getI (q := 38) C flX9_474 dX9_mark_35 hf rfl fun v5 hf => ?_
    refine z_callVi (q := 41) (As := [.int v5]) C (fun o ho => m_X9_gives _ _ _ ho) zk9 vvX9_107 cdX9_gives pnX9 dX9_mark_38 rfl (by decide) (Nat.le_of_ble_eq_true rfl) hf rfl fun v6 σ hf => ?_
    exact z_ireturn C rfl dX9_mark_41 (Option.some.inj hf)
  · refine z_aload_n (q := 9) (i := 0) C 0 dX9_mark_8 rfl rfl rfl ?_
    refine z_iconst (q := 10) C (4 : Int32) dX9_mark_9 ki_4 rfl ?_
    refine z_callVi (q := 13) (As := [.int (4 : Int32)]) C (fun o ho => m_X9_refuse _ _ _ ho) zk9 vvX9_103 cdX9_refuse pnX9 dX9_mark_10 rfl (by decide) (Nat.le_of_ble_eq_true rfl) hf rfl fun v7 σ hf => ?_
    exact z_ireturn C rfl dX9_mark_13 (Option.some.inj hf)

noncomputable def f_X9_back (a0 : Nat) (σ : ZT) : Option (Int32 × ZT) :=
  (gI 9 953 a0 σ).bind fun v1 =>
  if v1 = 0 then
  (bnd2 (vc 9 a0 σ (f_X9_refuse a0 (6 : Int32) σ)) fun v7 σ =>
  some (v7, σ))
  else
  ((gI 9 953 a0 σ).bind fun v2 =>
  (vc 9 a0 σ (f_X9_copies a0 v2 (0 : Int32) σ)).bind fun σ =>
  (gI 9 953 a0 σ).bind fun v4 =>
  (pI 9 953 a0 (v4 - (1 : Int32)) σ).bind fun σ =>
  (gI 9 953 a0 σ).bind fun v5 =>
  bnd2 (vc 9 a0 σ (f_X9_gives a0 v5 σ)) fun v6 σ =>
  some (v6, σ))
set_option maxHeartbeats 4000000 in
theorem m_X9_back {l : Launch} {G : ZG} (a0 : Nat) (σ : ZT) {out : (Int32 × ZT)} (hf : f_X9_back a0 σ = some out) : ZM l G yX9_back cX9_back 1 (some .int) [] 2 [.ref a0] σ (.returned (some (.int out.1))) out.2 := by
  refine ZM.of [(0, .ref a0)] rfl (Nat.le_of_ble_eq_true rfl) fun X (C : ZC G RX9 "back" cX9_back 1 (some .int) [] X 2) => ?_
  unfold f_X9_back at hf
  refine z_aload_n (q := 1) (i := 0) C 0 dX9_back_0 rfl rfl rfl ?_
  refine z_getI (q := 4) C flX9_474 dX9_back_1 hf rfl fun v1 hf => ?_
  refine z_ifne (q := 7) (tgt := 14) C dX9_back_4 (by decide) rfl hf (fun c4 hf => ?_) (fun c4 hf => ?_)
  · refine z_aload_n (q := 15) (i := 0) C 0 dX9_back_14 rfl rfl rfl ?_
    refine z_aload_n (q := 16) (i := 0) C 0 dX9_back_15 rfl rfl rfl ?_
    refine z_getI (q := 19) C flX9_474 dX9_back_16 hf rfl fun v2 hf => ?_
    refine z_iconst (q := 20) C (0 : Int32) dX9_back_19 ki_0 rfl ?_
    refine z_callVv (q := 23) (As := [.int v2, .int (0 : Int32)]) C (fun o ho => m_X9_copies _ _ _ _ ho) zk9 vvX9_477 cdX9_copies pnX9 dX9_back_20 rfl (by decide) (Nat.le_of_ble_eq_true rfl) hf rfl fun σ hf => ?_
    refine z_aload_n (q := 24) (i := 0) C 0 dX9_back_23 rfl rfl rfl ?_
    refine z_dup (q := 25) C dX9_back_24 rfl rfl ?_
    refine z_getI (q := 28) C flX9_474 dX9_back_25 hf rfl fun v4 hf => ?_
    refine z_iconst (q := 29) C (1 : Int32) dX9_back_28 ki_1 rfl ?_
    refine z_isub (q := 30) C dX9_back_29 rfl ?_
    refine z_putI (q := 33) C puX9_474 dX9_back_30 hf rfl fun σ hf => ?_
    refine z_aload_n (q := 34) (i := 0) C 0 dX9_back_33 rfl rfl rfl ?_
    refine z_aload_n (q := 35) (i := 0) C 0 dX9_back_34 rfl rfl rfl ?_
    refine z_getI (q := 38) C flX9_474 dX9_back_35 hf rfl fun v5 hf => ?_
    refine z_callVi (q := 41) (As := [.int v5]) C (fun o ho => m_X9_gives _ _ _ ho) zk9 vvX9_107 cdX9_gives pnX9 dX9_back_38 rfl (by decide) (Nat.le_of_ble_eq_true rfl) hf rfl fun v6 σ hf => ?_
    exact z_ireturn C rfl dX9_back_41 (Option.some.inj hf)
  · refine z_aload_n (q := 8) (i := 0) C 0 dX9_back_7 rfl rfl rfl ?_
    refine z_bipush (q := 10) C (6 : Int32) dX9_back_8 kb_6 rfl ?_
    refine z_callVi (q := 13) (As := [.int (6 : Int32)]) C (fun o ho => m_X9_refuse _ _ _ ho) zk9 vvX9_103 cdX9_refuse pnX9 dX9_back_10 rfl (by decide) (Nat.le_of_ble_eq_true rfl) hf rfl fun v7 σ hf => ?_
    exact z_ireturn C rfl dX9_back_13 (Option.some.inj hf)

