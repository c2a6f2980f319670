set_option maxRecDepth 100000
noncomputable def f_X10_isLetter_J41 (w0_41 : Int32) (σ : ZT) : Option (Int32 × ZT) :=
  (rz w0_41).bind fun z8 =>
  some (z8, σ)
noncomputable def f_X10_isLetter_J40  (σ : ZT) : Option (Int32 × ZT) :=
  f_X10_isLetter_J41 (0 : Int32) σ
noncomputable def f_X10_isLetter (a0 : Nat) (i1 : Int32) (σ : ZT) : Option (Int32 × ZT) :=
  (gI 10 1000 a0 σ).bind fun v1 =>
  if i1 < v1 then
  ((gR 10 1006 a0 σ).bind fun v2 =>
  (gR 0 1 v2 σ).bind fun v3 =>
  (ldI 2 v3 i1 σ).bind fun v4 =>
  if v4 < (97 : Int32) then
  (f_X10_isLetter_J40  σ)
  else
  ((gR 10 1006 a0 σ).bind fun v5 =>
  (gR 0 1 v5 σ).bind fun v6 =>
  (ldI 2 v6 i1 σ).bind fun v7 =>
  if (122 : Int32) < v7 then
  (f_X10_isLetter_J40  σ)
  else
  (f_X10_isLetter_J41 (1 : Int32) σ)))
  else
  (f_X10_isLetter_J40  σ)
set_option maxHeartbeats 4000000 in
theorem m_X10_isLetter {l : Launch} {G : ZG} (a0 : Nat) (i1 : Int32) (σ : ZT) {out : (Int32 × ZT)} (hf : f_X10_isLetter a0 i1 σ = some out) : ZM l G yX10_isLetter cX10_isLetter 2 (some .boolean) [] 1 [.ref a0, .int i1] σ (.returned (some (.int out.1))) out.2 := by
  refine ZM.of [(0, .ref a0), (1, .int i1)] rfl (Nat.le_of_ble_eq_true rfl) fun X (C : ZC G RX10 "isLetter" cX10_isLetter 2 (some .boolean) [] X 1) => ?_
  unfold f_X10_isLetter at hf
  have j41_0 : ∀ (w0_41 : Int32) (σ : ZT), f_X10_isLetter_J41 w0_41 σ = some out → ZW l G 2 X (ZQ G X (.returned (some (.int out.1))) out.2) σ 41 [] [.int w0_41] := by
    intro w0_41 σ hf
    unfold f_X10_isLetter_J41 at hf
    refine z_rz C hf fun hn hf => ?_
    exact z_zreturn C rfl hn dX10_isLetter_41 (Option.some.inj hf)
  have j40_0 : ∀  (σ : ZT), f_X10_isLetter_J40  σ = some out → ZW l G 2 X (ZQ G X (.returned (some (.int out.1))) out.2) σ 40 [] [] := by
    intro  σ hf
    unfold f_X10_isLetter_J40 at hf
    refine z_iconst (q := 41) C (0 : Int32) dX10_isLetter_40 ki_0 rfl ?_
    exact j41_0 (0 : Int32) σ hf
  refine z_iload_n (q := 1) (i := 1) C 1 dX10_isLetter_0 rfl rfl rfl ?_
  refine z_aload_n (q := 2) (i := 0) C 0 dX10_isLetter_1 rfl rfl rfl ?_
  refine z_getI (q := 5) C flX10_15 dX10_isLetter_2 hf rfl fun v1 hf => ?_
  refine z_icmpge (q := 8) (tgt := 40) C dX10_isLetter_5 (by decide) rfl hf (fun c5 hf => ?_) (fun c5 hf => ?_)
  · refine z_lv [] rfl ?_
    exact j40_0  σ hf
  · refine z_aload_n (q := 9) (i := 0) C 0 dX10_isLetter_8 rfl rfl rfl ?_
    refine z_getR (q := 12) C flX10_3 dX10_isLetter_9 hf rfl fun v2 hf => ?_
    refine z_getR (q := 15) C flX10_22 dX10_isLetter_12 hf rfl fun v3 hf => ?_
    refine z_iload_n (q := 16) (i := 1) C 1 dX10_isLetter_15 rfl rfl rfl ?_
    refine z_bald (q := 17) C dX10_isLetter_16 hf rfl fun v4 hf => ?_
    refine z_bipush (q := 19) C (97 : Int32) dX10_isLetter_17 kb_97 rfl ?_
    refine z_icmplt (q := 22) (tgt := 40) C dX10_isLetter_19 (by decide) rfl hf (fun c19 hf => ?_) (fun c19 hf => ?_)
    · refine z_lv [] rfl ?_
      exact j40_0  σ hf
    · refine z_aload_n (q := 23) (i := 0) C 0 dX10_isLetter_22 rfl rfl rfl ?_
      refine z_getR (q := 26) C flX10_3 dX10_isLetter_23 hf rfl fun v5 hf => ?_
      refine z_getR (q := 29) C flX10_22 dX10_isLetter_26 hf rfl fun v6 hf => ?_
      refine z_iload_n (q := 30) (i := 1) C 1 dX10_isLetter_29 rfl rfl rfl ?_
      refine z_bald (q := 31) C dX10_isLetter_30 hf rfl fun v7 hf => ?_
      refine z_bipush (q := 33) C (122 : Int32) dX10_isLetter_31 kb_122 rfl ?_
      refine z_icmpgt (q := 36) (tgt := 40) C dX10_isLetter_33 (by decide) rfl hf (fun c33 hf => ?_) (fun c33 hf => ?_)
      · refine z_lv [] rfl ?_
        exact j40_0  σ hf
      · refine z_iconst (q := 37) C (1 : Int32) dX10_isLetter_36 ki_1 rfl ?_
        refine z_goto (q := 41) C dX10_isLetter_37 (by decide) ?_
        refine z_lv [] rfl ?_
        exact j41_0 (1 : Int32) σ hf

noncomputable def f_X10_isDigit_J41 (w0_41 : Int32) (σ : ZT) : Option (Int32 × ZT) :=
  (rz w0_41).bind fun z8 =>
  some (z8, σ)
noncomputable def f_X10_isDigit_J40  (σ : ZT) : Option (Int32 × ZT) :=
  f_X10_isDigit_J41 (0 : Int32) σ
noncomputable def f_X10_isDigit (a0 : Nat) (i1 : Int32) (σ : ZT) : Option (Int32 × ZT) :=
  (gI 10 1000 a0 σ).bind fun v1 =>
  if i1 < v1 then
  ((gR 10 1006 a0 σ).bind fun v2 =>
  (gR 0 1 v2 σ).bind fun v3 =>
  (ldI 2 v3 i1 σ).bind fun v4 =>
  if v4 < (48 : Int32) then
  (f_X10_isDigit_J40  σ)
  else
  ((gR 10 1006 a0 σ).bind fun v5 =>
  (gR 0 1 v5 σ).bind fun v6 =>
  (ldI 2 v6 i1 σ).bind fun v7 =>
  if (57 : Int32) < v7 then
  (f_X10_isDigit_J40  σ)
  else
  (f_X10_isDigit_J41 (1 : Int32) σ)))
  else
  (f_X10_isDigit_J40  σ)
set_option maxHeartbeats 4000000 in
theorem m_X10_isDigit {l : Launch} {G : ZG} (a0 : Nat) (i1 : Int32) (σ : ZT) {out : (Int32 × ZT)} (hf : f_X10_isDigit a0 i1 σ = some out) : ZM l G yX10_isDigit cX10_isDigit 2 (some .boolean) [] 1 [.ref a0, .int i1] σ (.returned (some (.int out.1))) out.2 := by
  refine ZM.of [(0, .ref a0), (1, .int i1)] rfl (Nat.le_of_ble_eq_true rfl) fun X (C : ZC G RX10 "isDigit" cX10_isDigit 2 (some .boolean) [] X 1) => ?_
  unfold f_X10_isDigit at hf
  have j41_0 : ∀ (w0_41 : Int32) (σ : ZT), f_X10_isDigit_J41 w0_41 σ = some out → ZW l G 2 X (ZQ G X (.returned (some (.int out.1))) out.2) σ 41 [] [.int w0_41] := by
    intro w0_41 σ hf
    unfold f_X10_isDigit_J41 at hf
    refine z_rz C hf fun hn hf => ?_
    exact z_zreturn C rfl hn dX10_isDigit_41 (Option.some.inj hf)
  have j40_0 : ∀  (σ : ZT), f_X10_isDigit_J40  σ = some out → ZW l G 2 X (ZQ G X (.returned (some (.int out.1))) out.2) σ 40 [] [] := by
    intro  σ hf
    unfold f_X10_isDigit_J40 at hf
    refine z_iconst (q := 41) C (0 : Int32) dX10_isDigit_40 ki_0 rfl ?_
    exact j41_0 (0 : Int32) σ hf
  refine z_iload_n (q := 1) (i := 1) C 1 dX10_isDigit_0 rfl rfl rfl ?_
  refine z_aload_n (q := 2) (i := 0) C 0 dX10_isDigit_1 rfl rfl rfl ?_
  refine z_getI (q := 5) C flX10_15 dX10_isDigit_2 hf rfl fun v1 hf => ?_
  refine z_icmpge (q := 8) (tgt := 40) C dX10_isDigit_5 (by decide) rfl hf (fun c5 hf => ?_) (fun c5 hf => ?_)
  · refine z_lv [] rfl ?_
    exact j40_0  σ hf
  · refine z_aload_n (q := 9) (i := 0) C 0 dX10_isDigit_8 rfl rfl rfl ?_
    refine z_getR (q := 12) C flX10_3 dX10_isDigit_9 hf rfl fun v2 hf => ?_
    refine z_getR (q := 15) C flX10_22 dX10_isDigit_12 hf rfl fun v3 hf => ?_
    refine z_iload_n (q := 16) (i := 1) C 1 dX10_isDigit_15 rfl rfl rfl ?_
    refine z_bald (q := 17) C dX10_isDigit_16 hf rfl fun v4 hf => ?_
    refine z_bipush (q := 19) C (48 : Int32) dX10_isDigit_17 kb_48 rfl ?_
    refine z_icmplt (q := 22) (tgt := 40) C dX10_isDigit_19 (by decide) rfl hf (fun c19 hf => ?_) (fun c19 hf => ?_)
    · refine z_lv [] rfl ?_
      exact j40_0  σ hf
    · refine z_aload_n (q := 23) (i := 0) C 0 dX10_isDigit_22 rfl rfl rfl ?_
      refine z_getR (q := 26) C flX10_3 dX10_isDigit_23 hf rfl fun v5 hf => ?_
      refine z_getR (q := 29) C flX10_22 dX10_isDigit_26 hf rfl fun v6 hf => ?_
      refine z_iload_n (q := 30) (i := 1) C 1 dX10_isDigit_29 rfl rfl rfl ?_
      refine z_bald (q := 31) C dX10_isDigit_30 hf rfl fun v7 hf => ?_
      refine z_bipush (q := 33) C (57 : Int32) dX10_isDigit_31 kb_57 rfl ?_
      refine z_icmpgt (q := 36) (tgt := 40) C dX10_isDigit_33 (by decide) rfl hf (fun c33 hf => ?_) (fun c33 hf => ?_)
      · refine z_lv [] rfl ?_
        exact j40_0  σ hf
      · refine z_iconst (q := 37) C (1 : Int32) dX10_isDigit_36 ki_1 rfl ?_
        refine z_goto (q := 41) C dX10_isDigit_37 (by decide) ?_
        refine z_lv [] rfl ?_
        exact j41_0 (1 : Int32) σ hf

noncomputable def f_X10_next_J53_8 (a0_53 : Nat) (σ : ZT) : Option (ZT ⊕ ZT) :=
  (gI 10 1001 a0_53 σ).bind fun v12 =>
  (pI 10 1001 a0_53 (v12 + (1 : Int32)) σ).bind fun σ =>
  some (.inl σ)
noncomputable def f_X10_next_L8 (c0_8 : Nat)  (σ : ZT) : Option (ZT ⊕ ZT) :=
  (gI 10 1001 c0_8 σ).bind fun v2 =>
  (gI 10 1000 c0_8 σ).bind fun v3 =>
  if v2 < v3 then
  ((gR 10 1006 c0_8 σ).bind fun v4 =>
  (gR 0 1 v4 σ).bind fun v5 =>
  (gI 10 1001 c0_8 σ).bind fun v6 =>
  (ldI 2 v5 v6 σ).bind fun v7 =>
  if v7 = (10 : Int32) then
  (f_X10_next_J53_8 c0_8 σ)
  else
  ((gR 10 1006 c0_8 σ).bind fun v8 =>
  (gR 0 1 v8 σ).bind fun v9 =>
  (gI 10 1001 c0_8 σ).bind fun v10 =>
  (ldI 2 v9 v10 σ).bind fun v11 =>
  if v11 = (32 : Int32) then
  (f_X10_next_J53_8 c0_8 σ)
  else
  (some (.inr σ))))
  else
  (some (.inr σ))
noncomputable def f_X10_next_J198_147 (a0_198 : Nat) (σ : ZT) : Option (ZT ⊕ ZT) :=
  (gI 10 1002 a0_198 σ).bind fun v36 =>
  (pI 10 1002 a0_198 (v36 + (1 : Int32)) σ).bind fun σ =>
  some (.inl σ)
noncomputable def f_X10_next_L147 (c0_147 : Nat)  (σ : ZT) : Option (ZT ⊕ ZT) :=
  (gI 10 1002 c0_147 σ).bind fun v25 =>
  bnd2 (vc 10 c0_147 σ (f_X10_isDigit c0_147 v25 σ)) fun v26 σ =>
  if v26 = 0 then
  (some (.inr σ))
  else
  ((gI 10 1002 c0_147 σ).bind fun v29 =>
  (gI 10 1001 c0_147 σ).bind fun v30 =>
  if (v29 - v30) < (4 : Int32) then
  ((gI 10 1004 c0_147 σ).bind fun v31 =>
  (gR 10 1006 c0_147 σ).bind fun v32 =>
  (gR 0 1 v32 σ).bind fun v33 =>
  (gI 10 1002 c0_147 σ).bind fun v34 =>
  (ldI 2 v33 v34 σ).bind fun v35 =>
  (pI 10 1004 c0_147 ((((10 : Int32) * v31) + v35) - (48 : Int32)) σ).bind fun σ =>
  f_X10_next_J198_147 c0_147 σ)
  else
  (f_X10_next_J198_147 c0_147 σ))
noncomputable def f_X10_next_L107 (c0_107 : Nat)  (σ : ZT) : Option (ZT ⊕ ZT) :=
  (gI 10 1002 c0_107 σ).bind fun v39 =>
  bnd2 (vc 10 c0_107 σ (f_X10_isLetter c0_107 v39 σ)) fun v40 σ =>
  if v40 = 0 then
  (some (.inr σ))
  else
  ((gI 10 1002 c0_107 σ).bind fun v41 =>
  (pI 10 1002 c0_107 (v41 + (1 : Int32)) σ).bind fun σ =>
  some (.inl σ))
noncomputable def f_X10_next_J272  (σ : ZT) : Option ZT :=
  some σ
noncomputable def f_X10_next_J230 (w0_230 : Int32) (w1_230 : Nat) (σ : ZT) : Option ZT :=
  (pI 10 1003 w1_230 w0_230 σ).bind fun σ =>
  f_X10_next_J272  σ
noncomputable def f_X10_next_J269 (w0_269 : Int32) (w1_269 : Nat) (σ : ZT) : Option ZT :=
  (pI 10 1003 w1_269 w0_269 σ).bind fun σ =>
  f_X10_next_J272  σ
noncomputable def f_X10_next_J66 (a0_66 : Nat) (σ : ZT) : Option ZT :=
  (gI 10 1001 a0_66 σ).bind fun v13 =>
  (pI 10 1002 a0_66 v13 σ).bind fun σ =>
  (pI 10 1003 a0_66 (0 : Int32) σ).bind fun σ =>
  (gI 10 1001 a0_66 σ).bind fun v14 =>
  (gI 10 1000 a0_66 σ).bind fun v15 =>
  if v14 < v15 then
  ((gI 10 1001 a0_66 σ).bind fun v16 =>
  bnd2 (vc 10 a0_66 σ (f_X10_isLetter a0_66 v16 σ)) fun v17 σ =>
  if v17 = 0 then
  ((gI 10 1001 a0_66 σ).bind fun v18 =>
  bnd2 (vc 10 a0_66 σ (f_X10_isDigit a0_66 v18 σ)) fun v19 σ =>
  if v19 = 0 then
  ((gI 10 1001 a0_66 σ).bind fun v20 =>
  (pI 10 1002 a0_66 (v20 + (1 : Int32)) σ).bind fun σ =>
  (gR 10 1006 a0_66 σ).bind fun v21 =>
  (gR 0 1 v21 σ).bind fun v22 =>
  (gI 10 1001 a0_66 σ).bind fun v23 =>
  (ldI 2 v22 v23 σ).bind fun v24 =>
  if v24 = (59 : Int32) then
  (f_X10_next_J269 (3 : Int32) a0_66 σ)
  else
  (f_X10_next_J269 (4 : Int32) a0_66 σ))
  else
  ((pI 10 1004 a0_66 (0 : Int32) σ).bind fun σ =>
  (loopC (fun s : ZT => f_X10_next_L147 a0_66 s) σ).bind fun σ =>
  (gI 10 1002 a0_66 σ).bind fun v37 =>
  (gI 10 1001 a0_66 σ).bind fun v38 =>
  if (4 : Int32) < (v37 - v38) then
  (f_X10_next_J230 (4 : Int32) a0_66 σ)
  else
  (f_X10_next_J230 (2 : Int32) a0_66 σ)))
  else
  ((pI 10 1003 a0_66 (1 : Int32) σ).bind fun σ =>
  (loopC (fun s : ZT => f_X10_next_L107 a0_66 s) σ).bind fun σ =>
  f_X10_next_J272  σ))
  else
  (some σ)
noncomputable def f_X10_next (a0 : Nat) (σ : ZT) : Option ZT :=
  (gI 10 1002 a0 σ).bind fun v1 =>
  (pI 10 1001 a0 v1 σ).bind fun σ =>
  (loopC (fun s : ZT => f_X10_next_L8 a0 s) σ).bind fun σ =>
  f_X10_next_J66 a0 σ
set_option maxHeartbeats 4000000 in
theorem m_X10_next {l : Launch} {G : ZG} (a0 : Nat) (σ : ZT) {out : ZT} (hf : f_X10_next a0 σ = some out) : ZM l G yX10_next cX10_next 1 none [] 2 [.ref a0] σ (.returned none) out := by
  refine ZM.of [(0, .ref a0)] rfl (Nat.le_of_ble_eq_true rfl) fun X (C : ZC G RX10 "next" cX10_next 1 none [] X 2) => ?_
  unfold f_X10_next at hf
  have j272_0 : ∀  (σ : ZT), f_X10_next_J272  σ = some out → ZW l G 1 X (ZQ G X (.returned none) out) σ 272 [] [] := by
    intro  σ hf
    unfold f_X10_next_J272 at hf
    exact z_return C rfl dX10_next_272 (Option.some.inj hf)
  have j269_0 : ∀ (w0_269 : Int32) (w1_269 : Nat) (σ : ZT), f_X10_next_J269 w0_269 w1_269 σ = some out → ZW l G 1 X (ZQ G X (.returned none) out) σ 269 [] [.int w0_269, .ref w1_269] := by
    intro w0_269 w1_269 σ hf
    unfold f_X10_next_J269 at hf
    refine z_putI (q := 272) C puX10_32 dX10_next_269 hf rfl fun σ hf => ?_
    exact j272_0  σ hf
  have j230_0 : ∀ (w0_230 : Int32) (w1_230 : Nat) (σ : ZT), f_X10_next_J230 w0_230 w1_230 σ = some out → ZW l G 1 X (ZQ G X (.returned none) out) σ 230 [] [.int w0_230, .ref w1_230] := by
    intro w0_230 w1_230 σ hf
    unfold f_X10_next_J230 at hf
    refine z_putI (q := 233) C puX10_32 dX10_next_230 hf rfl fun σ hf => ?_
    refine z_goto (q := 272) C dX10_next_233 (by decide) ?_
    exact j272_0  σ hf
  have j66_0 : ∀ (a0_66 : Nat) (σ : ZT), f_X10_next_J66 a0_66 σ = some out → ZW l G 1 X (ZQ G X (.returned none) out) σ 66 [(0, .ref a0_66)] [] := by
    intro a0_66 σ hf
    unfold f_X10_next_J66 at hf
    refine z_aload_n (q := 67) (i := 0) C 0 dX10_next_66 rfl rfl rfl ?_
    refine z_aload_n (q := 68) (i := 0) C 0 dX10_next_67 rfl rfl rfl ?_
    refine z_getI (q := 71) C flX10_29 dX10_next_68 hf rfl fun v13 hf => ?_
    refine z_putI (q := 74) C puX10_26 dX10_next_71 hf rfl fun σ hf => ?_
    refine z_aload_n (q := 75) (i := 0) C 0 dX10_next_74 rfl rfl rfl ?_
    refine z_iconst (q := 76) C (0 : Int32) dX10_next_75 ki_0 rfl ?_
    refine z_putI (q := 79) C puX10_32 dX10_next_76 hf rfl fun σ hf => ?_
    refine z_aload_n (q := 80) (i := 0) C 0 dX10_next_79 rfl rfl rfl ?_
    refine z_getI (q := 83) C flX10_29 dX10_next_80 hf rfl fun v14 hf => ?_
    refine z_aload_n (q := 84) (i := 0) C 0 dX10_next_83 rfl rfl rfl ?_
    refine z_getI (q := 87) C flX10_15 dX10_next_84 hf rfl fun v15 hf => ?_
    refine z_icmplt (q := 90) (tgt := 91) C dX10_next_87 (by decide) rfl hf (fun c87 hf => ?_) (fun c87 hf => ?_)
    · refine z_aload_n (q := 92) (i := 0) C 0 dX10_next_91 rfl rfl rfl ?_
      refine z_aload_n (q := 93) (i := 0) C 0 dX10_next_92 rfl rfl rfl ?_
      refine z_getI (q := 96) C flX10_29 dX10_next_93 hf rfl fun v16 hf => ?_
      refine z_callVi (q := 99) (As := [.int v16]) C (fun o ho => m_X10_isLetter _ _ _ ho) zk10 vvX10_35 cdX10_isLetter pnX10 dX10_next_96 rfl (by decide) (Nat.le_of_ble_eq_true rfl) hf rfl fun v17 σ hf => ?_
      refine z_ifeq (q := 102) (tgt := 131) C dX10_next_99 (by decide) rfl hf (fun c99 hf => ?_) (fun c99 hf => ?_)
      · refine z_aload_n (q := 132) (i := 0) C 0 dX10_next_131 rfl rfl rfl ?_
        refine z_aload_n (q := 133) (i := 0) C 0 dX10_next_132 rfl rfl rfl ?_
        refine z_getI (q := 136) C flX10_29 dX10_next_133 hf rfl fun v18 hf => ?_
        refine z_callVi (q := 139) (As := [.int v18]) C (fun o ho => m_X10_isDigit _ _ _ ho) zk10 vvX10_39 cdX10_isDigit pnX10 dX10_next_136 rfl (by decide) (Nat.le_of_ble_eq_true rfl) hf rfl fun v19 σ hf => ?_
        refine z_ifeq (q := 142) (tgt := 236) C dX10_next_139 (by decide) rfl hf (fun c139 hf => ?_) (fun c139 hf => ?_)
        · refine z_aload_n (q := 237) (i := 0) C 0 dX10_next_236 rfl rfl rfl ?_
          refine z_aload_n (q := 238) (i := 0) C 0 dX10_next_237 rfl rfl rfl ?_
          refine z_getI (q := 241) C flX10_29 dX10_next_238 hf rfl fun v20 hf => ?_
          refine z_iconst (q := 242) C (1 : Int32) dX10_next_241 ki_1 rfl ?_
          refine z_iadd (q := 243) C dX10_next_242 rfl ?_
          refine z_putI (q := 246) C puX10_26 dX10_next_243 hf rfl fun σ hf => ?_
          refine z_aload_n (q := 247) (i := 0) C 0 dX10_next_246 rfl rfl rfl ?_
          refine z_aload_n (q := 248) (i := 0) C 0 dX10_next_247 rfl rfl rfl ?_
          refine z_getR (q := 251) C flX10_3 dX10_next_248 hf rfl fun v21 hf => ?_
          refine z_getR (q := 254) C flX10_22 dX10_next_251 hf rfl fun v22 hf => ?_
          refine z_aload_n (q := 255) (i := 0) C 0 dX10_next_254 rfl rfl rfl ?_
          refine z_getI (q := 258) C flX10_29 dX10_next_255 hf rfl fun v23 hf => ?_
          refine z_bald (q := 259) C dX10_next_258 hf rfl fun v24 hf => ?_
          refine z_bipush (q := 261) C (59 : Int32) dX10_next_259 kb_59 rfl ?_
          refine z_icmpne (q := 264) (tgt := 268) C dX10_next_261 (by decide) rfl hf (fun c261 hf => ?_) (fun c261 hf => ?_)
          · refine z_iconst (q := 269) C (4 : Int32) dX10_next_268 ki_4 rfl ?_
            refine z_lv [] rfl ?_
            exact j269_0 (4 : Int32) a0_66 σ hf
          · refine z_iconst (q := 265) C (3 : Int32) dX10_next_264 ki_3 rfl ?_
            refine z_goto (q := 269) C dX10_next_265 (by decide) ?_
            refine z_lv [] rfl ?_
            exact j269_0 (3 : Int32) a0_66 σ hf
        · refine z_aload_n (q := 143) (i := 0) C 0 dX10_next_142 rfl rfl rfl ?_
          refine z_iconst (q := 144) C (0 : Int32) dX10_next_143 ki_0 rfl ?_
          refine z_putI (q := 147) C puX10_42 dX10_next_144 hf rfl fun σ hf => ?_
          obtain ⟨r1, hr1, hk1⟩ := Option.bind_eq_some_iff.mp hf
          refine loopC_ind (P := fun s => ZW l G 1 X (ZQ G X (.returned none) out) s 147 [(0, .ref a0_66)] []) (fun σ x1 hf hx1 => ?_) hr1
          unfold f_X10_next_L147 at hf
          try dsimp only at hf
          try dsimp only
          have j198_1 : ∀  (σ : ZT), f_X10_next_J198_147 a0_66 σ = some x1 → ZW l G 1 X (ZQ G X (.returned none) out) σ 198 [(0, .ref a0_66)] [] := by
            intro  σ hf
            unfold f_X10_next_J198_147 at hf
            refine z_aload_n (q := 199) (i := 0) C 0 dX10_next_198 rfl rfl rfl ?_
            refine z_dup (q := 200) C dX10_next_199 rfl rfl ?_
            refine z_getI (q := 203) C flX10_26 dX10_next_200 hf rfl fun v36 hf => ?_
            refine z_iconst (q := 204) C (1 : Int32) dX10_next_203 ki_1 rfl ?_
            refine z_iadd (q := 205) C dX10_next_204 rfl ?_
            refine z_putI (q := 208) C puX10_26 dX10_next_205 hf rfl fun σ hf => ?_
            refine z_goto (q := 147) C dX10_next_208 (by decide) ?_
            have hc1 := zl_c hf hx1
            exact hc1
          refine z_aload_n (q := 148) (i := 0) C 0 dX10_next_147 rfl rfl rfl ?_
          refine z_aload_n (q := 149) (i := 0) C 0 dX10_next_148 rfl rfl rfl ?_
          refine z_getI (q := 152) C flX10_26 dX10_next_149 hf rfl fun v25 hf => ?_
          refine z_callVi (q := 155) (As := [.int v25]) C (fun o ho => m_X10_isDigit _ _ _ ho) zk10 vvX10_39 cdX10_isDigit pnX10 dX10_next_152 rfl (by decide) (Nat.le_of_ble_eq_true rfl) hf rfl fun v26 σ hf => ?_
          refine z_ifeq (q := 158) (tgt := 211) C dX10_next_155 (by decide) rfl hf (fun c155 hf => ?_) (fun c155 hf => ?_)
          · have e1 := zl_x hf hx1
            have hf := hk1
            rw [← e1] at hf
            try dsimp only at hf
            refine z_aload_n (q := 212) (i := 0) C 0 dX10_next_211 rfl rfl rfl ?_
            refine z_aload_n (q := 213) (i := 0) C 0 dX10_next_212 rfl rfl rfl ?_
            refine z_getI (q := 216) C flX10_26 dX10_next_213 hf rfl fun v27 hf => ?_
            refine z_aload_n (q := 217) (i := 0) C 0 dX10_next_216 rfl rfl rfl ?_
            refine z_getI (q := 220) C flX10_29 dX10_next_217 hf rfl fun v28 hf => ?_
            refine z_isub (q := 221) C dX10_next_220 rfl ?_
            refine z_iconst (q := 222) C (4 : Int32) dX10_next_221 ki_4 rfl ?_
            refine z_icmple (q := 225) (tgt := 229) C dX10_next_222 (by decide) rfl hf (fun c222 hf => ?_) (fun c222 hf => ?_)
            · refine z_iconst (q := 230) C (2 : Int32) dX10_next_229 ki_2 rfl ?_
              refine z_lv [] rfl ?_
              exact j230_0 (2 : Int32) a0_66 σ hf
            · refine z_iconst (q := 226) C (4 : Int32) dX10_next_225 ki_4 rfl ?_
              refine z_goto (q := 230) C dX10_next_226 (by decide) ?_
              refine z_lv [] rfl ?_
              exact j230_0 (4 : Int32) a0_66 σ hf
          · refine z_aload_n (q := 159) (i := 0) C 0 dX10_next_158 rfl rfl rfl ?_
            refine z_getI (q := 162) C flX10_26 dX10_next_159 hf rfl fun v29 hf => ?_
            refine z_aload_n (q := 163) (i := 0) C 0 dX10_next_162 rfl rfl rfl ?_
            refine z_getI (q := 166) C flX10_29 dX10_next_163 hf rfl fun v30 hf => ?_
            refine z_isub (q := 167) C dX10_next_166 rfl ?_
            refine z_iconst (q := 168) C (4 : Int32) dX10_next_167 ki_4 rfl ?_
            refine z_icmpge (q := 171) (tgt := 198) C dX10_next_168 (by decide) rfl hf (fun c168 hf => ?_) (fun c168 hf => ?_)
            · exact j198_1  σ hf
            · refine z_aload_n (q := 172) (i := 0) C 0 dX10_next_171 rfl rfl rfl ?_
              refine z_bipush (q := 174) C (10 : Int32) dX10_next_172 kb_10 rfl ?_
              refine z_aload_n (q := 175) (i := 0) C 0 dX10_next_174 rfl rfl rfl ?_
              refine z_getI (q := 178) C flX10_42 dX10_next_175 hf rfl fun v31 hf => ?_
              refine z_imul (q := 179) C dX10_next_178 rfl ?_
              refine z_aload_n (q := 180) (i := 0) C 0 dX10_next_179 rfl rfl rfl ?_
              refine z_getR (q := 183) C flX10_3 dX10_next_180 hf rfl fun v32 hf => ?_
              refine z_getR (q := 186) C flX10_22 dX10_next_183 hf rfl fun v33 hf => ?_
              refine z_aload_n (q := 187) (i := 0) C 0 dX10_next_186 rfl rfl rfl ?_
              refine z_getI (q := 190) C flX10_26 dX10_next_187 hf rfl fun v34 hf => ?_
              refine z_bald (q := 191) C dX10_next_190 hf rfl fun v35 hf => ?_
              refine z_iadd (q := 192) C dX10_next_191 rfl ?_
              refine z_bipush (q := 194) C (48 : Int32) dX10_next_192 kb_48 rfl ?_
              refine z_isub (q := 195) C dX10_next_194 rfl ?_
              refine z_putI (q := 198) C puX10_42 dX10_next_195 hf rfl fun σ hf => ?_
              exact j198_1  σ hf
      · refine z_aload_n (q := 103) (i := 0) C 0 dX10_next_102 rfl rfl rfl ?_
        refine z_iconst (q := 104) C (1 : Int32) dX10_next_103 ki_1 rfl ?_
        refine z_putI (q := 107) C puX10_32 dX10_next_104 hf rfl fun σ hf => ?_
        obtain ⟨r1, hr1, hk1⟩ := Option.bind_eq_some_iff.mp hf
        refine loopC_ind (P := fun s => ZW l G 1 X (ZQ G X (.returned none) out) s 107 [(0, .ref a0_66)] []) (fun σ x1 hf hx1 => ?_) hr1
        unfold f_X10_next_L107 at hf
        try dsimp only at hf
        try dsimp only
        refine z_aload_n (q := 108) (i := 0) C 0 dX10_next_107 rfl rfl rfl ?_
        refine z_aload_n (q := 109) (i := 0) C 0 dX10_next_108 rfl rfl rfl ?_
        refine z_getI (q := 112) C flX10_26 dX10_next_109 hf rfl fun v37 hf => ?_
        refine z_callVi (q := 115) (As := [.int v37]) C (fun o ho => m_X10_isLetter _ _ _ ho) zk10 vvX10_35 cdX10_isLetter pnX10 dX10_next_112 rfl (by decide) (Nat.le_of_ble_eq_true rfl) hf rfl fun v38 σ hf => ?_
        refine z_ifeq (q := 118) (tgt := 272) C dX10_next_115 (by decide) rfl hf (fun c115 hf => ?_) (fun c115 hf => ?_)
        · have e1 := zl_x hf hx1
          have hf := hk1
          rw [← e1] at hf
          try dsimp only at hf
          refine z_lv [] rfl ?_
          exact j272_0  σ hf
        · refine z_aload_n (q := 119) (i := 0) C 0 dX10_next_118 rfl rfl rfl ?_
          refine z_dup (q := 120) C dX10_next_119 rfl rfl ?_
          refine z_getI (q := 123) C flX10_26 dX10_next_120 hf rfl fun v39 hf => ?_
          refine z_iconst (q := 124) C (1 : Int32) dX10_next_123 ki_1 rfl ?_
          refine z_iadd (q := 125) C dX10_next_124 rfl ?_
          refine z_putI (q := 128) C puX10_26 dX10_next_125 hf rfl fun σ hf => ?_
          refine z_goto (q := 107) C dX10_next_128 (by decide) ?_
          have hc1 := zl_c hf hx1
          exact hc1
    · exact z_return C rfl dX10_next_90 (Option.some.inj hf)
  refine z_aload_n (q := 1) (i := 0) C 0 dX10_next_0 rfl rfl rfl ?_
  refine z_aload_n (q := 2) (i := 0) C 0 dX10_next_1 rfl rfl rfl ?_
  refine z_getI (q := 5) C flX10_26 dX10_next_2 hf rfl fun v1 hf => ?_
  refine z_putI (q := 8) C puX10_29 dX10_next_5 hf rfl fun σ hf => ?_
  obtain ⟨r1, hr1, hk1⟩ := Option.bind_eq_some_iff.mp hf
  refine loopC_ind (P := fun s => ZW l G 1 X (ZQ G X (.returned none) out) s 8 [(0, .ref a0)] []) (fun σ x1 hf hx1 => ?_) hr1
  unfold f_X10_next_L8 at hf
  try dsimp only at hf
  try dsimp only
  have j53_1 : ∀  (σ : ZT), f_X10_next_J53_8 a0 σ = some x1 → ZW l G 1 X (ZQ G X (.returned none) out) σ 53 [(0, .ref a0)] [] := by
    intro  σ hf
    unfold f_X10_next_J53_8 at hf
    refine z_aload_n (q := 54) (i := 0) C 0 dX10_next_53 rfl rfl rfl ?_
    refine z_dup (q := 55) C dX10_next_54 rfl rfl ?_
    refine z_getI (q := 58) C flX10_29 dX10_next_55 hf rfl fun v12 hf => ?_
    refine z_iconst (q := 59) C (1 : Int32) dX10_next_58 ki_1 rfl ?_
    refine z_iadd (q := 60) C dX10_next_59 rfl ?_
    refine z_putI (q := 63) C puX10_29 dX10_next_60 hf rfl fun σ hf => ?_
    refine z_goto (q := 8) C dX10_next_63 (by decide) ?_
    have hc1 := zl_c hf hx1
    exact hc1
  refine z_aload_n (q := 9) (i := 0) C 0 dX10_next_8 rfl rfl rfl ?_
  refine z_getI (q := 12) C flX10_29 dX10_next_9 hf rfl fun v2 hf => ?_
  refine z_aload_n (q := 13) (i := 0) C 0 dX10_next_12 rfl rfl rfl ?_
  refine z_getI (q := 16) C flX10_15 dX10_next_13 hf rfl fun v3 hf => ?_
  refine z_icmpge (q := 19) (tgt := 66) C dX10_next_16 (by decide) rfl hf (fun c16 hf => ?_) (fun c16 hf => ?_)
  · have e1 := zl_x hf hx1
    have hf := hk1
    rw [← e1] at hf
    try dsimp only at hf
    exact j66_0 a0 σ hf
  · refine z_aload_n (q := 20) (i := 0) C 0 dX10_next_19 rfl rfl rfl ?_
    refine z_getR (q := 23) C flX10_3 dX10_next_20 hf rfl fun v4 hf => ?_
    refine z_getR (q := 26) C flX10_22 dX10_next_23 hf rfl fun v5 hf => ?_
    refine z_aload_n (q := 27) (i := 0) C 0 dX10_next_26 rfl rfl rfl ?_
    refine z_getI (q := 30) C flX10_29 dX10_next_27 hf rfl fun v6 hf => ?_
    refine z_bald (q := 31) C dX10_next_30 hf rfl fun v7 hf => ?_
    refine z_bipush (q := 33) C (10 : Int32) dX10_next_31 kb_10 rfl ?_
    refine z_icmpeq (q := 36) (tgt := 53) C dX10_next_33 (by decide) rfl hf (fun c33 hf => ?_) (fun c33 hf => ?_)
    · exact j53_1  σ hf
    · refine z_aload_n (q := 37) (i := 0) C 0 dX10_next_36 rfl rfl rfl ?_
      refine z_getR (q := 40) C flX10_3 dX10_next_37 hf rfl fun v8 hf => ?_
      refine z_getR (q := 43) C flX10_22 dX10_next_40 hf rfl fun v9 hf => ?_
      refine z_aload_n (q := 44) (i := 0) C 0 dX10_next_43 rfl rfl rfl ?_
      refine z_getI (q := 47) C flX10_29 dX10_next_44 hf rfl fun v10 hf => ?_
      refine z_bald (q := 48) C dX10_next_47 hf rfl fun v11 hf => ?_
      refine z_bipush (q := 50) C (32 : Int32) dX10_next_48 kb_32 rfl ?_
      refine z_icmpne (q := 53) (tgt := 66) C dX10_next_50 (by decide) rfl hf (fun c50 hf => ?_) (fun c50 hf => ?_)
      · have e1 := zl_x hf hx1
        have hf := hk1
        rw [← e1] at hf
        try dsimp only at hf
        exact j66_0 a0 σ hf
      · exact j53_1  σ hf

noncomputable def f_X10_init (a0 : Nat) (a1 : Nat) (i2 : Int32) (σ : ZT) : Option ZT :=
  (pR 10 1006 a0 (some a1) σ).bind fun σ =>
  (pI 10 1000 a0 i2 σ).bind fun σ =>
  (vc 10 a0 σ (f_X10_next a0 σ)).bind fun σ =>
  some σ
set_option maxHeartbeats 4000000 in
theorem m_X10_init {l : Launch} {G : ZG} (a0 : Nat) (a1 : Nat) (i2 : Int32) (σ : ZT) {out : ZT} (hf : f_X10_init a0 a1 i2 σ = some out) : ZM l G yX10_init cX10_init 3 none [] 3 [.ref a0, .ref a1, .int i2] σ (.returned none) out := by
  refine ZM.of [(0, .ref a0), (1, .ref a1), (2, .int i2)] rfl (Nat.le_of_ble_eq_true rfl) fun X (C : ZC G RX10 "<init>" cX10_init 3 none [] X 3) => ?_
  unfold f_X10_init at hf
  refine z_aload_n (q := 1) (i := 0) C 0 dX10_init_0 rfl rfl rfl ?_
  refine z_aload_n (q := 2) (i := 1) C 1 dX10_init_1 rfl rfl rfl ?_
  refine z_putR (q := 5) C puX10_3 rfl dX10_init_2 hf rfl fun σ hf => ?_
  refine z_aload_n (q := 6) (i := 0) C 0 dX10_init_5 rfl rfl rfl ?_
  refine z_objInit (q := 9) C q715 dX10_init_6 rfl (by decide) (Nat.le_of_ble_eq_true rfl) ?_
  refine z_aload_n (q := 10) (i := 0) C 0 dX10_init_9 rfl rfl rfl ?_
  refine z_iload_n (q := 11) (i := 2) C 2 dX10_init_10 rfl rfl rfl ?_
  refine z_putI (q := 14) C puX10_15 dX10_init_11 hf rfl fun σ hf => ?_
  refine z_aload_n (q := 15) (i := 0) C 0 dX10_init_14 rfl rfl rfl ?_
  refine z_callVv (q := 18) (As := []) C (fun o ho => m_X10_next _ _ ho) zk10 vvX10_19 cdX10_next pnX10 dX10_init_15 rfl (by decide) (Nat.le_of_ble_eq_true rfl) hf rfl fun σ hf => ?_
  exact z_return C rfl dX10_init_18 (Option.some.inj hf)

noncomputable def f_X10_isWord_L28 (c0_28 : Nat) (c1_28 : Nat) (i_5 : Int32) (σ : ZT) : Option ((Int32 × ZT) ⊕ ((Int32 × ZT) ⊕ ZT)) :=
  (zslen c1_28).bind fun v6 =>
  if i_5 < v6 then
  ((gR 10 1006 c0_28 σ).bind fun v7 =>
  (gR 0 1 v7 σ).bind fun v8 =>
  (gI 10 1001 c0_28 σ).bind fun v9 =>
  (ldI 2 v8 (v9 + i_5) σ).bind fun v10 =>
  (zschr c1_28 i_5).bind fun v11 =>
  if v10 = v11 then
  (some (.inl ((i_5 + (1 : Int32)), σ)))
  else
  (some (.inr (.inl ((0 : Int32), σ)))))
  else
  (some (.inr (.inr σ)))
noncomputable def f_X10_isWord_J24  (σ : ZT) : Option (Int32 × ZT) :=
  some ((0 : Int32), σ)
noncomputable def f_X10_isWord (a0 : Nat) (s1 : Nat) (σ : ZT) : Option (Int32 × ZT) :=
  (gI 10 1003 a0 σ).bind fun v1 =>
  if v1 = (1 : Int32) then
  ((gI 10 1002 a0 σ).bind fun v2 =>
  (gI 10 1001 a0 σ).bind fun v3 =>
  (zslen s1).bind fun v4 =>
  if (v2 - v3) = v4 then
  ((loopC (fun s : (Int32 × ZT) => f_X10_isWord_L28 a0 s1 s.1 s.2) ((0 : Int32), σ)).bind fun x => (match x with
  | .inl o => some o
  | .inr σ => some ((1 : Int32), σ)))
  else
  (f_X10_isWord_J24  σ))
  else
  (f_X10_isWord_J24  σ)
set_option maxHeartbeats 4000000 in
theorem m_X10_isWord {l : Launch} {G : ZG} (a0 : Nat) (s1 : Nat) (σ : ZT) {out : (Int32 × ZT)} (hf : f_X10_isWord a0 s1 σ = some out) : ZM l G yX10_isWord cX10_isWord 3 (some .boolean) [] 6 [.ref a0, .ref (gS G s1)] σ (.returned (some (.int out.1))) out.2 := by
  refine ZM.of [(0, .ref a0), (1, .ref (gS G s1))] rfl (Nat.le_of_ble_eq_true rfl) fun X (C : ZC G RX10 "isWord" cX10_isWord 3 (some .boolean) [] X 6) => ?_
  unfold f_X10_isWord at hf
  have j24_0 : ∀  (σ : ZT), f_X10_isWord_J24  σ = some out → ZW l G 3 X (ZQ G X (.returned (some (.int out.1))) out.2) σ 24 [] [] := by
    intro  σ hf
    unfold f_X10_isWord_J24 at hf
    refine z_iconst (q := 25) C (0 : Int32) dX10_isWord_24 ki_0 rfl ?_
    exact z_zreturn C rfl z_nb0 dX10_isWord_25 (Option.some.inj hf)
  refine z_aload_n (q := 1) (i := 0) C 0 dX10_isWord_0 rfl rfl rfl ?_
  refine z_getI (q := 4) C flX10_32 dX10_isWord_1 hf rfl fun v1 hf => ?_
  refine z_iconst (q := 5) C (1 : Int32) dX10_isWord_4 ki_1 rfl ?_
  refine z_icmpne (q := 8) (tgt := 24) C dX10_isWord_5 (by decide) rfl hf (fun c5 hf => ?_) (fun c5 hf => ?_)
  · refine z_lv [] rfl ?_
    exact j24_0  σ hf
  · refine z_aload_n (q := 9) (i := 0) C 0 dX10_isWord_8 rfl rfl rfl ?_
    refine z_getI (q := 12) C flX10_26 dX10_isWord_9 hf rfl fun v2 hf => ?_
    refine z_aload_n (q := 13) (i := 0) C 0 dX10_isWord_12 rfl rfl rfl ?_
    refine z_getI (q := 16) C flX10_29 dX10_isWord_13 hf rfl fun v3 hf => ?_
    refine z_isub (q := 17) C dX10_isWord_16 rfl ?_
    refine z_aload_n (q := 18) (i := 1) C 1 dX10_isWord_17 rfl rfl rfl ?_
    refine z_strLen (q := 21) C q760 dX10_isWord_18 (by decide) (Nat.le_of_ble_eq_true rfl) hf rfl fun v4 hf => ?_
    refine z_icmpeq (q := 24) (tgt := 26) C dX10_isWord_21 (by decide) rfl hf (fun c21 hf => ?_) (fun c21 hf => ?_)
    · refine z_iconst (q := 27) C (0 : Int32) dX10_isWord_26 ki_0 rfl ?_
      refine z_istore_n (q := 28) (i := 2) (lv' := [(2, .int (0 : Int32)), (0, .ref a0), (1, .ref (gS G s1))]) C dX10_isWord_27 rfl (by decide) rfl rfl ?_
      refine z_lv [1, 2, 0] rfl ?_
      obtain ⟨r1, hr1, hk1⟩ := Option.bind_eq_some_iff.mp hf
      refine loopC_ind (P := fun s => ZW l G 3 X (ZQ G X (.returned (some (.int out.1))) out.2) s.2 28 [(0, .ref a0), (1, .ref (gS G s1)), (2, .int s.1)] []) (fun s x1 hf hx1 => ?_) hr1
      obtain ⟨i_5, σ⟩ := s
      unfold f_X10_isWord_L28 at hf
      try dsimp only at hf
      try dsimp only
      refine z_iload_n (q := 29) (i := 2) C 2 dX10_isWord_28 rfl rfl rfl ?_
      refine z_aload_n (q := 30) (i := 1) C 1 dX10_isWord_29 rfl rfl rfl ?_
      refine z_strLen (q := 33) C q760 dX10_isWord_30 (by decide) (Nat.le_of_ble_eq_true rfl) hf rfl fun v6 hf => ?_
      refine z_icmpge (q := 36) (tgt := 66) C dX10_isWord_33 (by decide) rfl hf (fun c33 hf => ?_) (fun c33 hf => ?_)
      · have e1 := zl_x hf hx1
        have hf := hk1
        rw [← e1] at hf
        try dsimp only at hf
        refine z_iconst (q := 67) C (1 : Int32) dX10_isWord_66 ki_1 rfl ?_
        exact z_zreturn C rfl z_nb1 dX10_isWord_67 (Option.some.inj hf)
      · refine z_aload_n (q := 37) (i := 0) C 0 dX10_isWord_36 rfl rfl rfl ?_
        refine z_getR (q := 40) C flX10_3 dX10_isWord_37 hf rfl fun v7 hf => ?_
        refine z_getR (q := 43) C flX10_22 dX10_isWord_40 hf rfl fun v8 hf => ?_
        refine z_aload_n (q := 44) (i := 0) C 0 dX10_isWord_43 rfl rfl rfl ?_
        refine z_getI (q := 47) C flX10_29 dX10_isWord_44 hf rfl fun v9 hf => ?_
        refine z_iload_n (q := 48) (i := 2) C 2 dX10_isWord_47 rfl rfl rfl ?_
        refine z_iadd (q := 49) C dX10_isWord_48 rfl ?_
        refine z_bald (q := 50) C dX10_isWord_49 hf rfl fun v10 hf => ?_
        refine z_aload_n (q := 51) (i := 1) C 1 dX10_isWord_50 rfl rfl rfl ?_
        refine z_iload_n (q := 52) (i := 2) C 2 dX10_isWord_51 rfl rfl rfl ?_
        refine z_strChr (q := 55) C q770 dX10_isWord_52 (by decide) (Nat.le_of_ble_eq_true rfl) hf rfl fun v11 hf => ?_
        refine z_icmpeq (q := 58) (tgt := 60) C dX10_isWord_55 (by decide) rfl hf (fun c55 hf => ?_) (fun c55 hf => ?_)
        · refine z_iinc (q := 63) (i := 2) (lv' := [(2, .int (i_5 + (1 : Int32))), (0, .ref a0), (1, .ref (gS G s1))]) C 2 (i_5 + (1 : Int32)) dX10_isWord_60 rfl (kn_1 _) (by decide) rfl rfl ?_
          refine z_goto (q := 28) C dX10_isWord_63 (by decide) ?_
          refine z_lv [1, 2, 0] rfl ?_
          have hc1 := zl_c hf hx1
          exact hc1
        · refine z_iconst (q := 59) C (0 : Int32) dX10_isWord_58 ki_0 rfl ?_
          have e1 := zl_x hf hx1
          have hf := hk1
          rw [← e1] at hf
          try dsimp only at hf
          exact z_zreturn C rfl z_nb0 dX10_isWord_59 (Option.some.inj hf)
    · refine z_lv [] rfl ?_
      exact j24_0  σ hf

noncomputable def f_X10_isKept_J305 (w0_305 : Int32) (σ : ZT) : Option (Int32 × ZT) :=
  (rz w0_305).bind fun z31 =>
  some (z31, σ)
noncomputable def f_X10_isKept_J300  (σ : ZT) : Option (Int32 × ZT) :=
  f_X10_isKept_J305 (1 : Int32) σ
noncomputable def f_X10_isKept_J233 (a0_233 : Nat) (i1_233 : Int32) (i2_233 : Int32) (w0_233 : Int32) (σ : ZT) : Option (Int32 × ZT) :=
  if i1_233 = 0 then
  (if i2_233 = 0 then
  (if w0_233 = 0 then
  (bnd2 (vc 10 a0_233 σ (f_X10_isWord a0_233 24 σ)) fun v25 σ =>
  if v25 = 0 then
  (bnd2 (vc 10 a0_233 σ (f_X10_isWord a0_233 25 σ)) fun v26 σ =>
  if v26 = 0 then
  (bnd2 (vc 10 a0_233 σ (f_X10_isWord a0_233 26 σ)) fun v27 σ =>
  if v27 = 0 then
  (bnd2 (vc 10 a0_233 σ (f_X10_isWord a0_233 27 σ)) fun v28 σ =>
  if v28 = 0 then
  (bnd2 (vc 10 a0_233 σ (f_X10_isWord a0_233 28 σ)) fun v29 σ =>
  if v29 = 0 then
  (bnd2 (vc 10 a0_233 σ (f_X10_isWord a0_233 29 σ)) fun v30 σ =>
  if v30 = 0 then
  (f_X10_isKept_J305 (0 : Int32) σ)
  else
  (f_X10_isKept_J300  σ))
  else
  (f_X10_isKept_J300  σ))
  else
  (f_X10_isKept_J300  σ))
  else
  (f_X10_isKept_J300  σ))
  else
  (f_X10_isKept_J300  σ))
  else
  (f_X10_isKept_J300  σ))
  else
  (f_X10_isKept_J300  σ))
  else
  (f_X10_isKept_J300  σ))
  else
  (f_X10_isKept_J300  σ)
noncomputable def f_X10_isKept_J228 (a0_228 : Nat) (i1_228 : Int32) (i2_228 : Int32) (σ : ZT) : Option (Int32 × ZT) :=
  f_X10_isKept_J233 a0_228 i1_228 i2_228 (1 : Int32) σ
noncomputable def f_X10_isKept_J155 (a0_155 : Nat) (i1_155 : Int32) (w0_155 : Int32) (σ : ZT) : Option (Int32 × ZT) :=
  bnd2 (vc 10 a0_155 σ (f_X10_isWord a0_155 16 σ)) fun v17 σ =>
  if v17 = 0 then
  (bnd2 (vc 10 a0_155 σ (f_X10_isWord a0_155 17 σ)) fun v18 σ =>
  if v18 = 0 then
  (bnd2 (vc 10 a0_155 σ (f_X10_isWord a0_155 18 σ)) fun v19 σ =>
  if v19 = 0 then
  (bnd2 (vc 10 a0_155 σ (f_X10_isWord a0_155 19 σ)) fun v20 σ =>
  if v20 = 0 then
  (bnd2 (vc 10 a0_155 σ (f_X10_isWord a0_155 20 σ)) fun v21 σ =>
  if v21 = 0 then
  (bnd2 (vc 10 a0_155 σ (f_X10_isWord a0_155 21 σ)) fun v22 σ =>
  if v22 = 0 then
  (bnd2 (vc 10 a0_155 σ (f_X10_isWord a0_155 22 σ)) fun v23 σ =>
  if v23 = 0 then
  (bnd2 (vc 10 a0_155 σ (f_X10_isWord a0_155 23 σ)) fun v24 σ =>
  if v24 = 0 then
  (f_X10_isKept_J233 a0_155 i1_155 w0_155 (0 : Int32) σ)
  else
  (f_X10_isKept_J228 a0_155 i1_155 w0_155 σ))
  else
  (f_X10_isKept_J228 a0_155 i1_155 w0_155 σ))
  else
  (f_X10_isKept_J228 a0_155 i1_155 w0_155 σ))
  else
  (f_X10_isKept_J228 a0_155 i1_155 w0_155 σ))
  else
  (f_X10_isKept_J228 a0_155 i1_155 w0_155 σ))
  else
  (f_X10_isKept_J228 a0_155 i1_155 w0_155 σ))
  else
  (f_X10_isKept_J228 a0_155 i1_155 w0_155 σ))
  else
  (f_X10_isKept_J228 a0_155 i1_155 w0_155 σ)
noncomputable def f_X10_isKept_J150 (a0_150 : Nat) (i1_150 : Int32) (σ : ZT) : Option (Int32 × ZT) :=
  f_X10_isKept_J155 a0_150 i1_150 (1 : Int32) σ
noncomputable def f_X10_isKept_J77 (a0_77 : Nat) (w0_77 : Int32) (σ : ZT) : Option (Int32 × ZT) :=
  bnd2 (vc 10 a0_77 σ (f_X10_isWord a0_77 8 σ)) fun v9 σ =>
  if v9 = 0 then
  (bnd2 (vc 10 a0_77 σ (f_X10_isWord a0_77 9 σ)) fun v10 σ =>
  if v10 = 0 then
  (bnd2 (vc 10 a0_77 σ (f_X10_isWord a0_77 10 σ)) fun v11 σ =>
  if v11 = 0 then
  (bnd2 (vc 10 a0_77 σ (f_X10_isWord a0_77 11 σ)) fun v12 σ =>
  if v12 = 0 then
  (bnd2 (vc 10 a0_77 σ (f_X10_isWord a0_77 12 σ)) fun v13 σ =>
  if v13 = 0 then
  (bnd2 (vc 10 a0_77 σ (f_X10_isWord a0_77 13 σ)) fun v14 σ =>
  if v14 = 0 then
  (bnd2 (vc 10 a0_77 σ (f_X10_isWord a0_77 14 σ)) fun v15 σ =>
  if v15 = 0 then
  (bnd2 (vc 10 a0_77 σ (f_X10_isWord a0_77 15 σ)) fun v16 σ =>
  if v16 = 0 then
  (f_X10_isKept_J155 a0_77 w0_77 (0 : Int32) σ)
  else
  (f_X10_isKept_J150 a0_77 w0_77 σ))
  else
  (f_X10_isKept_J150 a0_77 w0_77 σ))
  else
  (f_X10_isKept_J150 a0_77 w0_77 σ))
  else
  (f_X10_isKept_J150 a0_77 w0_77 σ))
  else
  (f_X10_isKept_J150 a0_77 w0_77 σ))
  else
  (f_X10_isKept_J150 a0_77 w0_77 σ))
  else
  (f_X10_isKept_J150 a0_77 w0_77 σ))
  else
  (f_X10_isKept_J150 a0_77 w0_77 σ)
noncomputable def f_X10_isKept_J72 (a0_72 : Nat) (σ : ZT) : Option (Int32 × ZT) :=
  f_X10_isKept_J77 a0_72 (1 : Int32) σ
noncomputable def f_X10_isKept (a0 : Nat) (σ : ZT) : Option (Int32 × ZT) :=
  bnd2 (vc 10 a0 σ (f_X10_isWord a0 0 σ)) fun v1 σ =>
  if v1 = 0 then
  (bnd2 (vc 10 a0 σ (f_X10_isWord a0 1 σ)) fun v2 σ =>
  if v2 = 0 then
  (bnd2 (vc 10 a0 σ (f_X10_isWord a0 2 σ)) fun v3 σ =>
  if v3 = 0 then
  (bnd2 (vc 10 a0 σ (f_X10_isWord a0 3 σ)) fun v4 σ =>
  if v4 = 0 then
  (bnd2 (vc 10 a0 σ (f_X10_isWord a0 4 σ)) fun v5 σ =>
  if v5 = 0 then
  (bnd2 (vc 10 a0 σ (f_X10_isWord a0 5 σ)) fun v6 σ =>
  if v6 = 0 then
  (bnd2 (vc 10 a0 σ (f_X10_isWord a0 6 σ)) fun v7 σ =>
  if v7 = 0 then
  (bnd2 (vc 10 a0 σ (f_X10_isWord a0 7 σ)) fun v8 σ =>
  if v8 = 0 then
  (f_X10_isKept_J77 a0 (0 : Int32) σ)
  else
  (f_X10_isKept_J72 a0 σ))
  else
  (f_X10_isKept_J72 a0 σ))
  else
  (f_X10_isKept_J72 a0 σ))
  else
  (f_X10_isKept_J72 a0 σ))
  else
  (f_X10_isKept_J72 a0 σ))
  else
  (f_X10_isKept_J72 a0 σ))
  else
  (f_X10_isKept_J72 a0 σ))
  else
  (f_X10_isKept_J72 a0 σ)
set_option maxHeartbeats 4000000 in
theorem m_X10_isKept {l : Launch} {G : ZG} (a0 : Nat) (σ : ZT) {out : (Int32 × ZT)} (hf : f_X10_isKept a0 σ = some out) : ZM l G yX10_isKept cX10_isKept 4 (some .boolean) [] 7 [.ref a0] σ (.returned (some (.int out.1))) out.2 := by
  refine ZM.of [(0, .ref a0)] rfl (Nat.le_of_ble_eq_true rfl) fun X (C : ZC G RX10 "isKept" cX10_isKept 4 (some .boolean) [] X 7) => ?_
  unfold f_X10_isKept at hf
  have j305_0 : ∀ (w0_305 : Int32) (σ : ZT), f_X10_isKept_J305 w0_305 σ = some out → ZW l G 4 X (ZQ G X (.returned (some (.int out.1))) out.2) σ 305 [] [.int w0_305] := by
    intro w0_305 σ hf
    unfold f_X10_isKept_J305 at hf
    refine z_rz C hf fun hn hf => ?_
    exact z_zreturn C rfl hn dX10_isKept_305 (Option.some.inj hf)
  have j300_0 : ∀  (σ : ZT), f_X10_isKept_J300  σ = some out → ZW l G 4 X (ZQ G X (.returned (some (.int out.1))) out.2) σ 300 [] [] := by
    intro  σ hf
    unfold f_X10_isKept_J300 at hf
    refine z_iconst (q := 301) C (1 : Int32) dX10_isKept_300 ki_1 rfl ?_
    refine z_goto (q := 305) C dX10_isKept_301 (by decide) ?_
    exact j305_0 (1 : Int32) σ hf
  have j233_0 : ∀ (a0_233 : Nat) (i1_233 : Int32) (i2_233 : Int32) (w0_233 : Int32) (σ : ZT), f_X10_isKept_J233 a0_233 i1_233 i2_233 w0_233 σ = some out → ZW l G 4 X (ZQ G X (.returned (some (.int out.1))) out.2) σ 233 [(0, .ref a0_233), (1, .int i1_233), (2, .int i2_233)] [.int w0_233] := by
    intro a0_233 i1_233 i2_233 w0_233 σ hf
    unfold f_X10_isKept_J233 at hf
    refine z_istore_n (q := 234) (i := 3) (lv' := [(3, .int w0_233), (0, .ref a0_233), (1, .int i1_233), (2, .int i2_233)]) C dX10_isKept_233 rfl (by decide) rfl rfl ?_
    refine z_iload_n (q := 235) (i := 1) C 2 dX10_isKept_234 rfl rfl rfl ?_
    refine z_ifne (q := 238) (tgt := 300) C dX10_isKept_235 (by decide) rfl hf (fun c235 hf => ?_) (fun c235 hf => ?_)
    · refine z_lv [] rfl ?_
      exact j300_0  σ hf
    · refine z_iload_n (q := 239) (i := 2) C 3 dX10_isKept_238 rfl rfl rfl ?_
      refine z_ifne (q := 242) (tgt := 300) C dX10_isKept_239 (by decide) rfl hf (fun c239 hf => ?_) (fun c239 hf => ?_)
      · refine z_lv [] rfl ?_
        exact j300_0  σ hf
      · refine z_iload_n (q := 243) (i := 3) C 0 dX10_isKept_242 rfl rfl rfl ?_
        refine z_ifne (q := 246) (tgt := 300) C dX10_isKept_243 (by decide) rfl hf (fun c243 hf => ?_) (fun c243 hf => ?_)
        · refine z_lv [] rfl ?_
          exact j300_0  σ hf
        · refine z_aload_n (q := 247) (i := 0) C 1 dX10_isKept_246 rfl rfl rfl ?_
          refine z_ldcS (q := 249) C 24 (by decide) rfl rfl dX10_isKept_247 rfl ?_
          refine z_callVi (q := 252) (As := [.ref (gS G 24)]) C (fun o ho => m_X10_isWord _ _ _ ho) zk10 vvX10_68 cdX10_isWord pnX10 dX10_isKept_249 rfl (by decide) (Nat.le_of_ble_eq_true rfl) hf rfl fun v25 σ hf => ?_
          refine z_ifne (q := 255) (tgt := 300) C dX10_isKept_252 (by decide) rfl hf (fun c252 hf => ?_) (fun c252 hf => ?_)
          · refine z_lv [] rfl ?_
            exact j300_0  σ hf
          · refine z_aload_n (q := 256) (i := 0) C 1 dX10_isKept_255 rfl rfl rfl ?_
            refine z_ldcS (q := 258) C 25 (by decide) rfl rfl dX10_isKept_256 rfl ?_
            refine z_callVi (q := 261) (As := [.ref (gS G 25)]) C (fun o ho => m_X10_isWord _ _ _ ho) zk10 vvX10_68 cdX10_isWord pnX10 dX10_isKept_258 rfl (by decide) (Nat.le_of_ble_eq_true rfl) hf rfl fun v26 σ hf => ?_
            refine z_ifne (q := 264) (tgt := 300) C dX10_isKept_261 (by decide) rfl hf (fun c261 hf => ?_) (fun c261 hf => ?_)
            · refine z_lv [] rfl ?_
              exact j300_0  σ hf
            · refine z_aload_n (q := 265) (i := 0) C 1 dX10_isKept_264 rfl rfl rfl ?_
              refine z_ldcS (q := 267) C 26 (by decide) rfl rfl dX10_isKept_265 rfl ?_
              refine z_callVi (q := 270) (As := [.ref (gS G 26)]) C (fun o ho => m_X10_isWord _ _ _ ho) zk10 vvX10_68 cdX10_isWord pnX10 dX10_isKept_267 rfl (by decide) (Nat.le_of_ble_eq_true rfl) hf rfl fun v27 σ hf => ?_
              refine z_ifne (q := 273) (tgt := 300) C dX10_isKept_270 (by decide) rfl hf (fun c270 hf => ?_) (fun c270 hf => ?_)
              · refine z_lv [] rfl ?_
                exact j300_0  σ hf
              · refine z_aload_n (q := 274) (i := 0) C 1 dX10_isKept_273 rfl rfl rfl ?_
                refine z_ldcS (q := 276) C 27 (by decide) rfl rfl dX10_isKept_274 rfl ?_
                refine z_callVi (q := 279) (As := [.ref (gS G 27)]) C (fun o ho => m_X10_isWord _ _ _ ho) zk10 vvX10_68 cdX10_isWord pnX10 dX10_isKept_276 rfl (by decide) (Nat.le_of_ble_eq_true rfl) hf rfl fun v28 σ hf => ?_
                refine z_ifne (q := 282) (tgt := 300) C dX10_isKept_279 (by decide) rfl hf (fun c279 hf => ?_) (fun c279 hf => ?_)
                · refine z_lv [] rfl ?_
                  exact j300_0  σ hf
                · refine z_aload_n (q := 283) (i := 0) C 1 dX10_isKept_282 rfl rfl rfl ?_
                  refine z_ldcS (q := 285) C 28 (by decide) rfl rfl dX10_isKept_283 rfl ?_
                  refine z_callVi (q := 288) (As := [.ref (gS G 28)]) C (fun o ho => m_X10_isWord _ _ _ ho) zk10 vvX10_68 cdX10_isWord pnX10 dX10_isKept_285 rfl (by decide) (Nat.le_of_ble_eq_true rfl) hf rfl fun v29 σ hf => ?_
                  refine z_ifne (q := 291) (tgt := 300) C dX10_isKept_288 (by decide) rfl hf (fun c288 hf => ?_) (fun c288 hf => ?_)
                  · refine z_lv [] rfl ?_
                    exact j300_0  σ hf
                  · refine z_aload_n (q := 292) (i := 0) C 1 dX10_isKept_291 rfl rfl rfl ?_
                    refine z_ldcS (q := 294) C 29 (by decide) rfl rfl dX10_isKept_292 rfl ?_
                    refine z_callVi (q := 297) (As := [.ref (gS G 29)]) C (fun o ho => m_X10_isWord _ _ _ ho) zk10 vvX10_68 cdX10_isWord pnX10 dX10_isKept_294 rfl (by decide) (Nat.le_of_ble_eq_true rfl) hf rfl fun v30 σ hf => ?_
                    refine z_ifeq (q := 300) (tgt := 304) C dX10_isKept_297 (by decide) rfl hf (fun c297 hf => ?_) (fun c297 hf => ?_)
                    · refine z_iconst (q := 305) C (0 : Int32) dX10_isKept_304 ki_0 rfl ?_
                      refine z_lv [] rfl ?_
                      exact j305_0 (0 : Int32) σ hf
                    · refine z_lv [] rfl ?_
                      exact j300_0  σ hf
  have j228_0 : ∀ (a0_228 : Nat) (i1_228 : Int32) (i2_228 : Int32) (σ : ZT), f_X10_isKept_J228 a0_228 i1_228 i2_228 σ = some out → ZW l G 4 X (ZQ G X (.returned (some (.int out.1))) out.2) σ 228 [(0, .ref a0_228), (1, .int i1_228), (2, .int i2_228)] [] := by
    intro a0_228 i1_228 i2_228 σ hf
    unfold f_X10_isKept_J228 at hf
    refine z_iconst (q := 229) C (1 : Int32) dX10_isKept_228 ki_1 rfl ?_
    refine z_goto (q := 233) C dX10_isKept_229 (by decide) ?_
    exact j233_0 a0_228 i1_228 i2_228 (1 : Int32) σ hf
  have j155_0 : ∀ (a0_155 : Nat) (i1_155 : Int32) (w0_155 : Int32) (σ : ZT), f_X10_isKept_J155 a0_155 i1_155 w0_155 σ = some out → ZW l G 4 X (ZQ G X (.returned (some (.int out.1))) out.2) σ 155 [(0, .ref a0_155), (1, .int i1_155)] [.int w0_155] := by
    intro a0_155 i1_155 w0_155 σ hf
    unfold f_X10_isKept_J155 at hf
    refine z_istore_n (q := 156) (i := 2) (lv' := [(2, .int w0_155), (0, .ref a0_155), (1, .int i1_155)]) C dX10_isKept_155 rfl (by decide) rfl rfl ?_
    refine z_aload_n (q := 157) (i := 0) C 1 dX10_isKept_156 rfl rfl rfl ?_
    refine z_ldcS (q := 159) C 16 (by decide) rfl rfl dX10_isKept_157 rfl ?_
    refine z_callVi (q := 162) (As := [.ref (gS G 16)]) C (fun o ho => m_X10_isWord _ _ _ ho) zk10 vvX10_68 cdX10_isWord pnX10 dX10_isKept_159 rfl (by decide) (Nat.le_of_ble_eq_true rfl) hf rfl fun v17 σ hf => ?_
    refine z_ifne (q := 165) (tgt := 228) C dX10_isKept_162 (by decide) rfl hf (fun c162 hf => ?_) (fun c162 hf => ?_)
    · refine z_lv [1, 2, 0] rfl ?_
      exact j228_0 a0_155 i1_155 w0_155 σ hf
    · refine z_aload_n (q := 166) (i := 0) C 1 dX10_isKept_165 rfl rfl rfl ?_
      refine z_ldcS (q := 168) C 17 (by decide) rfl rfl dX10_isKept_166 rfl ?_
      refine z_callVi (q := 171) (As := [.ref (gS G 17)]) C (fun o ho => m_X10_isWord _ _ _ ho) zk10 vvX10_68 cdX10_isWord pnX10 dX10_isKept_168 rfl (by decide) (Nat.le_of_ble_eq_true rfl) hf rfl fun v18 σ hf => ?_
      refine z_ifne (q := 174) (tgt := 228) C dX10_isKept_171 (by decide) rfl hf (fun c171 hf => ?_) (fun c171 hf => ?_)
      · refine z_lv [1, 2, 0] rfl ?_
        exact j228_0 a0_155 i1_155 w0_155 σ hf
      · refine z_aload_n (q := 175) (i := 0) C 1 dX10_isKept_174 rfl rfl rfl ?_
        refine z_ldcS (q := 177) C 18 (by decide) rfl rfl dX10_isKept_175 rfl ?_
        refine z_callVi (q := 180) (As := [.ref (gS G 18)]) C (fun o ho => m_X10_isWord _ _ _ ho) zk10 vvX10_68 cdX10_isWord pnX10 dX10_isKept_177 rfl (by decide) (Nat.le_of_ble_eq_true rfl) hf rfl fun v19 σ hf => ?_
        refine z_ifne (q := 183) (tgt := 228) C dX10_isKept_180 (by decide) rfl hf (fun c180 hf => ?_) (fun c180 hf => ?_)
        · refine z_lv [1, 2, 0] rfl ?_
          exact j228_0 a0_155 i1_155 w0_155 σ hf
        · refine z_aload_n (q := 184) (i := 0) C 1 dX10_isKept_183 rfl rfl rfl ?_
          refine z_ldcS (q := 186) C 19 (by decide) rfl rfl dX10_isKept_184 rfl ?_
          refine z_callVi (q := 189) (As := [.ref (gS G 19)]) C (fun o ho => m_X10_isWord _ _ _ ho) zk10 vvX10_68 cdX10_isWord pnX10 dX10_isKept_186 rfl (by decide) (Nat.le_of_ble_eq_true rfl) hf rfl fun v20 σ hf => ?_
          refine z_ifne (q := 192) (tgt := 228) C dX10_isKept_189 (by decide) rfl hf (fun c189 hf => ?_) (fun c189 hf => ?_)
          · refine z_lv [1, 2, 0] rfl ?_
            exact j228_0 a0_155 i1_155 w0_155 σ hf
          · refine z_aload_n (q := 193) (i := 0) C 1 dX10_isKept_192 rfl rfl rfl ?_
            refine z_ldcS (q := 195) C 20 (by decide) rfl rfl dX10_isKept_193 rfl ?_
            refine z_callVi (q := 198) (As := [.ref (gS G 20)]) C (fun o ho => m_X10_isWord _ _ _ ho) zk10 vvX10_68 cdX10_isWord pnX10 dX10_isKept_195 rfl (by decide) (Nat.le_of_ble_eq_true rfl) hf rfl fun v21 σ hf => ?_
            refine z_ifne (q := 201) (tgt := 228) C dX10_isKept_198 (by decide) rfl hf (fun c198 hf => ?_) (fun c198 hf => ?_)
            · refine z_lv [1, 2, 0] rfl ?_
              exact j228_0 a0_155 i1_155 w0_155 σ hf
            · refine z_aload_n (q := 202) (i := 0) C 1 dX10_isKept_201 rfl rfl rfl ?_
              refine z_ldcS (q := 204) C 21 (by decide) rfl rfl dX10_isKept_202 rfl ?_
              refine z_callVi (q := 207) (As := [.ref (gS G 21)]) C (fun o ho => m_X10_isWord _ _ _ ho) zk10 vvX10_68 cdX10_isWord pnX10 dX10_isKept_204 rfl (by decide) (Nat.le_of_ble_eq_true rfl) hf rfl fun v22 σ hf => ?_
              refine z_ifne (q := 210) (tgt := 228) C dX10_isKept_207 (by decide) rfl hf (fun c207 hf => ?_) (fun c207 hf => ?_)
              · refine z_lv [1, 2, 0] rfl ?_
                exact j228_0 a0_155 i1_155 w0_155 σ hf
              · refine z_aload_n (q := 211) (i := 0) C 1 dX10_isKept_210 rfl rfl rfl ?_
                refine z_ldcS (q := 213) C 22 (by decide) rfl rfl dX10_isKept_211 rfl ?_
                refine z_callVi (q := 216) (As := [.ref (gS G 22)]) C (fun o ho => m_X10_isWord _ _ _ ho) zk10 vvX10_68 cdX10_isWord pnX10 dX10_isKept_213 rfl (by decide) (Nat.le_of_ble_eq_true rfl) hf rfl fun v23 σ hf => ?_
                refine z_ifne (q := 219) (tgt := 228) C dX10_isKept_216 (by decide) rfl hf (fun c216 hf => ?_) (fun c216 hf => ?_)
                · refine z_lv [1, 2, 0] rfl ?_
                  exact j228_0 a0_155 i1_155 w0_155 σ hf
                · refine z_aload_n (q := 220) (i := 0) C 1 dX10_isKept_219 rfl rfl rfl ?_
                  refine z_ldcS (q := 222) C 23 (by decide) rfl rfl dX10_isKept_220 rfl ?_
                  refine z_callVi (q := 225) (As := [.ref (gS G 23)]) C (fun o ho => m_X10_isWord _ _ _ ho) zk10 vvX10_68 cdX10_isWord pnX10 dX10_isKept_222 rfl (by decide) (Nat.le_of_ble_eq_true rfl) hf rfl fun v24 σ hf => ?_
                  refine z_ifeq (q := 228) (tgt := 232) C dX10_isKept_225 (by decide) rfl hf (fun c225 hf => ?_) (fun c225 hf => ?_)
                  · refine z_iconst (q := 233) C (0 : Int32) dX10_isKept_232 ki_0 rfl ?_
                    refine z_lv [1, 2, 0] rfl ?_
                    exact j233_0 a0_155 i1_155 w0_155 (0 : Int32) σ hf
                  · refine z_lv [1, 2, 0] rfl ?_
                    exact j228_0 a0_155 i1_155 w0_155 σ hf
  have j150_0 : ∀ (a0_150 : Nat) (i1_150 : Int32) (σ : ZT), f_X10_isKept_J150 a0_150 i1_150 σ = some out → ZW l G 4 X (ZQ G X (.returned (some (.int out.1))) out.2) σ 150 [(0, .ref a0_150), (1, .int i1_150)] [] := by
    intro a0_150 i1_150 σ hf
    unfold f_X10_isKept_J150 at hf
    refine z_iconst (q := 151) C (1 : Int32) dX10_isKept_150 ki_1 rfl ?_
    refine z_goto (q := 155) C dX10_isKept_151 (by decide) ?_
    exact j155_0 a0_150 i1_150 (1 : Int32) σ hf
  have j77_0 : ∀ (a0_77 : Nat) (w0_77 : Int32) (σ : ZT), f_X10_isKept_J77 a0_77 w0_77 σ = some out → ZW l G 4 X (ZQ G X (.returned (some (.int out.1))) out.2) σ 77 [(0, .ref a0_77)] [.int w0_77] := by
    intro a0_77 w0_77 σ hf
    unfold f_X10_isKept_J77 at hf
    refine z_istore_n (q := 78) (i := 1) (lv' := [(1, .int w0_77), (0, .ref a0_77)]) C dX10_isKept_77 rfl (by decide) rfl rfl ?_
    refine z_aload_n (q := 79) (i := 0) C 1 dX10_isKept_78 rfl rfl rfl ?_
    refine z_ldcS (q := 81) C 8 (by decide) rfl rfl dX10_isKept_79 rfl ?_
    refine z_callVi (q := 84) (As := [.ref (gS G 8)]) C (fun o ho => m_X10_isWord _ _ _ ho) zk10 vvX10_68 cdX10_isWord pnX10 dX10_isKept_81 rfl (by decide) (Nat.le_of_ble_eq_true rfl) hf rfl fun v9 σ hf => ?_
    refine z_ifne (q := 87) (tgt := 150) C dX10_isKept_84 (by decide) rfl hf (fun c84 hf => ?_) (fun c84 hf => ?_)
    · refine z_lv [1, 0] rfl ?_
      exact j150_0 a0_77 w0_77 σ hf
    · refine z_aload_n (q := 88) (i := 0) C 1 dX10_isKept_87 rfl rfl rfl ?_
      refine z_ldcS (q := 90) C 9 (by decide) rfl rfl dX10_isKept_88 rfl ?_
      refine z_callVi (q := 93) (As := [.ref (gS G 9)]) C (fun o ho => m_X10_isWord _ _ _ ho) zk10 vvX10_68 cdX10_isWord pnX10 dX10_isKept_90 rfl (by decide) (Nat.le_of_ble_eq_true rfl) hf rfl fun v10 σ hf => ?_
      refine z_ifne (q := 96) (tgt := 150) C dX10_isKept_93 (by decide) rfl hf (fun c93 hf => ?_) (fun c93 hf => ?_)
      · refine z_lv [1, 0] rfl ?_
        exact j150_0 a0_77 w0_77 σ hf
      · refine z_aload_n (q := 97) (i := 0) C 1 dX10_isKept_96 rfl rfl rfl ?_
        refine z_ldcS (q := 99) C 10 (by decide) rfl rfl dX10_isKept_97 rfl ?_
        refine z_callVi (q := 102) (As := [.ref (gS G 10)]) C (fun o ho => m_X10_isWord _ _ _ ho) zk10 vvX10_68 cdX10_isWord pnX10 dX10_isKept_99 rfl (by decide) (Nat.le_of_ble_eq_true rfl) hf rfl fun v11 σ hf => ?_
        refine z_ifne (q := 105) (tgt := 150) C dX10_isKept_102 (by decide) rfl hf (fun c102 hf => ?_) (fun c102 hf => ?_)
        · refine z_lv [1, 0] rfl ?_
          exact j150_0 a0_77 w0_77 σ hf
        · refine z_aload_n (q := 106) (i := 0) C 1 dX10_isKept_105 rfl rfl rfl ?_
          refine z_ldcS (q := 108) C 11 (by decide) rfl rfl dX10_isKept_106 rfl ?_
          refine z_callVi (q := 111) (As := [.ref (gS G 11)]) C (fun o ho => m_X10_isWord _ _ _ ho) zk10 vvX10_68 cdX10_isWord pnX10 dX10_isKept_108 rfl (by decide) (Nat.le_of_ble_eq_true rfl) hf rfl fun v12 σ hf => ?_
          refine z_ifne (q := 114) (tgt := 150) C dX10_isKept_111 (by decide) rfl hf (fun c111 hf => ?_) (fun c111 hf => ?_)
          · refine z_lv [1, 0] rfl ?_
            exact j150_0 a0_77 w0_77 σ hf
          · refine z_aload_n (q := 115) (i := 0) C 1 dX10_isKept_114 rfl rfl rfl ?_
            refine z_ldcS (q := 117) C 12 (by decide) rfl rfl dX10_isKept_115 rfl ?_
            refine z_callVi (q := 120) (As := [.ref (gS G 12)]) C (fun o ho => m_X10_isWord _ _ _ ho) zk10 vvX10_68 cdX10_isWord pnX10 dX10_isKept_117 rfl (by decide) (Nat.le_of_ble_eq_true rfl) hf rfl fun v13 σ hf => ?_
            refine z_ifne (q := 123) (tgt := 150) C dX10_isKept_120 (by decide) rfl hf (fun c120 hf => ?_) (fun c120 hf => ?_)
            · refine z_lv [1, 0] rfl ?_
              exact j150_0 a0_77 w0_77 σ hf
            · refine z_aload_n (q := 124) (i := 0) C 1 dX10_isKept_123 rfl rfl rfl ?_
              refine z_ldcS (q := 126) C 13 (by decide) rfl rfl dX10_isKept_124 rfl ?_
              refine z_callVi (q := 129) (As := [.ref (gS G 13)]) C (fun o ho => m_X10_isWord _ _ _ ho) zk10 vvX10_68 cdX10_isWord pnX10 dX10_isKept_126 rfl (by decide) (Nat.le_of_ble_eq_true rfl) hf rfl fun v14 σ hf => ?_
              refine z_ifne (q := 132) (tgt := 150) C dX10_isKept_129 (by decide) rfl hf (fun c129 hf => ?_) (fun c129 hf => ?_)
              · refine z_lv [1, 0] rfl ?_
                exact j150_0 a0_77 w0_77 σ hf
              · refine z_aload_n (q := 133) (i := 0) C 1 dX10_isKept_132 rfl rfl rfl ?_
                refine z_ldcS (q := 135) C 14 (by decide) rfl rfl dX10_isKept_133 rfl ?_
                refine z_callVi (q := 138) (As := [.ref (gS G 14)]) C (fun o ho => m_X10_isWord _ _ _ ho) zk10 vvX10_68 cdX10_isWord pnX10 dX10_isKept_135 rfl (by decide) (Nat.le_of_ble_eq_true rfl) hf rfl fun v15 σ hf => ?_
                refine z_ifne (q := 141) (tgt := 150) C dX10_isKept_138 (by decide) rfl hf (fun c138 hf => ?_) (fun c138 hf => ?_)
                · refine z_lv [1, 0] rfl ?_
                  exact j150_0 a0_77 w0_77 σ hf
                · refine z_aload_n (q := 142) (i := 0) C 1 dX10_isKept_141 rfl rfl rfl ?_
                  refine z_ldcS (q := 144) C 15 (by decide) rfl rfl dX10_isKept_142 rfl ?_
                  refine z_callVi (q := 147) (As := [.ref (gS G 15)]) C (fun o ho => m_X10_isWord _ _ _ ho) zk10 vvX10_68 cdX10_isWord pnX10 dX10_isKept_144 rfl (by decide) (Nat.le_of_ble_eq_true rfl) hf rfl fun v16 σ hf => ?_
                  refine z_ifeq (q := 150) (tgt := 154) C dX10_isKept_147 (by decide) rfl hf (fun c147 hf => ?_) (fun c147 hf => ?_)
                  · refine z_iconst (q := 155) C (0 : Int32) dX10_isKept_154 ki_0 rfl ?_
                    refine z_lv [1, 0] rfl ?_
                    exact j155_0 a0_77 w0_77 (0 : Int32) σ hf
                  · refine z_lv [1, 0] rfl ?_
                    exact j150_0 a0_77 w0_77 σ hf
  have j72_0 : ∀ (a0_72 : Nat) (σ : ZT), f_X10_isKept_J72 a0_72 σ = some out → ZW l G 4 X (ZQ G X (.returned (some (.int out.1))) out.2) σ 72 [(0, .ref a0_72)] [] := by
    intro a0_72 σ hf
    unfold f_X10_isKept_J72 at hf
    refine z_iconst (q := 73) C (1 : Int32) dX10_isKept_72 ki_1 rfl ?_
    refine z_goto (q := 77) C dX10_isKept_73 (by decide) ?_
    exact j77_0 a0_72 (1 : Int32) σ hf
  refine z_aload_n (q := 1) (i := 0) C 0 dX10_isKept_0 rfl rfl rfl ?_
  refine z_ldcS (q := 3) C 0 (by decide) rfl rfl dX10_isKept_1 rfl ?_
  refine z_callVi (q := 6) (As := [.ref (gS G 0)]) C (fun o ho => m_X10_isWord _ _ _ ho) zk10 vvX10_68 cdX10_isWord pnX10 dX10_isKept_3 rfl (by decide) (Nat.le_of_ble_eq_true rfl) hf rfl fun v1 σ hf => ?_
  refine z_ifne (q := 9) (tgt := 72) C dX10_isKept_6 (by decide) rfl hf (fun c6 hf => ?_) (fun c6 hf => ?_)
  · exact j72_0 a0 σ hf
  · refine z_aload_n (q := 10) (i := 0) C 0 dX10_isKept_9 rfl rfl rfl ?_
    refine z_ldcS (q := 12) C 1 (by decide) rfl rfl dX10_isKept_10 rfl ?_
    refine z_callVi (q := 15) (As := [.ref (gS G 1)]) C (fun o ho => m_X10_isWord _ _ _ ho) zk10 vvX10_68 cdX10_isWord pnX10 dX10_isKept_12 rfl (by decide) (Nat.le_of_ble_eq_true rfl) hf rfl fun v2 σ hf => ?_
    refine z_ifne (q := 18) (tgt := 72) C dX10_isKept_15 (by decide) rfl hf (fun c15 hf => ?_) (fun c15 hf => ?_)
    · exact j72_0 a0 σ hf
    · refine z_aload_n (q := 19) (i := 0) C 0 dX10_isKept_18 rfl rfl rfl ?_
      refine z_ldcS (q := 21) C 2 (by decide) rfl rfl dX10_isKept_19 rfl ?_
      refine z_callVi (q := 24) (As := [.ref (gS G 2)]) C (fun o ho => m_X10_isWord _ _ _ ho) zk10 vvX10_68 cdX10_isWord pnX10 dX10_isKept_21 rfl (by decide) (Nat.le_of_ble_eq_true rfl) hf rfl fun v3 σ hf => ?_
      refine z_ifne (q := 27) (tgt := 72) C dX10_isKept_24 (by decide) rfl hf (fun c24 hf => ?_) (fun c24 hf => ?_)
      · exact j72_0 a0 σ hf
      · refine z_aload_n (q := 28) (i := 0) C 0 dX10_isKept_27 rfl rfl rfl ?_
        refine z_ldcS (q := 30) C 3 (by decide) rfl rfl dX10_isKept_28 rfl ?_
        refine z_callVi (q := 33) (As := [.ref (gS G 3)]) C (fun o ho => m_X10_isWord _ _ _ ho) zk10 vvX10_68 cdX10_isWord pnX10 dX10_isKept_30 rfl (by decide) (Nat.le_of_ble_eq_true rfl) hf rfl fun v4 σ hf => ?_
        refine z_ifne (q := 36) (tgt := 72) C dX10_isKept_33 (by decide) rfl hf (fun c33 hf => ?_) (fun c33 hf => ?_)
        · exact j72_0 a0 σ hf
        · refine z_aload_n (q := 37) (i := 0) C 0 dX10_isKept_36 rfl rfl rfl ?_
          refine z_ldcS (q := 39) C 4 (by decide) rfl rfl dX10_isKept_37 rfl ?_
          refine z_callVi (q := 42) (As := [.ref (gS G 4)]) C (fun o ho => m_X10_isWord _ _ _ ho) zk10 vvX10_68 cdX10_isWord pnX10 dX10_isKept_39 rfl (by decide) (Nat.le_of_ble_eq_true rfl) hf rfl fun v5 σ hf => ?_
          refine z_ifne (q := 45) (tgt := 72) C dX10_isKept_42 (by decide) rfl hf (fun c42 hf => ?_) (fun c42 hf => ?_)
          · exact j72_0 a0 σ hf
          · refine z_aload_n (q := 46) (i := 0) C 0 dX10_isKept_45 rfl rfl rfl ?_
            refine z_ldcS (q := 48) C 5 (by decide) rfl rfl dX10_isKept_46 rfl ?_
            refine z_callVi (q := 51) (As := [.ref (gS G 5)]) C (fun o ho => m_X10_isWord _ _ _ ho) zk10 vvX10_68 cdX10_isWord pnX10 dX10_isKept_48 rfl (by decide) (Nat.le_of_ble_eq_true rfl) hf rfl fun v6 σ hf => ?_
            refine z_ifne (q := 54) (tgt := 72) C dX10_isKept_51 (by decide) rfl hf (fun c51 hf => ?_) (fun c51 hf => ?_)
            · exact j72_0 a0 σ hf
            · refine z_aload_n (q := 55) (i := 0) C 0 dX10_isKept_54 rfl rfl rfl ?_
              refine z_ldcS (q := 57) C 6 (by decide) rfl rfl dX10_isKept_55 rfl ?_
              refine z_callVi (q := 60) (As := [.ref (gS G 6)]) C (fun o ho => m_X10_isWord _ _ _ ho) zk10 vvX10_68 cdX10_isWord pnX10 dX10_isKept_57 rfl (by decide) (Nat.le_of_ble_eq_true rfl) hf rfl fun v7 σ hf => ?_
              refine z_ifne (q := 63) (tgt := 72) C dX10_isKept_60 (by decide) rfl hf (fun c60 hf => ?_) (fun c60 hf => ?_)
              · exact j72_0 a0 σ hf
              · refine z_aload_n (q := 64) (i := 0) C 0 dX10_isKept_63 rfl rfl rfl ?_
                refine z_ldcS (q := 66) C 7 (by decide) rfl rfl dX10_isKept_64 rfl ?_
                refine z_callVi (q := 69) (As := [.ref (gS G 7)]) C (fun o ho => m_X10_isWord _ _ _ ho) zk10 vvX10_68 cdX10_isWord pnX10 dX10_isKept_66 rfl (by decide) (Nat.le_of_ble_eq_true rfl) hf rfl fun v8 σ hf => ?_
                refine z_ifeq (q := 72) (tgt := 76) C dX10_isKept_69 (by decide) rfl hf (fun c69 hf => ?_) (fun c69 hf => ?_)
                · refine z_iconst (q := 77) C (0 : Int32) dX10_isKept_76 ki_0 rfl ?_
                  exact j77_0 a0 (0 : Int32) σ hf
                · exact j72_0 a0 σ hf

noncomputable def f_X10_wrong_J20 (a0_20 : Nat) (w0_20 : Int32) (w1_20 : Nat) (σ : ZT) : Option (Nat × ZT) :=
  (gI 10 1001 a0_20 σ).bind fun v4 =>
  bnd2 (vc 2 w1_20 σ (f_X2_at w1_20 w0_20 v4 σ)) fun v5 σ =>
  some (v5, σ)
noncomputable def f_X10_wrong (a0 : Nat) (σ : ZT) : Option (Nat × ZT) :=
  (gR 10 1006 a0 σ).bind fun v1 =>
  (gR 0 5 v1 σ).bind fun v2 =>
  (gI 10 1003 a0 σ).bind fun v3 =>
  if v3 = (4 : Int32) then
  (f_X10_wrong_J20 a0 (1 : Int32) v2 σ)
  else
  (f_X10_wrong_J20 a0 (2 : Int32) v2 σ)
set_option maxHeartbeats 4000000 in
theorem m_X10_wrong {l : Launch} {G : ZG} (a0 : Nat) (σ : ZT) {out : (Nat × ZT)} (hf : f_X10_wrong a0 σ = some out) : ZM l G yX10_wrong cX10_wrong 1 (some (.object "SillBridges$Bad")) [] 2 [.ref a0] σ (.returned (some (.ref out.1))) out.2 := by
  refine ZM.of [(0, .ref a0)] rfl (Nat.le_of_ble_eq_true rfl) fun X (C : ZC G RX10 "wrong" cX10_wrong 1 (some (.object "SillBridges$Bad")) [] X 2) => ?_
  unfold f_X10_wrong at hf
  have j20_0 : ∀ (a0_20 : Nat) (w0_20 : Int32) (w1_20 : Nat) (σ : ZT), f_X10_wrong_J20 a0_20 w0_20 w1_20 σ = some out → ZW l G 1 X (ZQ G X (.returned (some (.ref out.1))) out.2) σ 20 [(0, .ref a0_20)] [.int w0_20, .ref w1_20] := by
    intro a0_20 w0_20 w1_20 σ hf
    unfold f_X10_wrong_J20 at hf
    refine z_aload_n (q := 21) (i := 0) C 0 dX10_wrong_20 rfl rfl rfl ?_
    refine z_getI (q := 24) C flX10_29 dX10_wrong_21 hf rfl fun v4 hf => ?_
    refine z_callVr (q := 27) (As := [.int w0_20, .int v4]) C (fun o ho => m_X2_at _ _ _ _ ho) zk2 vvX10_59 cdX2_at pnX2 dX10_wrong_24 rfl (by decide) (Nat.le_of_ble_eq_true rfl) hf rfl fun v5 σ hf => ?_
    exact z_areturn C rfl dX10_wrong_27 (Option.some.inj hf)
  refine z_aload_n (q := 1) (i := 0) C 0 dX10_wrong_0 rfl rfl rfl ?_
  refine z_getR (q := 4) C flX10_3 dX10_wrong_1 hf rfl fun v1 hf => ?_
  refine z_getR (q := 7) C flX10_55 dX10_wrong_4 hf rfl fun v2 hf => ?_
  refine z_aload_n (q := 8) (i := 0) C 0 dX10_wrong_7 rfl rfl rfl ?_
  refine z_getI (q := 11) C flX10_32 dX10_wrong_8 hf rfl fun v3 hf => ?_
  refine z_iconst (q := 12) C (4 : Int32) dX10_wrong_11 ki_4 rfl ?_
  refine z_icmpne (q := 15) (tgt := 19) C dX10_wrong_12 (by decide) rfl hf (fun c12 hf => ?_) (fun c12 hf => ?_)
  · refine z_iconst (q := 20) C (2 : Int32) dX10_wrong_19 ki_2 rfl ?_
    exact j20_0 a0 (2 : Int32) v2 σ hf
  · refine z_iconst (q := 16) C (1 : Int32) dX10_wrong_15 ki_1 rfl ?_
    refine z_goto (q := 20) C dX10_wrong_16 (by decide) ?_
    exact j20_0 a0 (1 : Int32) v2 σ hf

noncomputable def f_X10_name_L41 (c0_41 : Nat) (l_6 : Int64) (i_7 : Int32) (σ : ZT) : Option ((Int64 × Int32 × ZT) ⊕ (Int64 × ZT)) :=
  (gI 10 1002 c0_41 σ).bind fun v8 =>
  if i_7 < v8 then
  ((gR 10 1006 c0_41 σ).bind fun v9 =>
  (gR 0 1 v9 σ).bind fun v10 =>
  (ldI 2 v10 i_7 σ).bind fun v11 =>
  some (.inl ((((l_6 * (32 : Int64)) + (v11.toInt64)) - (96 : Int64)), (i_7 + (1 : Int32)), σ)))
  else
  (some (.inr (l_6, σ)))
noncomputable def f_X10_name_J29 (a0_29 : Nat) (σ : ZT) : Option ((Nat × ZT) ⊕ (Int64 × ZT)) :=
  bnd2 (vc 10 a0_29 σ (f_X10_wrong a0_29 σ)) fun v13 σ =>
  some (.inl (v13, σ))
noncomputable def f_X10_name (a0 : Nat) (σ : ZT) : Option ((Nat × ZT) ⊕ (Int64 × ZT)) :=
  (gI 10 1003 a0 σ).bind fun v1 =>
  if v1 = (1 : Int32) then
  ((gI 10 1002 a0 σ).bind fun v2 =>
  (gI 10 1001 a0 σ).bind fun v3 =>
  if (8 : Int32) < (v2 - v3) then
  (f_X10_name_J29 a0 σ)
  else
  (bnd2 (vc 10 a0 σ (f_X10_isKept a0 σ)) fun v4 σ =>
  if v4 = 0 then
  ((gI 10 1001 a0 σ).bind fun v5 =>
  (loopC (fun s : (Int64 × Int32 × ZT) => f_X10_name_L41 a0 s.1 s.2.1 s.2.2) ((0 : Int64), v5, σ)).bind fun x => (match x with
  | (x12, σ) => some (.inr (x12, σ))))
  else
  (f_X10_name_J29 a0 σ)))
  else
  (f_X10_name_J29 a0 σ)
set_option maxHeartbeats 4000000 in
theorem m_X10_name {l : Launch} {G : ZG} (a0 : Nat) (σ : ZT) {out : ((Nat × ZT) ⊕ (Int64 × ZT))} (hf : f_X10_name a0 σ = some out) : ZM l G yX10_name cX10_name 4 (some .long) [] 8 [.ref a0] σ (zol out) (zsl out) := by
  refine ZM.of [(0, .ref a0)] rfl (Nat.le_of_ble_eq_true rfl) fun X (C : ZC G RX10 "name" cX10_name 4 (some .long) [] X 8) => ?_
  unfold f_X10_name at hf
  have j29_0 : ∀ (a0_29 : Nat) (σ : ZT), f_X10_name_J29 a0_29 σ = some out → ZW l G 4 X (ZQ G X (zol out) (zsl out)) σ 29 [(0, .ref a0_29)] [] := by
    intro a0_29 σ hf
    unfold f_X10_name_J29 at hf
    refine z_aload_n (q := 30) (i := 0) C 0 dX10_name_29 rfl rfl rfl ?_
    refine z_callVr (q := 33) (As := []) C (fun o ho => m_X10_wrong _ _ ho) zk10 vvX10_64 cdX10_wrong pnX10 dX10_name_30 rfl (by decide) (Nat.le_of_ble_eq_true rfl) hf rfl fun v12 σ hf => ?_
    cases hf
    exact z_athrow C dX10_name_33 (by decide) rfl
  refine z_aload_n (q := 1) (i := 0) C 0 dX10_name_0 rfl rfl rfl ?_
  refine z_getI (q := 4) C flX10_32 dX10_name_1 hf rfl fun v1 hf => ?_
  refine z_iconst (q := 5) C (1 : Int32) dX10_name_4 ki_1 rfl ?_
  refine z_icmpne (q := 8) (tgt := 29) C dX10_name_5 (by decide) rfl hf (fun c5 hf => ?_) (fun c5 hf => ?_)
  · exact j29_0 a0 σ hf
  · refine z_aload_n (q := 9) (i := 0) C 0 dX10_name_8 rfl rfl rfl ?_
    refine z_getI (q := 12) C flX10_26 dX10_name_9 hf rfl fun v2 hf => ?_
    refine z_aload_n (q := 13) (i := 0) C 0 dX10_name_12 rfl rfl rfl ?_
    refine z_getI (q := 16) C flX10_29 dX10_name_13 hf rfl fun v3 hf => ?_
    refine z_isub (q := 17) C dX10_name_16 rfl ?_
    refine z_bipush (q := 19) C (8 : Int32) dX10_name_17 kb_8 rfl ?_
    refine z_icmpgt (q := 22) (tgt := 29) C dX10_name_19 (by decide) rfl hf (fun c19 hf => ?_) (fun c19 hf => ?_)
    · exact j29_0 a0 σ hf
    · refine z_aload_n (q := 23) (i := 0) C 0 dX10_name_22 rfl rfl rfl ?_
      refine z_callVi (q := 26) (As := []) C (fun o ho => m_X10_isKept _ _ ho) zk10 vvX10_134 cdX10_isKept pnX10 dX10_name_23 rfl (by decide) (Nat.le_of_ble_eq_true rfl) hf rfl fun v4 σ hf => ?_
      refine z_ifeq (q := 29) (tgt := 34) C dX10_name_26 (by decide) rfl hf (fun c26 hf => ?_) (fun c26 hf => ?_)
      · refine z_lconst (q := 35) C (0 : Int64) dX10_name_34 rfl rfl ?_
        refine z_lstore_n (q := 36) (i := 1) (lv' := [(1, .long (0 : Int64)), (0, .ref a0)]) C dX10_name_35 rfl (by decide) rfl rfl ?_
        refine z_aload_n (q := 37) (i := 0) C 1 dX10_name_36 rfl rfl rfl ?_
        refine z_getI (q := 40) C flX10_29 dX10_name_37 hf rfl fun v5 hf => ?_
        refine z_istore_n (q := 41) (i := 3) (lv' := [(3, .int v5), (1, .long (0 : Int64)), (0, .ref a0)]) C dX10_name_40 rfl (by decide) rfl rfl ?_
        refine z_lv [2, 1, 0] rfl ?_
        obtain ⟨r1, hr1, hk1⟩ := Option.bind_eq_some_iff.mp hf
        refine loopC_ind (P := fun s => ZW l G 4 X (ZQ G X (zol out) (zsl out)) s.2.2 41 [(0, .ref a0), (1, .long s.1), (3, .int s.2.1)] []) (fun s x1 hf hx1 => ?_) hr1
        obtain ⟨l_6, i_7, σ⟩ := s
        unfold f_X10_name_L41 at hf
        try dsimp only at hf
        try dsimp only
        refine z_iload_n (q := 42) (i := 3) C 2 dX10_name_41 rfl rfl rfl ?_
        refine z_aload_n (q := 43) (i := 0) C 0 dX10_name_42 rfl rfl rfl ?_
        refine z_getI (q := 46) C flX10_26 dX10_name_43 hf rfl fun v8 hf => ?_
        refine z_icmpge (q := 49) (tgt := 76) C dX10_name_46 (by decide) rfl hf (fun c46 hf => ?_) (fun c46 hf => ?_)
        · have e1 := zl_x hf hx1
          have hf := hk1
          rw [← e1] at hf
          try dsimp only at hf
          refine z_lload_n (q := 77) (i := 1) C 1 dX10_name_76 rfl rfl rfl ?_
          cases hf
          exact z_lreturn C rfl dX10_name_77 rfl
        · refine z_lload_n (q := 50) (i := 1) C 1 dX10_name_49 rfl rfl rfl ?_
          refine z_ldc2 (q := 53) C q861 dX10_name_50 rfl ?_
          refine z_lmul (q := 54) C dX10_name_53 rfl ?_
          refine z_aload_n (q := 55) (i := 0) C 0 dX10_name_54 rfl rfl rfl ?_
          refine z_getR (q := 58) C flX10_3 dX10_name_55 hf rfl fun v9 hf => ?_
          refine z_getR (q := 61) C flX10_22 dX10_name_58 hf rfl fun v10 hf => ?_
          refine z_iload_n (q := 62) (i := 3) C 2 dX10_name_61 rfl rfl rfl ?_
          refine z_bald (q := 63) C dX10_name_62 hf rfl fun v11 hf => ?_
          refine z_i2l (q := 64) C dX10_name_63 rfl ?_
          refine z_ladd (q := 65) C dX10_name_64 rfl ?_
          refine z_ldc2 (q := 68) C q862 dX10_name_65 rfl ?_
          refine z_lsub (q := 69) C dX10_name_68 rfl ?_
          refine z_lstore_n (q := 70) (i := 1) (lv' := [(1, .long (((l_6 * (32 : Int64)) + (v11.toInt64)) - (96 : Int64))), (0, .ref a0), (3, .int i_7)]) C dX10_name_69 rfl (by decide) rfl rfl ?_
          refine z_iinc (q := 73) (i := 3) (lv' := [(3, .int (i_7 + (1 : Int32))), (1, .long (((l_6 * (32 : Int64)) + (v11.toInt64)) - (96 : Int64))), (0, .ref a0)]) C 2 (i_7 + (1 : Int32)) dX10_name_70 rfl (kn_1 _) (by decide) rfl rfl ?_
          refine z_goto (q := 41) C dX10_name_73 (by decide) ?_
          refine z_lv [2, 1, 0] rfl ?_
          have hc1 := zl_c hf hx1
          exact hc1
      · exact j29_0 a0 σ hf

noncomputable def f_X10_fresh (a0 : Nat) (a1 : Nat) (σ : ZT) : Option ((Nat × ZT) ⊕ (Int64 × ZT)) :=
  bndX (vc 10 a0 σ (f_X10_name a0 σ)) (fun xx σ => some (.inl (xx, σ))) fun v1 σ =>
  bnd2 (vc 6 a1 σ (f_X6_isTaken a1 v1 σ)) fun v2 σ =>
  if v2 = 0 then
  ((vc 10 a0 σ (f_X10_next a0 σ)).bind fun σ =>
  some (.inr (v1, σ)))
  else
  ((gR 10 1006 a0 σ).bind fun v4 =>
  (gR 0 5 v4 σ).bind fun v5 =>
  (gI 10 1001 a0 σ).bind fun v6 =>
  bnd2 (vc 2 v5 σ (f_X2_at v5 (3 : Int32) v6 σ)) fun v7 σ =>
  some (.inl (v7, σ)))
set_option maxHeartbeats 4000000 in
theorem m_X10_fresh {l : Launch} {G : ZG} (a0 : Nat) (a1 : Nat) (σ : ZT) {out : ((Nat × ZT) ⊕ (Int64 × ZT))} (hf : f_X10_fresh a0 a1 σ = some out) : ZM l G yX10_fresh cX10_fresh 4 (some .long) [] 9 [.ref a0, .ref a1] σ (zol out) (zsl out) := by
  refine ZM.of [(0, .ref a0), (1, .ref a1)] rfl (Nat.le_of_ble_eq_true rfl) fun X (C : ZC G RX10 "fresh" cX10_fresh 4 (some .long) [] X 9) => ?_
  unfold f_X10_fresh at hf
  refine z_aload_n (q := 1) (i := 0) C 0 dX10_fresh_0 rfl rfl rfl ?_
  refine z_callXVl (q := 4) (As := []) C (fun o ho => m_X10_name _ _ ho) zk10 vvX10_142 cdX10_name pnX10 dX10_fresh_1 rfl (by decide) (Nat.le_of_ble_eq_true rfl) hf rfl (fun xx σ hf T locs ls hP hL h1 h2 hl X0 => ?_) fun v1 σ hf => ?_
  · cases hf
    exact zthrown_out C (by decide) hP hL h1 h2 X0
  refine z_lstore_n (q := 5) (i := 2) (lv' := [(2, .long v1), (0, .ref a0), (1, .ref a1)]) C dX10_fresh_4 rfl (by decide) rfl rfl ?_
  refine z_aload_n (q := 6) (i := 1) C 2 dX10_fresh_5 rfl rfl rfl ?_
  refine z_lload_n (q := 7) (i := 2) C 0 dX10_fresh_6 rfl rfl rfl ?_
  refine z_callVi (q := 10) (As := [.long v1]) C (fun o ho => m_X6_isTaken _ _ _ ho) zk6 vvX10_146 cdX6_isTaken pnX6 dX10_fresh_7 rfl (by decide) (Nat.le_of_ble_eq_true rfl) hf rfl fun v2 σ hf => ?_
  refine z_ifeq (q := 13) (tgt := 29) C dX10_fresh_10 (by decide) rfl hf (fun c10 hf => ?_) (fun c10 hf => ?_)
  · refine z_aload_n (q := 30) (i := 0) C 1 dX10_fresh_29 rfl rfl rfl ?_
    refine z_callVv (q := 33) (As := []) C (fun o ho => m_X10_next _ _ ho) zk10 vvX10_19 cdX10_next pnX10 dX10_fresh_30 rfl (by decide) (Nat.le_of_ble_eq_true rfl) hf rfl fun σ hf => ?_
    refine z_lload_n (q := 34) (i := 2) C 0 dX10_fresh_33 rfl rfl rfl ?_
    cases hf
    exact z_lreturn C rfl dX10_fresh_34 rfl
  · refine z_aload_n (q := 14) (i := 0) C 1 dX10_fresh_13 rfl rfl rfl ?_
    refine z_getR (q := 17) C flX10_3 dX10_fresh_14 hf rfl fun v4 hf => ?_
    refine z_getR (q := 20) C flX10_55 dX10_fresh_17 hf rfl fun v5 hf => ?_
    refine z_iconst (q := 21) C (3 : Int32) dX10_fresh_20 ki_3 rfl ?_
    refine z_aload_n (q := 22) (i := 0) C 1 dX10_fresh_21 rfl rfl rfl ?_
    refine z_getI (q := 25) C flX10_29 dX10_fresh_22 hf rfl fun v6 hf => ?_
    refine z_callVr (q := 28) (As := [.int (3 : Int32), .int v6]) C (fun o ho => m_X2_at _ _ _ _ ho) zk2 vvX10_59 cdX2_at pnX2 dX10_fresh_25 rfl (by decide) (Nat.le_of_ble_eq_true rfl) hf rfl fun v7 σ hf => ?_
    cases hf
    exact z_athrow C dX10_fresh_28 (by decide) rfl

noncomputable def f_X10_newPlace (a0 : Nat) (a1 : Nat) (σ : ZT) : Option ((Nat × ZT) ⊕ ZT) :=
  (gI 6 600 a1 σ).bind fun v1 =>
  if v1 = (6 : Int32) then
  ((gR 10 1006 a0 σ).bind fun v7 =>
  (gR 0 5 v7 σ).bind fun v8 =>
  (gI 10 1001 a0 σ).bind fun v9 =>
  bnd2 (vc 2 v8 σ (f_X2_at v8 (6 : Int32) v9 σ)) fun v10 σ =>
  some (.inl (v10, σ)))
  else
  ((vc 10 a0 σ (f_X10_next a0 σ)).bind fun σ =>
  (gR 6 604 a1 σ).bind fun v3 =>
  (gI 6 600 a1 σ).bind fun v4 =>
  bndX (vc 10 a0 σ (f_X10_fresh a0 a1 σ)) (fun xx σ => some (.inl (xx, σ))) fun v5 σ =>
  (stL v3 v4 v5 σ).bind fun σ =>
  (gI 6 600 a1 σ).bind fun v6 =>
  (pI 6 600 a1 (v6 + (1 : Int32)) σ).bind fun σ =>
  some (.inr σ))
set_option maxHeartbeats 4000000 in
theorem m_X10_newPlace {l : Launch} {G : ZG} (a0 : Nat) (a1 : Nat) (σ : ZT) {out : ((Nat × ZT) ⊕ ZT)} (hf : f_X10_newPlace a0 a1 σ = some out) : ZM l G yX10_newPlace cX10_newPlace 2 none [] 10 [.ref a0, .ref a1] σ (zov out) (zsv out) := by
  refine ZM.of [(0, .ref a0), (1, .ref a1)] rfl (Nat.le_of_ble_eq_true rfl) fun X (C : ZC G RX10 "newPlace" cX10_newPlace 2 none [] X 10) => ?_
  unfold f_X10_newPlace at hf
  refine z_aload_n (q := 1) (i := 1) C 1 dX10_newPlace_0 rfl rfl rfl ?_
  refine z_getI (q := 4) C flX10_188 dX10_newPlace_1 hf rfl fun v1 hf => ?_
  refine z_bipush (q := 6) C (6 : Int32) dX10_newPlace_4 kb_6 rfl ?_
  refine z_icmpne (q := 9) (tgt := 26) C dX10_newPlace_6 (by decide) rfl hf (fun c6 hf => ?_) (fun c6 hf => ?_)
  · refine z_aload_n (q := 27) (i := 0) C 0 dX10_newPlace_26 rfl rfl rfl ?_
    refine z_callVv (q := 30) (As := []) C (fun o ho => m_X10_next _ _ ho) zk10 vvX10_19 cdX10_next pnX10 dX10_newPlace_27 rfl (by decide) (Nat.le_of_ble_eq_true rfl) hf rfl fun σ hf => ?_
    refine z_aload_n (q := 31) (i := 1) C 1 dX10_newPlace_30 rfl rfl rfl ?_
    refine z_getR (q := 34) C flX10_191 dX10_newPlace_31 hf rfl fun v3 hf => ?_
    refine z_aload_n (q := 35) (i := 1) C 1 dX10_newPlace_34 rfl rfl rfl ?_
    refine z_getI (q := 38) C flX10_188 dX10_newPlace_35 hf rfl fun v4 hf => ?_
    refine z_aload_n (q := 39) (i := 0) C 0 dX10_newPlace_38 rfl rfl rfl ?_
    refine z_aload_n (q := 40) (i := 1) C 1 dX10_newPlace_39 rfl rfl rfl ?_
    refine z_callXVl (q := 43) (As := [.ref a1]) C (fun o ho => m_X10_fresh _ _ _ ho) zk10 vvX10_195 cdX10_fresh pnX10 dX10_newPlace_40 rfl (by decide) (Nat.le_of_ble_eq_true rfl) hf rfl (fun xx σ hf T locs ls hP hL h1 h2 hl X0 => ?_) fun v5 σ hf => ?_
    · cases hf
      exact zthrown_out C (by decide) hP hL h1 h2 X0
    refine z_last (q := 44) C dX10_newPlace_43 hf rfl fun σ hf => ?_
    refine z_aload_n (q := 45) (i := 1) C 1 dX10_newPlace_44 rfl rfl rfl ?_
    refine z_dup (q := 46) C dX10_newPlace_45 rfl rfl ?_
    refine z_getI (q := 49) C flX10_188 dX10_newPlace_46 hf rfl fun v6 hf => ?_
    refine z_iconst (q := 50) C (1 : Int32) dX10_newPlace_49 ki_1 rfl ?_
    refine z_iadd (q := 51) C dX10_newPlace_50 rfl ?_
    refine z_putI (q := 54) C puX10_188 dX10_newPlace_51 hf rfl fun σ hf => ?_
    cases hf
    exact z_return C rfl dX10_newPlace_54 rfl
  · refine z_aload_n (q := 10) (i := 0) C 0 dX10_newPlace_9 rfl rfl rfl ?_
    refine z_getR (q := 13) C flX10_3 dX10_newPlace_10 hf rfl fun v7 hf => ?_
    refine z_getR (q := 16) C flX10_55 dX10_newPlace_13 hf rfl fun v8 hf => ?_
    refine z_bipush (q := 18) C (6 : Int32) dX10_newPlace_16 kb_6 rfl ?_
    refine z_aload_n (q := 19) (i := 0) C 0 dX10_newPlace_18 rfl rfl rfl ?_
    refine z_getI (q := 22) C flX10_29 dX10_newPlace_19 hf rfl fun v9 hf => ?_
    refine z_callVr (q := 25) (As := [.int (6 : Int32), .int v9]) C (fun o ho => m_X2_at _ _ _ _ ho) zk2 vvX10_59 cdX2_at pnX2 dX10_newPlace_22 rfl (by decide) (Nat.le_of_ble_eq_true rfl) hf rfl fun v10 σ hf => ?_
    cases hf
    exact z_athrow C dX10_newPlace_25 (by decide) rfl

noncomputable def f_X10_word (a0 : Nat) (s1 : Nat) (σ : ZT) : Option ((Nat × ZT) ⊕ ZT) :=
  bnd2 (vc 10 a0 σ (f_X10_isWord a0 s1 σ)) fun v1 σ =>
  if v1 = 0 then
  (bnd2 (vc 10 a0 σ (f_X10_wrong a0 σ)) fun v3 σ =>
  some (.inl (v3, σ)))
  else
  ((vc 10 a0 σ (f_X10_next a0 σ)).bind fun σ =>
  some (.inr σ))
set_option maxHeartbeats 4000000 in
theorem m_X10_word {l : Launch} {G : ZG} (a0 : Nat) (s1 : Nat) (σ : ZT) {out : ((Nat × ZT) ⊕ ZT)} (hf : f_X10_word a0 s1 σ = some out) : ZM l G yX10_word cX10_word 2 none [] 7 [.ref a0, .ref (gS G s1)] σ (zov out) (zsv out) := by
  refine ZM.of [(0, .ref a0), (1, .ref (gS G s1))] rfl (Nat.le_of_ble_eq_true rfl) fun X (C : ZC G RX10 "word" cX10_word 2 none [] X 7) => ?_
  unfold f_X10_word at hf
  refine z_aload_n (q := 1) (i := 0) C 0 dX10_word_0 rfl rfl rfl ?_
  refine z_aload_n (q := 2) (i := 1) C 1 dX10_word_1 rfl rfl rfl ?_
  refine z_callVi (q := 5) (As := [.ref (gS G s1)]) C (fun o ho => m_X10_isWord _ _ _ ho) zk10 vvX10_68 cdX10_isWord pnX10 dX10_word_2 rfl (by decide) (Nat.le_of_ble_eq_true rfl) hf rfl fun v1 σ hf => ?_
  refine z_ifne (q := 8) (tgt := 13) C dX10_word_5 (by decide) rfl hf (fun c5 hf => ?_) (fun c5 hf => ?_)
  · refine z_aload_n (q := 14) (i := 0) C 0 dX10_word_13 rfl rfl rfl ?_
    refine z_callVv (q := 17) (As := []) C (fun o ho => m_X10_next _ _ ho) zk10 vvX10_19 cdX10_next pnX10 dX10_word_14 rfl (by decide) (Nat.le_of_ble_eq_true rfl) hf rfl fun σ hf => ?_
    cases hf
    exact z_return C rfl dX10_word_17 rfl
  · refine z_aload_n (q := 9) (i := 0) C 0 dX10_word_8 rfl rfl rfl ?_
    refine z_callVr (q := 12) (As := []) C (fun o ho => m_X10_wrong _ _ ho) zk10 vvX10_64 cdX10_wrong pnX10 dX10_word_9 rfl (by decide) (Nat.le_of_ble_eq_true rfl) hf rfl fun v3 σ hf => ?_
    cases hf
    exact z_athrow C dX10_word_12 (by decide) rfl

noncomputable def f_X10_known (a0 : Nat) (i1 : Int32) (σ : ZT) : Option ((Nat × ZT) ⊕ (Int32 × ZT)) :=
  if i1 < 0 then
  ((gR 10 1006 a0 σ).bind fun v2 =>
  (gR 0 5 v2 σ).bind fun v3 =>
  (gI 10 1001 a0 σ).bind fun v4 =>
  bnd2 (vc 2 v3 σ (f_X2_at v3 (3 : Int32) v4 σ)) fun v5 σ =>
  some (.inl (v5, σ)))
  else
  ((vc 10 a0 σ (f_X10_next a0 σ)).bind fun σ =>
  some (.inr (i1, σ)))
set_option maxHeartbeats 4000000 in
theorem m_X10_known {l : Launch} {G : ZG} (a0 : Nat) (i1 : Int32) (σ : ZT) {out : ((Nat × ZT) ⊕ (Int32 × ZT))} (hf : f_X10_known a0 i1 σ = some out) : ZM l G yX10_known cX10_known 2 (some .int) [] 3 [.ref a0, .int i1] σ (zoi out) (zsi out) := by
  refine ZM.of [(0, .ref a0), (1, .int i1)] rfl (Nat.le_of_ble_eq_true rfl) fun X (C : ZC G RX10 "known" cX10_known 2 (some .int) [] X 3) => ?_
  unfold f_X10_known at hf
  refine z_iload_n (q := 1) (i := 1) C 1 dX10_known_0 rfl rfl rfl ?_
  refine z_ifge (q := 4) (tgt := 20) C dX10_known_1 (by decide) rfl hf (fun c1 hf => ?_) (fun c1 hf => ?_)
  · refine z_aload_n (q := 21) (i := 0) C 0 dX10_known_20 rfl rfl rfl ?_
    refine z_callVv (q := 24) (As := []) C (fun o ho => m_X10_next _ _ ho) zk10 vvX10_19 cdX10_next pnX10 dX10_known_21 rfl (by decide) (Nat.le_of_ble_eq_true rfl) hf rfl fun σ hf => ?_
    refine z_iload_n (q := 25) (i := 1) C 1 dX10_known_24 rfl rfl rfl ?_
    cases hf
    exact z_ireturn C rfl dX10_known_25 rfl
  · refine z_aload_n (q := 5) (i := 0) C 0 dX10_known_4 rfl rfl rfl ?_
    refine z_getR (q := 8) C flX10_3 dX10_known_5 hf rfl fun v2 hf => ?_
    refine z_getR (q := 11) C flX10_55 dX10_known_8 hf rfl fun v3 hf => ?_
    refine z_iconst (q := 12) C (3 : Int32) dX10_known_11 ki_3 rfl ?_
    refine z_aload_n (q := 13) (i := 0) C 0 dX10_known_12 rfl rfl rfl ?_
    refine z_getI (q := 16) C flX10_29 dX10_known_13 hf rfl fun v4 hf => ?_
    refine z_callVr (q := 19) (As := [.int (3 : Int32), .int v4]) C (fun o ho => m_X2_at _ _ _ _ ho) zk2 vvX10_59 cdX2_at pnX2 dX10_known_16 rfl (by decide) (Nat.le_of_ble_eq_true rfl) hf rfl fun v5 σ hf => ?_
    cases hf
    exact z_athrow C dX10_known_19 (by decide) rfl

noncomputable def f_X10_place (a0 : Nat) (a1 : Nat) (σ : ZT) : Option ((Nat × ZT) ⊕ (Int32 × ZT)) :=
  bndX (vc 10 a0 σ (f_X10_name a0 σ)) (fun xx σ => some (.inl (xx, σ))) fun v1 σ =>
  bnd2 (vc 6 a1 σ (f_X6_placeNamed a1 v1 σ)) fun v2 σ =>
  bndX (vc 10 a0 σ (f_X10_known a0 v2 σ)) (fun xx σ => some (.inl (xx, σ))) fun v3 σ =>
  some (.inr (v3, σ))
set_option maxHeartbeats 4000000 in
theorem m_X10_place {l : Launch} {G : ZG} (a0 : Nat) (a1 : Nat) (σ : ZT) {out : ((Nat × ZT) ⊕ (Int32 × ZT))} (hf : f_X10_place a0 a1 σ = some out) : ZM l G yX10_place cX10_place 2 (some .int) [] 9 [.ref a0, .ref a1] σ (zoi out) (zsi out) := by
  refine ZM.of [(0, .ref a0), (1, .ref a1)] rfl (Nat.le_of_ble_eq_true rfl) fun X (C : ZC G RX10 "place" cX10_place 2 (some .int) [] X 9) => ?_
  unfold f_X10_place at hf
  refine z_aload_n (q := 1) (i := 0) C 0 dX10_place_0 rfl rfl rfl ?_
  refine z_aload_n (q := 2) (i := 1) C 1 dX10_place_1 rfl rfl rfl ?_
  refine z_aload_n (q := 3) (i := 0) C 0 dX10_place_2 rfl rfl rfl ?_
  refine z_callXVl (q := 6) (As := []) C (fun o ho => m_X10_name _ _ ho) zk10 vvX10_142 cdX10_name pnX10 dX10_place_3 rfl (by decide) (Nat.le_of_ble_eq_true rfl) hf rfl (fun xx σ hf T locs ls hP hL h1 h2 hl X0 => ?_) fun v1 σ hf => ?_
  · cases hf
    exact zthrown_out C (by decide) hP hL h1 h2 X0
  refine z_callVi (q := 9) (As := [.long v1]) C (fun o ho => m_X6_placeNamed _ _ _ ho) zk6 vvX10_152 cdX6_placeNamed pnX6 dX10_place_6 rfl (by decide) (Nat.le_of_ble_eq_true rfl) hf rfl fun v2 σ hf => ?_
  refine z_callXVi (q := 12) (As := [.int v2]) C (fun o ho => m_X10_known _ _ _ ho) zk10 vvX10_156 cdX10_known pnX10 dX10_place_9 rfl (by decide) (Nat.le_of_ble_eq_true rfl) hf rfl (fun xx σ hf T locs ls hP hL h1 h2 hl X0 => ?_) fun v3 σ hf => ?_
  · cases hf
    exact zthrown_out C (by decide) hP hL h1 h2 X0
  cases hf
  exact z_ireturn C rfl dX10_place_12 rfl

noncomputable def f_X10_number_J29 (a0_29 : Nat) (σ : ZT) : Option ((Nat × ZT) ⊕ (Int32 × ZT)) :=
  (gR 10 1006 a0_29 σ).bind fun v7 =>
  (gR 0 5 v7 σ).bind fun v8 =>
  (gI 10 1001 a0_29 σ).bind fun v9 =>
  bnd2 (vc 2 v8 σ (f_X2_at v8 (4 : Int32) v9 σ)) fun v10 σ =>
  some (.inl (v10, σ))
noncomputable def f_X10_number (a0 : Nat) (i1 : Int32) (i2 : Int32) (σ : ZT) : Option ((Nat × ZT) ⊕ (Int32 × ZT)) :=
  (gI 10 1003 a0 σ).bind fun v1 =>
  if v1 = (2 : Int32) then
  ((gI 10 1004 a0 σ).bind fun v2 =>
  if v2 < i1 then
  (f_X10_number_J29 a0 σ)
  else
  ((gI 10 1004 a0 σ).bind fun v3 =>
  if i2 < v3 then
  (f_X10_number_J29 a0 σ)
  else
  ((gI 10 1004 a0 σ).bind fun v4 =>
  (vc 10 a0 σ (f_X10_next a0 σ)).bind fun σ =>
  some (.inr (v4, σ)))))
  else
  (bnd2 (vc 10 a0 σ (f_X10_wrong a0 σ)) fun v6 σ =>
  some (.inl (v6, σ)))
set_option maxHeartbeats 4000000 in
theorem m_X10_number {l : Launch} {G : ZG} (a0 : Nat) (i1 : Int32) (i2 : Int32) (σ : ZT) {out : ((Nat × ZT) ⊕ (Int32 × ZT))} (hf : f_X10_number a0 i1 i2 σ = some out) : ZM l G yX10_number cX10_number 4 (some .int) [] 3 [.ref a0, .int i1, .int i2] σ (zoi out) (zsi out) := by
  refine ZM.of [(0, .ref a0), (1, .int i1), (2, .int i2)] rfl (Nat.le_of_ble_eq_true rfl) fun X (C : ZC G RX10 "number" cX10_number 4 (some .int) [] X 3) => ?_
  unfold f_X10_number at hf
  have j29_0 : ∀ (a0_29 : Nat) (σ : ZT), f_X10_number_J29 a0_29 σ = some out → ZW l G 4 X (ZQ G X (zoi out) (zsi out)) σ 29 [(0, .ref a0_29)] [] := by
    intro a0_29 σ hf
    unfold f_X10_number_J29 at hf
    refine z_aload_n (q := 30) (i := 0) C 0 dX10_number_29 rfl rfl rfl ?_
    refine z_getR (q := 33) C flX10_3 dX10_number_30 hf rfl fun v7 hf => ?_
    refine z_getR (q := 36) C flX10_55 dX10_number_33 hf rfl fun v8 hf => ?_
    refine z_iconst (q := 37) C (4 : Int32) dX10_number_36 ki_4 rfl ?_
    refine z_aload_n (q := 38) (i := 0) C 0 dX10_number_37 rfl rfl rfl ?_
    refine z_getI (q := 41) C flX10_29 dX10_number_38 hf rfl fun v9 hf => ?_
    refine z_callVr (q := 44) (As := [.int (4 : Int32), .int v9]) C (fun o ho => m_X2_at _ _ _ _ ho) zk2 vvX10_59 cdX2_at pnX2 dX10_number_41 rfl (by decide) (Nat.le_of_ble_eq_true rfl) hf rfl fun v10 σ hf => ?_
    cases hf
    exact z_athrow C dX10_number_44 (by decide) rfl
  refine z_aload_n (q := 1) (i := 0) C 0 dX10_number_0 rfl rfl rfl ?_
  refine z_getI (q := 4) C flX10_32 dX10_number_1 hf rfl fun v1 hf => ?_
  refine z_iconst (q := 5) C (2 : Int32) dX10_number_4 ki_2 rfl ?_
  refine z_icmpeq (q := 8) (tgt := 13) C dX10_number_5 (by decide) rfl hf (fun c5 hf => ?_) (fun c5 hf => ?_)
  · refine z_aload_n (q := 14) (i := 0) C 0 dX10_number_13 rfl rfl rfl ?_
    refine z_getI (q := 17) C flX10_42 dX10_number_14 hf rfl fun v2 hf => ?_
    refine z_iload_n (q := 18) (i := 1) C 1 dX10_number_17 rfl rfl rfl ?_
    refine z_icmplt (q := 21) (tgt := 29) C dX10_number_18 (by decide) rfl hf (fun c18 hf => ?_) (fun c18 hf => ?_)
    · refine z_lv [0] rfl ?_
      exact j29_0 a0 σ hf
    · refine z_aload_n (q := 22) (i := 0) C 0 dX10_number_21 rfl rfl rfl ?_
      refine z_getI (q := 25) C flX10_42 dX10_number_22 hf rfl fun v3 hf => ?_
      refine z_iload_n (q := 26) (i := 2) C 2 dX10_number_25 rfl rfl rfl ?_
      refine z_icmple (q := 29) (tgt := 45) C dX10_number_26 (by decide) rfl hf (fun c26 hf => ?_) (fun c26 hf => ?_)
      · refine z_aload_n (q := 46) (i := 0) C 0 dX10_number_45 rfl rfl rfl ?_
        refine z_getI (q := 49) C flX10_42 dX10_number_46 hf rfl fun v4 hf => ?_
        refine z_istore_n (q := 50) (i := 3) (lv' := [(3, .int v4), (0, .ref a0), (1, .int i1), (2, .int i2)]) C dX10_number_49 rfl (by decide) rfl rfl ?_
        refine z_aload_n (q := 51) (i := 0) C 1 dX10_number_50 rfl rfl rfl ?_
        refine z_callVv (q := 54) (As := []) C (fun o ho => m_X10_next _ _ ho) zk10 vvX10_19 cdX10_next pnX10 dX10_number_51 rfl (by decide) (Nat.le_of_ble_eq_true rfl) hf rfl fun σ hf => ?_
        refine z_iload_n (q := 55) (i := 3) C 0 dX10_number_54 rfl rfl rfl ?_
        cases hf
        exact z_ireturn C rfl dX10_number_55 rfl
      · refine z_lv [0] rfl ?_
        exact j29_0 a0 σ hf
  · refine z_aload_n (q := 9) (i := 0) C 0 dX10_number_8 rfl rfl rfl ?_
    refine z_callVr (q := 12) (As := []) C (fun o ho => m_X10_wrong _ _ ho) zk10 vvX10_64 cdX10_wrong pnX10 dX10_number_9 rfl (by decide) (Nat.le_of_ble_eq_true rfl) hf rfl fun v6 σ hf => ?_
    cases hf
    exact z_athrow C dX10_number_12 (by decide) rfl

noncomputable def f_X10_told (a0 : Nat) (s1 : Nat) (i2 : Int32) (i3 : Int32) (i4 : Int32) (σ : ZT) : Option ((Nat × ZT) ⊕ (Int32 × ZT)) :=
  bnd2 (vc 10 a0 σ (f_X10_isWord a0 s1 σ)) fun v1 σ =>
  if v1 = 0 then
  (some (.inr (i4, σ)))
  else
  ((vc 10 a0 σ (f_X10_next a0 σ)).bind fun σ =>
  bndX (vc 10 a0 σ (f_X10_number a0 i2 i3 σ)) (fun xx σ => some (.inl (xx, σ))) fun v3 σ =>
  some (.inr (v3, σ)))
set_option maxHeartbeats 4000000 in
theorem m_X10_told {l : Launch} {G : ZG} (a0 : Nat) (s1 : Nat) (i2 : Int32) (i3 : Int32) (i4 : Int32) (σ : ZT) {out : ((Nat × ZT) ⊕ (Int32 × ZT))} (hf : f_X10_told a0 s1 i2 i3 i4 σ = some out) : ZM l G yX10_told cX10_told 5 (some .int) [] 7 [.ref a0, .ref (gS G s1), .int i2, .int i3, .int i4] σ (zoi out) (zsi out) := by
  refine ZM.of [(0, .ref a0), (1, .ref (gS G s1)), (2, .int i2), (3, .int i3), (4, .int i4)] rfl (Nat.le_of_ble_eq_true rfl) fun X (C : ZC G RX10 "told" cX10_told 5 (some .int) [] X 7) => ?_
  unfold f_X10_told at hf
  refine z_aload_n (q := 1) (i := 0) C 0 dX10_told_0 rfl rfl rfl ?_
  refine z_aload_n (q := 2) (i := 1) C 1 dX10_told_1 rfl rfl rfl ?_
  refine z_callVi (q := 5) (As := [.ref (gS G s1)]) C (fun o ho => m_X10_isWord _ _ _ ho) zk10 vvX10_68 cdX10_isWord pnX10 dX10_told_2 rfl (by decide) (Nat.le_of_ble_eq_true rfl) hf rfl fun v1 σ hf => ?_
  refine z_ifne (q := 8) (tgt := 11) C dX10_told_5 (by decide) rfl hf (fun c5 hf => ?_) (fun c5 hf => ?_)
  · refine z_aload_n (q := 12) (i := 0) C 0 dX10_told_11 rfl rfl rfl ?_
    refine z_callVv (q := 15) (As := []) C (fun o ho => m_X10_next _ _ ho) zk10 vvX10_19 cdX10_next pnX10 dX10_told_12 rfl (by decide) (Nat.le_of_ble_eq_true rfl) hf rfl fun σ hf => ?_
    refine z_aload_n (q := 16) (i := 0) C 0 dX10_told_15 rfl rfl rfl ?_
    refine z_iload_n (q := 17) (i := 2) C 2 dX10_told_16 rfl rfl rfl ?_
    refine z_iload_n (q := 18) (i := 3) C 3 dX10_told_17 rfl rfl rfl ?_
    refine z_callXVi (q := 21) (As := [.int i2, .int i3]) C (fun o ho => m_X10_number _ _ _ _ ho) zk10 vvX10_72 cdX10_number pnX10 dX10_told_18 rfl (by decide) (Nat.le_of_ble_eq_true rfl) hf rfl (fun xx σ hf T locs ls hP hL h1 h2 hl X0 => ?_) fun v3 σ hf => ?_
    · cases hf
      exact zthrown_out C (by decide) hP hL h1 h2 X0
    cases hf
    exact z_ireturn C rfl dX10_told_21 rfl
  · refine z_iload (q := 10) (i := 4) C 4 dX10_told_8 rfl rfl ?_
    cases hf
    exact z_ireturn C rfl dX10_told_10 rfl

noncomputable def f_X10_newBridge (a0 : Nat) (a1 : Nat) (σ : ZT) : Option ((Nat × ZT) ⊕ ZT) :=
  (gI 6 601 a1 σ).bind fun v1 =>
  if v1 = (8 : Int32) then
  ((gR 10 1006 a0 σ).bind fun v26 =>
  (gR 0 5 v26 σ).bind fun v27 =>
  (gI 10 1001 a0 σ).bind fun v28 =>
  bnd2 (vc 2 v27 σ (f_X2_at v27 (6 : Int32) v28 σ)) fun v29 σ =>
  some (.inl (v29, σ)))
  else
  ((vc 10 a0 σ (f_X10_next a0 σ)).bind fun σ =>
  bndX (vc 10 a0 σ (f_X10_fresh a0 a1 σ)) (fun xx σ => some (.inl (xx, σ))) fun v3 σ =>
  bndXv (vc 10 a0 σ (f_X10_word a0 2 σ)) (fun xx σ => some (.inl (xx, σ))) fun σ =>
  bndX (vc 10 a0 σ (f_X10_place a0 a1 σ)) (fun xx σ => some (.inl (xx, σ))) fun v5 σ =>
  bndXv (vc 10 a0 σ (f_X10_word a0 3 σ)) (fun xx σ => some (.inl (xx, σ))) fun σ =>
  (gI 10 1001 a0 σ).bind fun v7 =>
  bndX (vc 10 a0 σ (f_X10_place a0 a1 σ)) (fun xx σ => some (.inl (xx, σ))) fun v8 σ =>
  if v5 = v8 then
  ((gR 10 1006 a0 σ).bind fun v23 =>
  (gR 0 5 v23 σ).bind fun v24 =>
  bnd2 (vc 2 v24 σ (f_X2_at v24 (5 : Int32) v7 σ)) fun v25 σ =>
  some (.inl (v25, σ)))
  else
  (bndXv (vc 10 a0 σ (f_X10_word a0 4 σ)) (fun xx σ => some (.inl (xx, σ))) fun σ =>
  bndX (vc 10 a0 σ (f_X10_place a0 a1 σ)) (fun xx σ => some (.inl (xx, σ))) fun v10 σ =>
  bndXv (vc 10 a0 σ (f_X10_word a0 5 σ)) (fun xx σ => some (.inl (xx, σ))) fun σ =>
  bnd2 (nwO 11 10 σ) fun v12 σ =>
  bndX (vc 10 a0 σ (f_X10_number a0 (0 : Int32) (999 : Int32) σ)) (fun xx σ => some (.inl (xx, σ))) fun v13 σ =>
  (f_X11_init v12 v3 v5 v8 v10 v13 σ).bind fun σ =>
  bndX (vc 10 a0 σ (f_X10_told a0 6 (1 : Int32) (3 : Int32) (1 : Int32) σ)) (fun xx σ => some (.inl (xx, σ))) fun v15 σ =>
  (pI 11 1105 v12 v15 σ).bind fun σ =>
  bndX (vc 10 a0 σ (f_X10_told a0 7 (0 : Int32) (9999 : Int32) (9999 : Int32) σ)) (fun xx σ => some (.inl (xx, σ))) fun v16 σ =>
  (pI 11 1106 v12 v16 σ).bind fun σ =>
  bndX (vc 10 a0 σ (f_X10_told a0 8 (0 : Int32) (99 : Int32) (0 : Int32) σ)) (fun xx σ => some (.inl (xx, σ))) fun v17 σ =>
  (pI 11 1107 v12 v17 σ).bind fun σ =>
  bndX (vc 10 a0 σ (f_X10_told a0 9 (1 : Int32) (99 : Int32) (1 : Int32) σ)) (fun xx σ => some (.inl (xx, σ))) fun v18 σ =>
  (pI 11 1108 v12 v18 σ).bind fun σ =>
  bndX (vc 10 a0 σ (f_X10_told a0 10 (0 : Int32) (15 : Int32) (0 : Int32) σ)) (fun xx σ => some (.inl (xx, σ))) fun v19 σ =>
  (pI 11 1109 v12 v19 σ).bind fun σ =>
  (gR 6 606 a1 σ).bind fun v20 =>
  (gI 6 601 a1 σ).bind fun v21 =>
  (stR 6 v20 v21 v12 σ).bind fun σ =>
  (gI 6 601 a1 σ).bind fun v22 =>
  (pI 6 601 a1 (v22 + (1 : Int32)) σ).bind fun σ =>
  some (.inr σ)))
set_option maxHeartbeats 4000000 in
theorem m_X10_newBridge {l : Launch} {G : ZG} (a0 : Nat) (a1 : Nat) (σ : ZT) {out : ((Nat × ZT) ⊕ ZT)} (hf : f_X10_newBridge a0 a1 σ = some out) : ZM l G yX10_newBridge cX10_newBridge 9 none [] 10 [.ref a0, .ref a1] σ (zov out) (zsv out) := by
  refine ZM.of [(0, .ref a0), (1, .ref a1)] rfl (Nat.le_of_ble_eq_true rfl) fun X (C : ZC G RX10 "newBridge" cX10_newBridge 9 none [] X 10) => ?_
  unfold f_X10_newBridge at hf
  refine z_aload_n (q := 1) (i := 1) C 1 dX10_newBridge_0 rfl rfl rfl ?_
  refine z_getI (q := 4) C flX10_199 dX10_newBridge_1 hf rfl fun v1 hf => ?_
  refine z_bipush (q := 6) C (8 : Int32) dX10_newBridge_4 kb_8 rfl ?_
  refine z_icmpne (q := 9) (tgt := 26) C dX10_newBridge_6 (by decide) rfl hf (fun c6 hf => ?_) (fun c6 hf => ?_)
  · refine z_aload_n (q := 27) (i := 0) C 0 dX10_newBridge_26 rfl rfl rfl ?_
    refine z_callVv (q := 30) (As := []) C (fun o ho => m_X10_next _ _ ho) zk10 vvX10_19 cdX10_next pnX10 dX10_newBridge_27 rfl (by decide) (Nat.le_of_ble_eq_true rfl) hf rfl fun σ hf => ?_
    refine z_aload_n (q := 31) (i := 0) C 0 dX10_newBridge_30 rfl rfl rfl ?_
    refine z_aload_n (q := 32) (i := 1) C 1 dX10_newBridge_31 rfl rfl rfl ?_
    refine z_callXVl (q := 35) (As := [.ref a1]) C (fun o ho => m_X10_fresh _ _ _ ho) zk10 vvX10_195 cdX10_fresh pnX10 dX10_newBridge_32 rfl (by decide) (Nat.le_of_ble_eq_true rfl) hf rfl (fun xx σ hf T locs ls hP hL h1 h2 hl X0 => ?_) fun v3 σ hf => ?_
    · cases hf
      exact zthrown_out C (by decide) hP hL h1 h2 X0
    refine z_lstore_n (q := 36) (i := 2) (lv' := [(2, .long v3), (0, .ref a0), (1, .ref a1)]) C dX10_newBridge_35 rfl (by decide) rfl rfl ?_
    refine z_aload_n (q := 37) (i := 0) C 1 dX10_newBridge_36 rfl rfl rfl ?_
    refine z_ldcS (q := 39) C 2 (by decide) rfl rfl dX10_newBridge_37 rfl ?_
    refine z_callXVv (q := 42) (As := [.ref (gS G 2)]) C (fun o ho => m_X10_word _ _ _ ho) zk10 vvX10_202 cdX10_word pnX10 dX10_newBridge_39 rfl (by decide) (Nat.le_of_ble_eq_true rfl) hf rfl (fun xx σ hf T locs ls hP hL h1 h2 hl X0 => ?_) fun σ hf => ?_
    · cases hf
      exact zthrown_out C (by decide) hP hL h1 h2 X0
    refine z_aload_n (q := 43) (i := 0) C 1 dX10_newBridge_42 rfl rfl rfl ?_
    refine z_aload_n (q := 44) (i := 1) C 2 dX10_newBridge_43 rfl rfl rfl ?_
    refine z_callXVi (q := 47) (As := [.ref a1]) C (fun o ho => m_X10_place _ _ _ ho) zk10 vvX10_206 cdX10_place pnX10 dX10_newBridge_44 rfl (by decide) (Nat.le_of_ble_eq_true rfl) hf rfl (fun xx σ hf T locs ls hP hL h1 h2 hl X0 => ?_) fun v5 σ hf => ?_
    · cases hf
      exact zthrown_out C (by decide) hP hL h1 h2 X0
    refine z_istore (q := 49) (i := 4) (lv' := [(4, .int v5), (2, .long v3), (0, .ref a0), (1, .ref a1)]) C dX10_newBridge_47 (by decide) rfl rfl ?_
    refine z_aload_n (q := 50) (i := 0) C 2 dX10_newBridge_49 rfl rfl rfl ?_
    refine z_ldcS (q := 52) C 3 (by decide) rfl rfl dX10_newBridge_50 rfl ?_
    refine z_callXVv (q := 55) (As := [.ref (gS G 3)]) C (fun o ho => m_X10_word _ _ _ ho) zk10 vvX10_202 cdX10_word pnX10 dX10_newBridge_52 rfl (by decide) (Nat.le_of_ble_eq_true rfl) hf rfl (fun xx σ hf T locs ls hP hL h1 h2 hl X0 => ?_) fun σ hf => ?_
    · cases hf
      exact zthrown_out C (by decide) hP hL h1 h2 X0
    refine z_aload_n (q := 56) (i := 0) C 2 dX10_newBridge_55 rfl rfl rfl ?_
    refine z_getI (q := 59) C flX10_29 dX10_newBridge_56 hf rfl fun v7 hf => ?_
    refine z_istore (q := 61) (i := 5) (lv' := [(5, .int v7), (4, .int v5), (2, .long v3), (0, .ref a0), (1, .ref a1)]) C dX10_newBridge_59 (by decide) rfl rfl ?_
    refine z_aload_n (q := 62) (i := 0) C 3 dX10_newBridge_61 rfl rfl rfl ?_
    refine z_aload_n (q := 63) (i := 1) C 4 dX10_newBridge_62 rfl rfl rfl ?_
    refine z_callXVi (q := 66) (As := [.ref a1]) C (fun o ho => m_X10_place _ _ _ ho) zk10 vvX10_206 cdX10_place pnX10 dX10_newBridge_63 rfl (by decide) (Nat.le_of_ble_eq_true rfl) hf rfl (fun xx σ hf T locs ls hP hL h1 h2 hl X0 => ?_) fun v8 σ hf => ?_
    · cases hf
      exact zthrown_out C (by decide) hP hL h1 h2 X0
    refine z_istore (q := 68) (i := 6) (lv' := [(6, .int v8), (5, .int v7), (4, .int v5), (2, .long v3), (0, .ref a0), (1, .ref a1)]) C dX10_newBridge_66 (by decide) rfl rfl ?_
    refine z_iload (q := 70) (i := 4) C 2 dX10_newBridge_68 rfl rfl ?_
    refine z_iload (q := 72) (i := 6) C 0 dX10_newBridge_70 rfl rfl ?_
    refine z_icmpne (q := 75) (tgt := 89) C dX10_newBridge_72 (by decide) rfl hf (fun c72 hf => ?_) (fun c72 hf => ?_)
    · refine z_aload_n (q := 90) (i := 0) C 4 dX10_newBridge_89 rfl rfl rfl ?_
      refine z_ldcS (q := 92) C 4 (by decide) rfl rfl dX10_newBridge_90 rfl ?_
      refine z_callXVv (q := 95) (As := [.ref (gS G 4)]) C (fun o ho => m_X10_word _ _ _ ho) zk10 vvX10_202 cdX10_word pnX10 dX10_newBridge_92 rfl (by decide) (Nat.le_of_ble_eq_true rfl) hf rfl (fun xx σ hf T locs ls hP hL h1 h2 hl X0 => ?_) fun σ hf => ?_
      · cases hf
        exact zthrown_out C (by decide) hP hL h1 h2 X0
      refine z_aload_n (q := 96) (i := 0) C 4 dX10_newBridge_95 rfl rfl rfl ?_
      refine z_aload_n (q := 97) (i := 1) C 5 dX10_newBridge_96 rfl rfl rfl ?_
      refine z_callXVi (q := 100) (As := [.ref a1]) C (fun o ho => m_X10_place _ _ _ ho) zk10 vvX10_206 cdX10_place pnX10 dX10_newBridge_97 rfl (by decide) (Nat.le_of_ble_eq_true rfl) hf rfl (fun xx σ hf T locs ls hP hL h1 h2 hl X0 => ?_) fun v10 σ hf => ?_
      · cases hf
        exact zthrown_out C (by decide) hP hL h1 h2 X0
      refine z_istore (q := 102) (i := 7) (lv' := [(7, .int v10), (6, .int v8), (5, .int v7), (4, .int v5), (2, .long v3), (0, .ref a0), (1, .ref a1)]) C dX10_newBridge_100 (by decide) rfl rfl ?_
      refine z_aload_n (q := 103) (i := 0) C 5 dX10_newBridge_102 rfl rfl rfl ?_
      refine z_ldcS (q := 105) C 5 (by decide) rfl rfl dX10_newBridge_103 rfl ?_
      refine z_callXVv (q := 108) (As := [.ref (gS G 5)]) C (fun o ho => m_X10_word _ _ _ ho) zk10 vvX10_202 cdX10_word pnX10 dX10_newBridge_105 rfl (by decide) (Nat.le_of_ble_eq_true rfl) hf rfl (fun xx σ hf T locs ls hP hL h1 h2 hl X0 => ?_) fun σ hf => ?_
      · cases hf
        exact zthrown_out C (by decide) hP hL h1 h2 X0
      refine z_new (q := 111) C zk11 zty11 q900 q901 q166 dX10_newBridge_108 hf rfl fun v12 σ hf => ?_
      refine z_dup (q := 112) C dX10_newBridge_111 rfl rfl ?_
      refine z_lload_n (q := 113) (i := 2) C 4 dX10_newBridge_112 rfl rfl rfl ?_
      refine z_iload (q := 115) (i := 4) C 3 dX10_newBridge_113 rfl rfl ?_
      refine z_iload (q := 117) (i := 6) C 1 dX10_newBridge_115 rfl rfl ?_
      refine z_iload (q := 119) (i := 7) C 0 dX10_newBridge_117 rfl rfl ?_
      refine z_aload_n (q := 120) (i := 0) C 5 dX10_newBridge_119 rfl rfl rfl ?_
      refine z_iconst (q := 121) C (0 : Int32) dX10_newBridge_120 ki_0 rfl ?_
      refine z_sipush (q := 124) C (999 : Int32) dX10_newBridge_121 ks_999 rfl ?_
      refine z_callXVi (q := 127) (As := [.int (0 : Int32), .int (999 : Int32)]) C (fun o ho => m_X10_number _ _ _ _ ho) zk10 vvX10_72 cdX10_number pnX10 dX10_newBridge_124 rfl (by decide) (Nat.le_of_ble_eq_true rfl) hf rfl (fun xx σ hf T locs ls hP hL h1 h2 hl X0 => ?_) fun v13 σ hf => ?_
      · cases hf
        exact zthrown_out C (by decide) hP hL h1 h2 X0
      refine z_callIv (q := 130) (As := [.long v3, .int v5, .int v8, .int v10, .int v13]) C (fun o ho => m_X11_init _ _ _ _ _ _ _ ho) viX10_211 pnX11 dX10_newBridge_127 rfl (by decide) (Nat.le_of_ble_eq_true rfl) hf rfl fun σ hf => ?_
      refine z_astore (q := 132) (i := 8) (lv' := [(8, .ref v12), (7, .int v10), (6, .int v8), (5, .int v7), (4, .int v5), (2, .long v3), (0, .ref a0), (1, .ref a1)]) C dX10_newBridge_130 (by decide) rfl rfl ?_
      refine z_aload (q := 134) (i := 8) C 0 dX10_newBridge_132 rfl rfl ?_
      refine z_aload_n (q := 135) (i := 0) C 6 dX10_newBridge_134 rfl rfl rfl ?_
      refine z_ldcS (q := 137) C 6 (by decide) rfl rfl dX10_newBridge_135 rfl ?_
      refine z_iconst (q := 138) C (1 : Int32) dX10_newBridge_137 ki_1 rfl ?_
      refine z_iconst (q := 139) C (3 : Int32) dX10_newBridge_138 ki_3 rfl ?_
      refine z_iconst (q := 140) C (1 : Int32) dX10_newBridge_139 ki_1 rfl ?_
      refine z_callXVi (q := 143) (As := [.ref (gS G 6), .int (1 : Int32), .int (3 : Int32), .int (1 : Int32)]) C (fun o ho => m_X10_told _ _ _ _ _ _ ho) zk10 vvX10_214 cdX10_told pnX10 dX10_newBridge_140 rfl (by decide) (Nat.le_of_ble_eq_true rfl) hf rfl (fun xx σ hf T locs ls hP hL h1 h2 hl X0 => ?_) fun v15 σ hf => ?_
      · cases hf
        exact zthrown_out C (by decide) hP hL h1 h2 X0
      refine z_putI (q := 146) C puX10_218 dX10_newBridge_143 hf rfl fun σ hf => ?_
      refine z_aload (q := 148) (i := 8) C 0 dX10_newBridge_146 rfl rfl ?_
      refine z_aload_n (q := 149) (i := 0) C 6 dX10_newBridge_148 rfl rfl rfl ?_
      refine z_ldcS (q := 151) C 7 (by decide) rfl rfl dX10_newBridge_149 rfl ?_
      refine z_iconst (q := 152) C (0 : Int32) dX10_newBridge_151 ki_0 rfl ?_
      refine z_sipush (q := 155) C (9999 : Int32) dX10_newBridge_152 ks_9999 rfl ?_
      refine z_sipush (q := 158) C (9999 : Int32) dX10_newBridge_155 ks_9999 rfl ?_
      refine z_callXVi (q := 161) (As := [.ref (gS G 7), .int (0 : Int32), .int (9999 : Int32), .int (9999 : Int32)]) C (fun o ho => m_X10_told _ _ _ _ _ _ ho) zk10 vvX10_214 cdX10_told pnX10 dX10_newBridge_158 rfl (by decide) (Nat.le_of_ble_eq_true rfl) hf rfl (fun xx σ hf T locs ls hP hL h1 h2 hl X0 => ?_) fun v16 σ hf => ?_
      · cases hf
        exact zthrown_out C (by decide) hP hL h1 h2 X0
      refine z_putI (q := 164) C puX10_220 dX10_newBridge_161 hf rfl fun σ hf => ?_
      refine z_aload (q := 166) (i := 8) C 0 dX10_newBridge_164 rfl rfl ?_
      refine z_aload_n (q := 167) (i := 0) C 6 dX10_newBridge_166 rfl rfl rfl ?_
      refine z_ldcS (q := 169) C 8 (by decide) rfl rfl dX10_newBridge_167 rfl ?_
      refine z_iconst (q := 170) C (0 : Int32) dX10_newBridge_169 ki_0 rfl ?_
      refine z_bipush (q := 172) C (99 : Int32) dX10_newBridge_170 kb_99 rfl ?_
      refine z_iconst (q := 173) C (0 : Int32) dX10_newBridge_172 ki_0 rfl ?_
      refine z_callXVi (q := 176) (As := [.ref (gS G 8), .int (0 : Int32), .int (99 : Int32), .int (0 : Int32)]) C (fun o ho => m_X10_told _ _ _ _ _ _ ho) zk10 vvX10_214 cdX10_told pnX10 dX10_newBridge_173 rfl (by decide) (Nat.le_of_ble_eq_true rfl) hf rfl (fun xx σ hf T locs ls hP hL h1 h2 hl X0 => ?_) fun v17 σ hf => ?_
      · cases hf
        exact zthrown_out C (by decide) hP hL h1 h2 X0
      refine z_putI (q := 179) C puX10_222 dX10_newBridge_176 hf rfl fun σ hf => ?_
      refine z_aload (q := 181) (i := 8) C 0 dX10_newBridge_179 rfl rfl ?_
      refine z_aload_n (q := 182) (i := 0) C 6 dX10_newBridge_181 rfl rfl rfl ?_
      refine z_ldcS (q := 184) C 9 (by decide) rfl rfl dX10_newBridge_182 rfl ?_
      refine z_iconst (q := 185) C (1 : Int32) dX10_newBridge_184 ki_1 rfl ?_
      refine z_bipush (q := 187) C (99 : Int32) dX10_newBridge_185 kb_99 rfl ?_
      refine z_iconst (q := 188) C (1 : Int32) dX10_newBridge_187 ki_1 rfl ?_
      refine z_callXVi (q := 191) (As := [.ref (gS G 9), .int (1 : Int32), .int (99 : Int32), .int (1 : Int32)]) C (fun o ho => m_X10_told _ _ _ _ _ _ ho) zk10 vvX10_214 cdX10_told pnX10 dX10_newBridge_188 rfl (by decide) (Nat.le_of_ble_eq_true rfl) hf rfl (fun xx σ hf T locs ls hP hL h1 h2 hl X0 => ?_) fun v18 σ hf => ?_
      · cases hf
        exact zthrown_out C (by decide) hP hL h1 h2 X0
      refine z_putI (q := 194) C puX10_224 dX10_newBridge_191 hf rfl fun σ hf => ?_
      refine z_aload (q := 196) (i := 8) C 0 dX10_newBridge_194 rfl rfl ?_
      refine z_aload_n (q := 197) (i := 0) C 6 dX10_newBridge_196 rfl rfl rfl ?_
      refine z_ldcS (q := 199) C 10 (by decide) rfl rfl dX10_newBridge_197 rfl ?_
      refine z_iconst (q := 200) C (0 : Int32) dX10_newBridge_199 ki_0 rfl ?_
      refine z_bipush (q := 202) C (15 : Int32) dX10_newBridge_200 kb_15 rfl ?_
      refine z_iconst (q := 203) C (0 : Int32) dX10_newBridge_202 ki_0 rfl ?_
      refine z_callXVi (q := 206) (As := [.ref (gS G 10), .int (0 : Int32), .int (15 : Int32), .int (0 : Int32)]) C (fun o ho => m_X10_told _ _ _ _ _ _ ho) zk10 vvX10_214 cdX10_told pnX10 dX10_newBridge_203 rfl (by decide) (Nat.le_of_ble_eq_true rfl) hf rfl (fun xx σ hf T locs ls hP hL h1 h2 hl X0 => ?_) fun v19 σ hf => ?_
      · cases hf
        exact zthrown_out C (by decide) hP hL h1 h2 X0
      refine z_putI (q := 209) C puX10_226 dX10_newBridge_206 hf rfl fun σ hf => ?_
      refine z_aload_n (q := 210) (i := 1) C 7 dX10_newBridge_209 rfl rfl rfl ?_
      refine z_getR (q := 213) C flX10_228 dX10_newBridge_210 hf rfl fun v20 hf => ?_
      refine z_aload_n (q := 214) (i := 1) C 7 dX10_newBridge_213 rfl rfl rfl ?_
      refine z_getI (q := 217) C flX10_199 dX10_newBridge_214 hf rfl fun v21 hf => ?_
      refine z_aload (q := 219) (i := 8) C 0 dX10_newBridge_217 rfl rfl ?_
      refine z_aast (q := 220) C 6 (by decide) (by decide) dX10_newBridge_219 hf rfl fun σ hf => ?_
      refine z_aload_n (q := 221) (i := 1) C 7 dX10_newBridge_220 rfl rfl rfl ?_
      refine z_dup (q := 222) C dX10_newBridge_221 rfl rfl ?_
      refine z_getI (q := 225) C flX10_199 dX10_newBridge_222 hf rfl fun v22 hf => ?_
      refine z_iconst (q := 226) C (1 : Int32) dX10_newBridge_225 ki_1 rfl ?_
      refine z_iadd (q := 227) C dX10_newBridge_226 rfl ?_
      refine z_putI (q := 230) C puX10_199 dX10_newBridge_227 hf rfl fun σ hf => ?_
      cases hf
      exact z_return C rfl dX10_newBridge_230 rfl
    · refine z_aload_n (q := 76) (i := 0) C 4 dX10_newBridge_75 rfl rfl rfl ?_
      refine z_getR (q := 79) C flX10_3 dX10_newBridge_76 hf rfl fun v23 hf => ?_
      refine z_getR (q := 82) C flX10_55 dX10_newBridge_79 hf rfl fun v24 hf => ?_
      refine z_iconst (q := 83) C (5 : Int32) dX10_newBridge_82 ki_5 rfl ?_
      refine z_iload (q := 85) (i := 5) C 1 dX10_newBridge_83 rfl rfl ?_
      refine z_callVr (q := 88) (As := [.int (5 : Int32), .int v7]) C (fun o ho => m_X2_at _ _ _ _ ho) zk2 vvX10_59 cdX2_at pnX2 dX10_newBridge_85 rfl (by decide) (Nat.le_of_ble_eq_true rfl) hf rfl fun v25 σ hf => ?_
      cases hf
      exact z_athrow C dX10_newBridge_88 (by decide) rfl
  · refine z_aload_n (q := 10) (i := 0) C 0 dX10_newBridge_9 rfl rfl rfl ?_
    refine z_getR (q := 13) C flX10_3 dX10_newBridge_10 hf rfl fun v26 hf => ?_
    refine z_getR (q := 16) C flX10_55 dX10_newBridge_13 hf rfl fun v27 hf => ?_
    refine z_bipush (q := 18) C (6 : Int32) dX10_newBridge_16 kb_6 rfl ?_
    refine z_aload_n (q := 19) (i := 0) C 0 dX10_newBridge_18 rfl rfl rfl ?_
    refine z_getI (q := 22) C flX10_29 dX10_newBridge_19 hf rfl fun v28 hf => ?_
    refine z_callVr (q := 25) (As := [.int (6 : Int32), .int v28]) C (fun o ho => m_X2_at _ _ _ _ ho) zk2 vvX10_59 cdX2_at pnX2 dX10_newBridge_22 rfl (by decide) (Nat.le_of_ble_eq_true rfl) hf rfl fun v29 σ hf => ?_
    cases hf
    exact z_athrow C dX10_newBridge_25 (by decide) rfl

noncomputable def f_X10_newPerson_J132 (a1_132 : Nat) (a5_132 : Nat) (σ : ZT) : Option ((Nat × ZT) ⊕ ZT) :=
  (gR 6 607 a1_132 σ).bind fun v20 =>
  (gI 6 602 a1_132 σ).bind fun v21 =>
  (stR 7 v20 v21 a5_132 σ).bind fun σ =>
  (gI 6 602 a1_132 σ).bind fun v22 =>
  (pI 6 602 a1_132 (v22 + (1 : Int32)) σ).bind fun σ =>
  some (.inr σ)
noncomputable def f_X10_newPerson_J97 (a0_97 : Nat) (a1_97 : Nat) (a5_97 : Nat) (σ : ZT) : Option ((Nat × ZT) ⊕ ZT) :=
  bndX (vc 10 a0_97 σ (f_X10_told a0_97 15 (0 : Int32) (999 : Int32) (0 : Int32) σ)) (fun xx σ => some (.inl (xx, σ))) fun v17 σ =>
  (pI 12 1204 a5_97 v17 σ).bind fun σ =>
  bnd2 (vc 10 a0_97 σ (f_X10_isWord a0_97 16 σ)) fun v18 σ =>
  if v18 = 0 then
  (f_X10_newPerson_J132 a1_97 a5_97 σ)
  else
  ((vc 10 a0_97 σ (f_X10_next a0_97 σ)).bind fun σ =>
  (pZ 12 1205 a5_97 (1 : Int32) σ).bind fun σ =>
  f_X10_newPerson_J132 a1_97 a5_97 σ)
noncomputable def f_X10_newPerson (a0 : Nat) (a1 : Nat) (σ : ZT) : Option ((Nat × ZT) ⊕ ZT) :=
  (gI 6 602 a1 σ).bind fun v1 =>
  if v1 = (4 : Int32) then
  ((gR 10 1006 a0 σ).bind fun v13 =>
  (gR 0 5 v13 σ).bind fun v14 =>
  (gI 10 1001 a0 σ).bind fun v15 =>
  bnd2 (vc 2 v14 σ (f_X2_at v14 (6 : Int32) v15 σ)) fun v16 σ =>
  some (.inl (v16, σ)))
  else
  ((vc 10 a0 σ (f_X10_next a0 σ)).bind fun σ =>
  bndX (vc 10 a0 σ (f_X10_fresh a0 a1 σ)) (fun xx σ => some (.inl (xx, σ))) fun v3 σ =>
  bndXv (vc 10 a0 σ (f_X10_word a0 12 σ)) (fun xx σ => some (.inl (xx, σ))) fun σ =>
  bndX (vc 10 a0 σ (f_X10_number a0 (1 : Int32) (999 : Int32) σ)) (fun xx σ => some (.inl (xx, σ))) fun v5 σ =>
  bndXv (vc 10 a0 σ (f_X10_word a0 13 σ)) (fun xx σ => some (.inl (xx, σ))) fun σ =>
  bnd2 (nwO 12 6 σ) fun v7 σ =>
  bndX (vc 10 a0 σ (f_X10_place a0 a1 σ)) (fun xx σ => some (.inl (xx, σ))) fun v8 σ =>
  (f_X12_init v7 v3 v5 v8 σ).bind fun σ =>
  bnd2 (vc 10 a0 σ (f_X10_isWord a0 14 σ)) fun v10 σ =>
  if v10 = 0 then
  (f_X10_newPerson_J97 a0 a1 v7 σ)
  else
  ((vc 10 a0 σ (f_X10_next a0 σ)).bind fun σ =>
  bndX (vc 10 a0 σ (f_X10_place a0 a1 σ)) (fun xx σ => some (.inl (xx, σ))) fun v12 σ =>
  (pI 12 1203 v7 v12 σ).bind fun σ =>
  f_X10_newPerson_J97 a0 a1 v7 σ))
set_option maxHeartbeats 4000000 in
theorem m_X10_newPerson {l : Launch} {G : ZG} (a0 : Nat) (a1 : Nat) (σ : ZT) {out : ((Nat × ZT) ⊕ ZT)} (hf : f_X10_newPerson a0 a1 σ = some out) : ZM l G yX10_newPerson cX10_newPerson 6 none [] 10 [.ref a0, .ref a1] σ (zov out) (zsv out) := by
  refine ZM.of [(0, .ref a0), (1, .ref a1)] rfl (Nat.le_of_ble_eq_true rfl) fun X (C : ZC G RX10 "newPerson" cX10_newPerson 6 none [] X 10) => ?_
  unfold f_X10_newPerson at hf
  have j132_0 : ∀ (a1_132 : Nat) (a5_132 : Nat) (σ : ZT), f_X10_newPerson_J132 a1_132 a5_132 σ = some out → ZW l G 6 X (ZQ G X (zov out) (zsv out)) σ 132 [(1, .ref a1_132), (5, .ref a5_132)] [] := by
    intro a1_132 a5_132 σ hf
    unfold f_X10_newPerson_J132 at hf
    refine z_aload_n (q := 133) (i := 1) C 0 dX10_newPerson_132 rfl rfl rfl ?_
    refine z_getR (q := 136) C flX10_247 dX10_newPerson_133 hf rfl fun v20 hf => ?_
    refine z_aload_n (q := 137) (i := 1) C 0 dX10_newPerson_136 rfl rfl rfl ?_
    refine z_getI (q := 140) C flX10_232 dX10_newPerson_137 hf rfl fun v21 hf => ?_
    refine z_aload (q := 142) (i := 5) C 1 dX10_newPerson_140 rfl rfl ?_
    refine z_aast (q := 143) C 7 (by decide) (by decide) dX10_newPerson_142 hf rfl fun σ hf => ?_
    refine z_aload_n (q := 144) (i := 1) C 0 dX10_newPerson_143 rfl rfl rfl ?_
    refine z_dup (q := 145) C dX10_newPerson_144 rfl rfl ?_
    refine z_getI (q := 148) C flX10_232 dX10_newPerson_145 hf rfl fun v22 hf => ?_
    refine z_iconst (q := 149) C (1 : Int32) dX10_newPerson_148 ki_1 rfl ?_
    refine z_iadd (q := 150) C dX10_newPerson_149 rfl ?_
    refine z_putI (q := 153) C puX10_232 dX10_newPerson_150 hf rfl fun σ hf => ?_
    cases hf
    exact z_return C rfl dX10_newPerson_153 rfl
  have j97_0 : ∀ (a0_97 : Nat) (a1_97 : Nat) (a5_97 : Nat) (σ : ZT), f_X10_newPerson_J97 a0_97 a1_97 a5_97 σ = some out → ZW l G 6 X (ZQ G X (zov out) (zsv out)) σ 97 [(0, .ref a0_97), (1, .ref a1_97), (5, .ref a5_97)] [] := by
    intro a0_97 a1_97 a5_97 σ hf
    unfold f_X10_newPerson_J97 at hf
    refine z_aload (q := 99) (i := 5) C 2 dX10_newPerson_97 rfl rfl ?_
    refine z_aload_n (q := 100) (i := 0) C 0 dX10_newPerson_99 rfl rfl rfl ?_
    refine z_ldcS (q := 102) C 15 (by decide) rfl rfl dX10_newPerson_100 rfl ?_
    refine z_iconst (q := 103) C (0 : Int32) dX10_newPerson_102 ki_0 rfl ?_
    refine z_sipush (q := 106) C (999 : Int32) dX10_newPerson_103 ks_999 rfl ?_
    refine z_iconst (q := 107) C (0 : Int32) dX10_newPerson_106 ki_0 rfl ?_
    refine z_callXVi (q := 110) (As := [.ref (gS G 15), .int (0 : Int32), .int (999 : Int32), .int (0 : Int32)]) C (fun o ho => m_X10_told _ _ _ _ _ _ ho) zk10 vvX10_214 cdX10_told pnX10 dX10_newPerson_107 rfl (by decide) (Nat.le_of_ble_eq_true rfl) hf rfl (fun xx σ hf T locs ls hP hL h1 h2 hl X0 => ?_) fun v17 σ hf => ?_
    · cases hf
      exact zthrown_out C (by decide) hP hL h1 h2 X0
    refine z_putI (q := 113) C puX10_242 dX10_newPerson_110 hf rfl fun σ hf => ?_
    refine z_aload_n (q := 114) (i := 0) C 0 dX10_newPerson_113 rfl rfl rfl ?_
    refine z_ldcS (q := 116) C 16 (by decide) rfl rfl dX10_newPerson_114 rfl ?_
    refine z_callVi (q := 119) (As := [.ref (gS G 16)]) C (fun o ho => m_X10_isWord _ _ _ ho) zk10 vvX10_68 cdX10_isWord pnX10 dX10_newPerson_116 rfl (by decide) (Nat.le_of_ble_eq_true rfl) hf rfl fun v18 σ hf => ?_
    refine z_ifeq (q := 122) (tgt := 132) C dX10_newPerson_119 (by decide) rfl hf (fun c119 hf => ?_) (fun c119 hf => ?_)
    · refine z_lv [1, 2] rfl ?_
      exact j132_0 a1_97 a5_97 σ hf
    · refine z_aload_n (q := 123) (i := 0) C 0 dX10_newPerson_122 rfl rfl rfl ?_
      refine z_callVv (q := 126) (As := []) C (fun o ho => m_X10_next _ _ ho) zk10 vvX10_19 cdX10_next pnX10 dX10_newPerson_123 rfl (by decide) (Nat.le_of_ble_eq_true rfl) hf rfl fun σ hf => ?_
      refine z_aload (q := 128) (i := 5) C 2 dX10_newPerson_126 rfl rfl ?_
      refine z_iconst (q := 129) C (1 : Int32) dX10_newPerson_128 ki_1 rfl ?_
      refine z_putZ (q := 132) C puX10_244 dX10_newPerson_129 hf rfl fun σ hf => ?_
      refine z_lv [1, 2] rfl ?_
      exact j132_0 a1_97 a5_97 σ hf
  refine z_aload_n (q := 1) (i := 1) C 1 dX10_newPerson_0 rfl rfl rfl ?_
  refine z_getI (q := 4) C flX10_232 dX10_newPerson_1 hf rfl fun v1 hf => ?_
  refine z_iconst (q := 5) C (4 : Int32) dX10_newPerson_4 ki_4 rfl ?_
  refine z_icmpne (q := 8) (tgt := 25) C dX10_newPerson_5 (by decide) rfl hf (fun c5 hf => ?_) (fun c5 hf => ?_)
  · refine z_aload_n (q := 26) (i := 0) C 0 dX10_newPerson_25 rfl rfl rfl ?_
    refine z_callVv (q := 29) (As := []) C (fun o ho => m_X10_next _ _ ho) zk10 vvX10_19 cdX10_next pnX10 dX10_newPerson_26 rfl (by decide) (Nat.le_of_ble_eq_true rfl) hf rfl fun σ hf => ?_
    refine z_aload_n (q := 30) (i := 0) C 0 dX10_newPerson_29 rfl rfl rfl ?_
    refine z_aload_n (q := 31) (i := 1) C 1 dX10_newPerson_30 rfl rfl rfl ?_
    refine z_callXVl (q := 34) (As := [.ref a1]) C (fun o ho => m_X10_fresh _ _ _ ho) zk10 vvX10_195 cdX10_fresh pnX10 dX10_newPerson_31 rfl (by decide) (Nat.le_of_ble_eq_true rfl) hf rfl (fun xx σ hf T locs ls hP hL h1 h2 hl X0 => ?_) fun v3 σ hf => ?_
    · cases hf
      exact zthrown_out C (by decide) hP hL h1 h2 X0
    refine z_lstore_n (q := 35) (i := 2) (lv' := [(2, .long v3), (0, .ref a0), (1, .ref a1)]) C dX10_newPerson_34 rfl (by decide) rfl rfl ?_
    refine z_aload_n (q := 36) (i := 0) C 1 dX10_newPerson_35 rfl rfl rfl ?_
    refine z_ldcS (q := 38) C 12 (by decide) rfl rfl dX10_newPerson_36 rfl ?_
    refine z_callXVv (q := 41) (As := [.ref (gS G 12)]) C (fun o ho => m_X10_word _ _ _ ho) zk10 vvX10_202 cdX10_word pnX10 dX10_newPerson_38 rfl (by decide) (Nat.le_of_ble_eq_true rfl) hf rfl (fun xx σ hf T locs ls hP hL h1 h2 hl X0 => ?_) fun σ hf => ?_
    · cases hf
      exact zthrown_out C (by decide) hP hL h1 h2 X0
    refine z_aload_n (q := 42) (i := 0) C 1 dX10_newPerson_41 rfl rfl rfl ?_
    refine z_iconst (q := 43) C (1 : Int32) dX10_newPerson_42 ki_1 rfl ?_
    refine z_sipush (q := 46) C (999 : Int32) dX10_newPerson_43 ks_999 rfl ?_
    refine z_callXVi (q := 49) (As := [.int (1 : Int32), .int (999 : Int32)]) C (fun o ho => m_X10_number _ _ _ _ ho) zk10 vvX10_72 cdX10_number pnX10 dX10_newPerson_46 rfl (by decide) (Nat.le_of_ble_eq_true rfl) hf rfl (fun xx σ hf T locs ls hP hL h1 h2 hl X0 => ?_) fun v5 σ hf => ?_
    · cases hf
      exact zthrown_out C (by decide) hP hL h1 h2 X0
    refine z_istore (q := 51) (i := 4) (lv' := [(4, .int v5), (2, .long v3), (0, .ref a0), (1, .ref a1)]) C dX10_newPerson_49 (by decide) rfl rfl ?_
    refine z_aload_n (q := 52) (i := 0) C 2 dX10_newPerson_51 rfl rfl rfl ?_
    refine z_ldcS (q := 54) C 13 (by decide) rfl rfl dX10_newPerson_52 rfl ?_
    refine z_callXVv (q := 57) (As := [.ref (gS G 13)]) C (fun o ho => m_X10_word _ _ _ ho) zk10 vvX10_202 cdX10_word pnX10 dX10_newPerson_54 rfl (by decide) (Nat.le_of_ble_eq_true rfl) hf rfl (fun xx σ hf T locs ls hP hL h1 h2 hl X0 => ?_) fun σ hf => ?_
    · cases hf
      exact zthrown_out C (by decide) hP hL h1 h2 X0
    refine z_new (q := 60) C zk12 zty12 q969 q970 q167 dX10_newPerson_57 hf rfl fun v7 σ hf => ?_
    refine z_dup (q := 61) C dX10_newPerson_60 rfl rfl ?_
    refine z_lload_n (q := 62) (i := 2) C 1 dX10_newPerson_61 rfl rfl rfl ?_
    refine z_iload (q := 64) (i := 4) C 0 dX10_newPerson_62 rfl rfl ?_
    refine z_aload_n (q := 65) (i := 0) C 2 dX10_newPerson_64 rfl rfl rfl ?_
    refine z_aload_n (q := 66) (i := 1) C 3 dX10_newPerson_65 rfl rfl rfl ?_
    refine z_callXVi (q := 69) (As := [.ref a1]) C (fun o ho => m_X10_place _ _ _ ho) zk10 vvX10_206 cdX10_place pnX10 dX10_newPerson_66 rfl (by decide) (Nat.le_of_ble_eq_true rfl) hf rfl (fun xx σ hf T locs ls hP hL h1 h2 hl X0 => ?_) fun v8 σ hf => ?_
    · cases hf
      exact zthrown_out C (by decide) hP hL h1 h2 X0
    refine z_callIv (q := 72) (As := [.long v3, .int v5, .int v8]) C (fun o ho => m_X12_init _ _ _ _ _ ho) viX10_237 pnX12 dX10_newPerson_69 rfl (by decide) (Nat.le_of_ble_eq_true rfl) hf rfl fun σ hf => ?_
    refine z_astore (q := 74) (i := 5) (lv' := [(5, .ref v7), (4, .int v5), (2, .long v3), (0, .ref a0), (1, .ref a1)]) C dX10_newPerson_72 (by decide) rfl rfl ?_
    refine z_aload_n (q := 75) (i := 0) C 3 dX10_newPerson_74 rfl rfl rfl ?_
    refine z_ldcS (q := 77) C 14 (by decide) rfl rfl dX10_newPerson_75 rfl ?_
    refine z_callVi (q := 80) (As := [.ref (gS G 14)]) C (fun o ho => m_X10_isWord _ _ _ ho) zk10 vvX10_68 cdX10_isWord pnX10 dX10_newPerson_77 rfl (by decide) (Nat.le_of_ble_eq_true rfl) hf rfl fun v10 σ hf => ?_
    refine z_ifeq (q := 83) (tgt := 97) C dX10_newPerson_80 (by decide) rfl hf (fun c80 hf => ?_) (fun c80 hf => ?_)
    · refine z_lv [3, 4, 0] rfl ?_
      exact j97_0 a0 a1 v7 σ hf
    · refine z_aload_n (q := 84) (i := 0) C 3 dX10_newPerson_83 rfl rfl rfl ?_
      refine z_callVv (q := 87) (As := []) C (fun o ho => m_X10_next _ _ ho) zk10 vvX10_19 cdX10_next pnX10 dX10_newPerson_84 rfl (by decide) (Nat.le_of_ble_eq_true rfl) hf rfl fun σ hf => ?_
      refine z_aload (q := 89) (i := 5) C 0 dX10_newPerson_87 rfl rfl ?_
      refine z_aload_n (q := 90) (i := 0) C 3 dX10_newPerson_89 rfl rfl rfl ?_
      refine z_aload_n (q := 91) (i := 1) C 4 dX10_newPerson_90 rfl rfl rfl ?_
      refine z_callXVi (q := 94) (As := [.ref a1]) C (fun o ho => m_X10_place _ _ _ ho) zk10 vvX10_206 cdX10_place pnX10 dX10_newPerson_91 rfl (by decide) (Nat.le_of_ble_eq_true rfl) hf rfl (fun xx σ hf T locs ls hP hL h1 h2 hl X0 => ?_) fun v12 σ hf => ?_
      · cases hf
        exact zthrown_out C (by decide) hP hL h1 h2 X0
      refine z_putI (q := 97) C puX10_240 dX10_newPerson_94 hf rfl fun σ hf => ?_
      refine z_lv [3, 4, 0] rfl ?_
      exact j97_0 a0 a1 v7 σ hf
  · refine z_aload_n (q := 9) (i := 0) C 0 dX10_newPerson_8 rfl rfl rfl ?_
    refine z_getR (q := 12) C flX10_3 dX10_newPerson_9 hf rfl fun v13 hf => ?_
    refine z_getR (q := 15) C flX10_55 dX10_newPerson_12 hf rfl fun v14 hf => ?_
    refine z_bipush (q := 17) C (6 : Int32) dX10_newPerson_15 kb_6 rfl ?_
    refine z_aload_n (q := 18) (i := 0) C 0 dX10_newPerson_17 rfl rfl rfl ?_
    refine z_getI (q := 21) C flX10_29 dX10_newPerson_18 hf rfl fun v15 hf => ?_
    refine z_callVr (q := 24) (As := [.int (6 : Int32), .int v15]) C (fun o ho => m_X2_at _ _ _ _ ho) zk2 vvX10_59 cdX2_at pnX2 dX10_newPerson_21 rfl (by decide) (Nat.le_of_ble_eq_true rfl) hf rfl fun v16 σ hf => ?_
    cases hf
    exact z_athrow C dX10_newPerson_24 (by decide) rfl

noncomputable def f_X10_newLoad (a0 : Nat) (a1 : Nat) (σ : ZT) : Option ((Nat × ZT) ⊕ ZT) :=
  (gI 6 603 a1 σ).bind fun v1 =>
  if v1 = (2 : Int32) then
  ((gR 10 1006 a0 σ).bind fun v13 =>
  (gR 0 5 v13 σ).bind fun v14 =>
  (gI 10 1001 a0 σ).bind fun v15 =>
  bnd2 (vc 2 v14 σ (f_X2_at v14 (6 : Int32) v15 σ)) fun v16 σ =>
  some (.inl (v16, σ)))
  else
  ((vc 10 a0 σ (f_X10_next a0 σ)).bind fun σ =>
  bndX (vc 10 a0 σ (f_X10_fresh a0 a1 σ)) (fun xx σ => some (.inl (xx, σ))) fun v3 σ =>
  bndXv (vc 10 a0 σ (f_X10_word a0 12 σ)) (fun xx σ => some (.inl (xx, σ))) fun σ =>
  bndX (vc 10 a0 σ (f_X10_number a0 (1 : Int32) (999 : Int32) σ)) (fun xx σ => some (.inl (xx, σ))) fun v5 σ =>
  bndXv (vc 10 a0 σ (f_X10_word a0 13 σ)) (fun xx σ => some (.inl (xx, σ))) fun σ =>
  (gR 6 608 a1 σ).bind fun v7 =>
  (gI 6 603 a1 σ).bind fun v8 =>
  bnd2 (nwO 13 3 σ) fun v9 σ =>
  bndX (vc 10 a0 σ (f_X10_place a0 a1 σ)) (fun xx σ => some (.inl (xx, σ))) fun v10 σ =>
  (f_X13_init v9 v3 v5 v10 σ).bind fun σ =>
  (stR 8 v7 v8 v9 σ).bind fun σ =>
  (gI 6 603 a1 σ).bind fun v12 =>
  (pI 6 603 a1 (v12 + (1 : Int32)) σ).bind fun σ =>
  some (.inr σ))
set_option maxHeartbeats 4000000 in
theorem m_X10_newLoad {l : Launch} {G : ZG} (a0 : Nat) (a1 : Nat) (σ : ZT) {out : ((Nat × ZT) ⊕ ZT)} (hf : f_X10_newLoad a0 a1 σ = some out) : ZM l G yX10_newLoad cX10_newLoad 5 none [] 10 [.ref a0, .ref a1] σ (zov out) (zsv out) := by
  refine ZM.of [(0, .ref a0), (1, .ref a1)] rfl (Nat.le_of_ble_eq_true rfl) fun X (C : ZC G RX10 "newLoad" cX10_newLoad 5 none [] X 10) => ?_
  unfold f_X10_newLoad at hf
  refine z_aload_n (q := 1) (i := 1) C 1 dX10_newLoad_0 rfl rfl rfl ?_
  refine z_getI (q := 4) C flX10_250 dX10_newLoad_1 hf rfl fun v1 hf => ?_
  refine z_iconst (q := 5) C (2 : Int32) dX10_newLoad_4 ki_2 rfl ?_
  refine z_icmpne (q := 8) (tgt := 25) C dX10_newLoad_5 (by decide) rfl hf (fun c5 hf => ?_) (fun c5 hf => ?_)
  · refine z_aload_n (q := 26) (i := 0) C 0 dX10_newLoad_25 rfl rfl rfl ?_
    refine z_callVv (q := 29) (As := []) C (fun o ho => m_X10_next _ _ ho) zk10 vvX10_19 cdX10_next pnX10 dX10_newLoad_26 rfl (by decide) (Nat.le_of_ble_eq_true rfl) hf rfl fun σ hf => ?_
    refine z_aload_n (q := 30) (i := 0) C 0 dX10_newLoad_29 rfl rfl rfl ?_
    refine z_aload_n (q := 31) (i := 1) C 1 dX10_newLoad_30 rfl rfl rfl ?_
    refine z_callXVl (q := 34) (As := [.ref a1]) C (fun o ho => m_X10_fresh _ _ _ ho) zk10 vvX10_195 cdX10_fresh pnX10 dX10_newLoad_31 rfl (by decide) (Nat.le_of_ble_eq_true rfl) hf rfl (fun xx σ hf T locs ls hP hL h1 h2 hl X0 => ?_) fun v3 σ hf => ?_
    · cases hf
      exact zthrown_out C (by decide) hP hL h1 h2 X0
    refine z_lstore_n (q := 35) (i := 2) (lv' := [(2, .long v3), (0, .ref a0), (1, .ref a1)]) C dX10_newLoad_34 rfl (by decide) rfl rfl ?_
    refine z_aload_n (q := 36) (i := 0) C 1 dX10_newLoad_35 rfl rfl rfl ?_
    refine z_ldcS (q := 38) C 12 (by decide) rfl rfl dX10_newLoad_36 rfl ?_
    refine z_callXVv (q := 41) (As := [.ref (gS G 12)]) C (fun o ho => m_X10_word _ _ _ ho) zk10 vvX10_202 cdX10_word pnX10 dX10_newLoad_38 rfl (by decide) (Nat.le_of_ble_eq_true rfl) hf rfl (fun xx σ hf T locs ls hP hL h1 h2 hl X0 => ?_) fun σ hf => ?_
    · cases hf
      exact zthrown_out C (by decide) hP hL h1 h2 X0
    refine z_aload_n (q := 42) (i := 0) C 1 dX10_newLoad_41 rfl rfl rfl ?_
    refine z_iconst (q := 43) C (1 : Int32) dX10_newLoad_42 ki_1 rfl ?_
    refine z_sipush (q := 46) C (999 : Int32) dX10_newLoad_43 ks_999 rfl ?_
    refine z_callXVi (q := 49) (As := [.int (1 : Int32), .int (999 : Int32)]) C (fun o ho => m_X10_number _ _ _ _ ho) zk10 vvX10_72 cdX10_number pnX10 dX10_newLoad_46 rfl (by decide) (Nat.le_of_ble_eq_true rfl) hf rfl (fun xx σ hf T locs ls hP hL h1 h2 hl X0 => ?_) fun v5 σ hf => ?_
    · cases hf
      exact zthrown_out C (by decide) hP hL h1 h2 X0
    refine z_istore (q := 51) (i := 4) (lv' := [(4, .int v5), (2, .long v3), (0, .ref a0), (1, .ref a1)]) C dX10_newLoad_49 (by decide) rfl rfl ?_
    refine z_aload_n (q := 52) (i := 0) C 2 dX10_newLoad_51 rfl rfl rfl ?_
    refine z_ldcS (q := 54) C 13 (by decide) rfl rfl dX10_newLoad_52 rfl ?_
    refine z_callXVv (q := 57) (As := [.ref (gS G 13)]) C (fun o ho => m_X10_word _ _ _ ho) zk10 vvX10_202 cdX10_word pnX10 dX10_newLoad_54 rfl (by decide) (Nat.le_of_ble_eq_true rfl) hf rfl (fun xx σ hf T locs ls hP hL h1 h2 hl X0 => ?_) fun σ hf => ?_
    · cases hf
      exact zthrown_out C (by decide) hP hL h1 h2 X0
    refine z_aload_n (q := 58) (i := 1) C 3 dX10_newLoad_57 rfl rfl rfl ?_
    refine z_getR (q := 61) C flX10_253 dX10_newLoad_58 hf rfl fun v7 hf => ?_
    refine z_aload_n (q := 62) (i := 1) C 3 dX10_newLoad_61 rfl rfl rfl ?_
    refine z_getI (q := 65) C flX10_250 dX10_newLoad_62 hf rfl fun v8 hf => ?_
    refine z_new (q := 68) C zk13 zty13 q1009 q1010 q168 dX10_newLoad_65 hf rfl fun v9 σ hf => ?_
    refine z_dup (q := 69) C dX10_newLoad_68 rfl rfl ?_
    refine z_lload_n (q := 70) (i := 2) C 1 dX10_newLoad_69 rfl rfl rfl ?_
    refine z_iload (q := 72) (i := 4) C 0 dX10_newLoad_70 rfl rfl ?_
    refine z_aload_n (q := 73) (i := 0) C 2 dX10_newLoad_72 rfl rfl rfl ?_
    refine z_aload_n (q := 74) (i := 1) C 3 dX10_newLoad_73 rfl rfl rfl ?_
    refine z_callXVi (q := 77) (As := [.ref a1]) C (fun o ho => m_X10_place _ _ _ ho) zk10 vvX10_206 cdX10_place pnX10 dX10_newLoad_74 rfl (by decide) (Nat.le_of_ble_eq_true rfl) hf rfl (fun xx σ hf T locs ls hP hL h1 h2 hl X0 => ?_) fun v10 σ hf => ?_
    · cases hf
      exact zthrown_out C (by decide) hP hL h1 h2 X0
    refine z_callIv (q := 80) (As := [.long v3, .int v5, .int v10]) C (fun o ho => m_X13_init _ _ _ _ _ ho) viX10_258 pnX13 dX10_newLoad_77 rfl (by decide) (Nat.le_of_ble_eq_true rfl) hf rfl fun σ hf => ?_
    refine z_aast (q := 81) C 8 (by decide) (by decide) dX10_newLoad_80 hf rfl fun σ hf => ?_
    refine z_aload_n (q := 82) (i := 1) C 3 dX10_newLoad_81 rfl rfl rfl ?_
    refine z_dup (q := 83) C dX10_newLoad_82 rfl rfl ?_
    refine z_getI (q := 86) C flX10_250 dX10_newLoad_83 hf rfl fun v12 hf => ?_
    refine z_iconst (q := 87) C (1 : Int32) dX10_newLoad_86 ki_1 rfl ?_
    refine z_iadd (q := 88) C dX10_newLoad_87 rfl ?_
    refine z_putI (q := 91) C puX10_250 dX10_newLoad_88 hf rfl fun σ hf => ?_
    cases hf
    exact z_return C rfl dX10_newLoad_91 rfl
  · refine z_aload_n (q := 9) (i := 0) C 0 dX10_newLoad_8 rfl rfl rfl ?_
    refine z_getR (q := 12) C flX10_3 dX10_newLoad_9 hf rfl fun v13 hf => ?_
    refine z_getR (q := 15) C flX10_55 dX10_newLoad_12 hf rfl fun v14 hf => ?_
    refine z_bipush (q := 17) C (6 : Int32) dX10_newLoad_15 kb_6 rfl ?_
    refine z_aload_n (q := 18) (i := 0) C 0 dX10_newLoad_17 rfl rfl rfl ?_
    refine z_getI (q := 21) C flX10_29 dX10_newLoad_18 hf rfl fun v15 hf => ?_
    refine z_callVr (q := 24) (As := [.int (6 : Int32), .int v15]) C (fun o ho => m_X2_at _ _ _ _ ho) zk2 vvX10_59 cdX2_at pnX2 dX10_newLoad_21 rfl (by decide) (Nat.le_of_ble_eq_true rfl) hf rfl fun v16 σ hf => ?_
    cases hf
    exact z_athrow C dX10_newLoad_24 (by decide) rfl

noncomputable def f_X10_newStone (a0 : Nat) (a1 : Nat) (σ : ZT) : Option ((Nat × ZT) ⊕ ZT) :=
  (vc 10 a0 σ (f_X10_next a0 σ)).bind fun σ =>
  bndX (vc 10 a0 σ (f_X10_number a0 (0 : Int32) (999 : Int32) σ)) (fun xx σ => some (.inl (xx, σ))) fun v2 σ =>
  bndXv (vc 10 a0 σ (f_X10_word a0 13 σ)) (fun xx σ => some (.inl (xx, σ))) fun σ =>
  (gR 6 605 a1 σ).bind fun v4 =>
  bndX (vc 10 a0 σ (f_X10_place a0 a1 σ)) (fun xx σ => some (.inl (xx, σ))) fun v5 σ =>
  (ldI 0 v4 v5 σ).bind fun v6 =>
  (stI v4 v5 (v6 + v2) σ).bind fun σ =>
  some (.inr σ)
set_option maxHeartbeats 4000000 in
theorem m_X10_newStone {l : Launch} {G : ZG} (a0 : Nat) (a1 : Nat) (σ : ZT) {out : ((Nat × ZT) ⊕ ZT)} (hf : f_X10_newStone a0 a1 σ = some out) : ZM l G yX10_newStone cX10_newStone 3 none [] 10 [.ref a0, .ref a1] σ (zov out) (zsv out) := by
  refine ZM.of [(0, .ref a0), (1, .ref a1)] rfl (Nat.le_of_ble_eq_true rfl) fun X (C : ZC G RX10 "newStone" cX10_newStone 3 none [] X 10) => ?_
  unfold f_X10_newStone at hf
  refine z_aload_n (q := 1) (i := 0) C 0 dX10_newStone_0 rfl rfl rfl ?_
  refine z_callVv (q := 4) (As := []) C (fun o ho => m_X10_next _ _ ho) zk10 vvX10_19 cdX10_next pnX10 dX10_newStone_1 rfl (by decide) (Nat.le_of_ble_eq_true rfl) hf rfl fun σ hf => ?_
  refine z_aload_n (q := 5) (i := 0) C 0 dX10_newStone_4 rfl rfl rfl ?_
  refine z_iconst (q := 6) C (0 : Int32) dX10_newStone_5 ki_0 rfl ?_
  refine z_sipush (q := 9) C (999 : Int32) dX10_newStone_6 ks_999 rfl ?_
  refine z_callXVi (q := 12) (As := [.int (0 : Int32), .int (999 : Int32)]) C (fun o ho => m_X10_number _ _ _ _ ho) zk10 vvX10_72 cdX10_number pnX10 dX10_newStone_9 rfl (by decide) (Nat.le_of_ble_eq_true rfl) hf rfl (fun xx σ hf T locs ls hP hL h1 h2 hl X0 => ?_) fun v2 σ hf => ?_
  · cases hf
    exact zthrown_out C (by decide) hP hL h1 h2 X0
  refine z_istore_n (q := 13) (i := 2) (lv' := [(2, .int v2), (0, .ref a0), (1, .ref a1)]) C dX10_newStone_12 rfl (by decide) rfl rfl ?_
  refine z_aload_n (q := 14) (i := 0) C 1 dX10_newStone_13 rfl rfl rfl ?_
  refine z_ldcS (q := 16) C 13 (by decide) rfl rfl dX10_newStone_14 rfl ?_
  refine z_callXVv (q := 19) (As := [.ref (gS G 13)]) C (fun o ho => m_X10_word _ _ _ ho) zk10 vvX10_202 cdX10_word pnX10 dX10_newStone_16 rfl (by decide) (Nat.le_of_ble_eq_true rfl) hf rfl (fun xx σ hf T locs ls hP hL h1 h2 hl X0 => ?_) fun σ hf => ?_
  · cases hf
    exact zthrown_out C (by decide) hP hL h1 h2 X0
  refine z_aload_n (q := 20) (i := 1) C 2 dX10_newStone_19 rfl rfl rfl ?_
  refine z_getR (q := 23) C flX10_259 dX10_newStone_20 hf rfl fun v4 hf => ?_
  refine z_aload_n (q := 24) (i := 0) C 1 dX10_newStone_23 rfl rfl rfl ?_
  refine z_aload_n (q := 25) (i := 1) C 2 dX10_newStone_24 rfl rfl rfl ?_
  refine z_callXVi (q := 28) (As := [.ref a1]) C (fun o ho => m_X10_place _ _ _ ho) zk10 vvX10_206 cdX10_place pnX10 dX10_newStone_25 rfl (by decide) (Nat.le_of_ble_eq_true rfl) hf rfl (fun xx σ hf T locs ls hP hL h1 h2 hl X0 => ?_) fun v5 σ hf => ?_
  · cases hf
    exact zthrown_out C (by decide) hP hL h1 h2 X0
  refine z_dup2 (q := 29) C dX10_newStone_28 rfl rfl rfl ?_
  refine z_iald (q := 30) C dX10_newStone_29 hf rfl fun v6 hf => ?_
  refine z_iload_n (q := 31) (i := 2) C 0 dX10_newStone_30 rfl rfl rfl ?_
  refine z_iadd (q := 32) C dX10_newStone_31 rfl ?_
  refine z_iast (q := 33) C dX10_newStone_32 hf rfl fun σ hf => ?_
  cases hf
  exact z_return C rfl dX10_newStone_33 rfl

noncomputable def f_X10_close (a0 : Nat) (σ : ZT) : Option ((Nat × ZT) ⊕ ZT) :=
  (gI 10 1003 a0 σ).bind fun v1 =>
  if v1 = (3 : Int32) then
  ((vc 10 a0 σ (f_X10_next a0 σ)).bind fun σ =>
  some (.inr σ))
  else
  (bnd2 (vc 10 a0 σ (f_X10_wrong a0 σ)) fun v3 σ =>
  some (.inl (v3, σ)))
set_option maxHeartbeats 4000000 in
theorem m_X10_close {l : Launch} {G : ZG} (a0 : Nat) (σ : ZT) {out : ((Nat × ZT) ⊕ ZT)} (hf : f_X10_close a0 σ = some out) : ZM l G yX10_close cX10_close 1 none [] 3 [.ref a0] σ (zov out) (zsv out) := by
  refine ZM.of [(0, .ref a0)] rfl (Nat.le_of_ble_eq_true rfl) fun X (C : ZC G RX10 "close" cX10_close 1 none [] X 3) => ?_
  unfold f_X10_close at hf
  refine z_aload_n (q := 1) (i := 0) C 0 dX10_close_0 rfl rfl rfl ?_
  refine z_getI (q := 4) C flX10_32 dX10_close_1 hf rfl fun v1 hf => ?_
  refine z_iconst (q := 5) C (3 : Int32) dX10_close_4 ki_3 rfl ?_
  refine z_icmpeq (q := 8) (tgt := 13) C dX10_close_5 (by decide) rfl hf (fun c5 hf => ?_) (fun c5 hf => ?_)
  · refine z_aload_n (q := 14) (i := 0) C 0 dX10_close_13 rfl rfl rfl ?_
    refine z_callVv (q := 17) (As := []) C (fun o ho => m_X10_next _ _ ho) zk10 vvX10_19 cdX10_next pnX10 dX10_close_14 rfl (by decide) (Nat.le_of_ble_eq_true rfl) hf rfl fun σ hf => ?_
    cases hf
    exact z_return C rfl dX10_close_17 rfl
  · refine z_aload_n (q := 9) (i := 0) C 0 dX10_close_8 rfl rfl rfl ?_
    refine z_callVr (q := 12) (As := []) C (fun o ho => m_X10_wrong _ _ ho) zk10 vvX10_64 cdX10_wrong pnX10 dX10_close_9 rfl (by decide) (Nat.le_of_ble_eq_true rfl) hf rfl fun v3 σ hf => ?_
    cases hf
    exact z_athrow C dX10_close_12 (by decide) rfl

noncomputable def f_X10_town_J97_0 (a0_97 : Nat) (a1_97 : Nat) (σ : ZT) : Option (ZT ⊕ (((Nat × ZT) ⊕ ZT) ⊕ ZT)) :=
  bndXv (vc 10 a0_97 σ (f_X10_close a0_97 σ)) (fun xx σ => some (.inr (.inl (.inl (xx, σ))))) fun σ =>
  some (.inl σ)
noncomputable def f_X10_town_L0 (c0_0 : Nat) (c1_0 : Nat)  (σ : ZT) : Option (ZT ⊕ (((Nat × ZT) ⊕ ZT) ⊕ ZT)) :=
  (gI 10 1003 c0_0 σ).bind fun v14 =>
  if v14 = 0 then
  (some (.inr (.inr σ)))
  else
  (bnd2 (vc 10 c0_0 σ (f_X10_isWord c0_0 0 σ)) fun v15 σ =>
  if v15 = 0 then
  (bnd2 (vc 10 c0_0 σ (f_X10_isWord c0_0 1 σ)) fun v16 σ =>
  if v16 = 0 then
  (bnd2 (vc 10 c0_0 σ (f_X10_isWord c0_0 11 σ)) fun v17 σ =>
  if v17 = 0 then
  (bnd2 (vc 10 c0_0 σ (f_X10_isWord c0_0 17 σ)) fun v18 σ =>
  if v18 = 0 then
  (bnd2 (vc 10 c0_0 σ (f_X10_isWord c0_0 18 σ)) fun v19 σ =>
  if v19 = 0 then
  (bnd2 (vc 10 c0_0 σ (f_X10_wrong c0_0 σ)) fun v20 σ =>
  some (.inr (.inl (.inl (v20, σ)))))
  else
  (bndXv (vc 10 c0_0 σ (f_X10_newStone c0_0 c1_0 σ)) (fun xx σ => some (.inr (.inl (.inl (xx, σ))))) fun σ =>
  f_X10_town_J97_0 c0_0 c1_0 σ))
  else
  (bndXv (vc 10 c0_0 σ (f_X10_newLoad c0_0 c1_0 σ)) (fun xx σ => some (.inr (.inl (.inl (xx, σ))))) fun σ =>
  f_X10_town_J97_0 c0_0 c1_0 σ))
  else
  (bndXv (vc 10 c0_0 σ (f_X10_newPerson c0_0 c1_0 σ)) (fun xx σ => some (.inr (.inl (.inl (xx, σ))))) fun σ =>
  f_X10_town_J97_0 c0_0 c1_0 σ))
  else
  (bndXv (vc 10 c0_0 σ (f_X10_newBridge c0_0 c1_0 σ)) (fun xx σ => some (.inr (.inl (.inl (xx, σ))))) fun σ =>
  f_X10_town_J97_0 c0_0 c1_0 σ))
  else
  (bndXv (vc 10 c0_0 σ (f_X10_newPlace c0_0 c1_0 σ)) (fun xx σ => some (.inr (.inl (.inl (xx, σ))))) fun σ =>
  f_X10_town_J97_0 c0_0 c1_0 σ))
noncomputable def f_X10_town_J97 (a0_97 : Nat) (a1_97 : Nat) (σ : ZT) : Option ((Nat × ZT) ⊕ ZT) :=
  bndXv (vc 10 a0_97 σ (f_X10_close a0_97 σ)) (fun xx σ => some (.inl (xx, σ))) fun σ =>
  (loopC (fun s : ZT => f_X10_town_L0 a0_97 a1_97 s) σ).bind fun x => (match x with
  | .inl o => some o
  | .inr σ => some (.inr σ))
noncomputable def f_X10_town (a0 : Nat) (a1 : Nat) (σ : ZT) : Option ((Nat × ZT) ⊕ ZT) :=
  (gI 10 1003 a0 σ).bind fun v1 =>
  if v1 = 0 then
  (some (.inr σ))
  else
  (bnd2 (vc 10 a0 σ (f_X10_isWord a0 0 σ)) fun v2 σ =>
  if v2 = 0 then
  (bnd2 (vc 10 a0 σ (f_X10_isWord a0 1 σ)) fun v3 σ =>
  if v3 = 0 then
  (bnd2 (vc 10 a0 σ (f_X10_isWord a0 11 σ)) fun v4 σ =>
  if v4 = 0 then
  (bnd2 (vc 10 a0 σ (f_X10_isWord a0 17 σ)) fun v5 σ =>
  if v5 = 0 then
  (bnd2 (vc 10 a0 σ (f_X10_isWord a0 18 σ)) fun v6 σ =>
  if v6 = 0 then
  (bnd2 (vc 10 a0 σ (f_X10_wrong a0 σ)) fun v7 σ =>
  some (.inl (v7, σ)))
  else
  (bndXv (vc 10 a0 σ (f_X10_newStone a0 a1 σ)) (fun xx σ => some (.inl (xx, σ))) fun σ =>
  f_X10_town_J97 a0 a1 σ))
  else
  (bndXv (vc 10 a0 σ (f_X10_newLoad a0 a1 σ)) (fun xx σ => some (.inl (xx, σ))) fun σ =>
  f_X10_town_J97 a0 a1 σ))
  else
  (bndXv (vc 10 a0 σ (f_X10_newPerson a0 a1 σ)) (fun xx σ => some (.inl (xx, σ))) fun σ =>
  f_X10_town_J97 a0 a1 σ))
  else
  (bndXv (vc 10 a0 σ (f_X10_newBridge a0 a1 σ)) (fun xx σ => some (.inl (xx, σ))) fun σ =>
  f_X10_town_J97 a0 a1 σ))
  else
  (bndXv (vc 10 a0 σ (f_X10_newPlace a0 a1 σ)) (fun xx σ => some (.inl (xx, σ))) fun σ =>
  f_X10_town_J97 a0 a1 σ))
set_option maxHeartbeats 4000000 in
theorem m_X10_town {l : Launch} {G : ZG} (a0 : Nat) (a1 : Nat) (σ : ZT) {out : ((Nat × ZT) ⊕ ZT)} (hf : f_X10_town a0 a1 σ = some out) : ZM l G yX10_town cX10_town 2 none [] 11 [.ref a0, .ref a1] σ (zov out) (zsv out) := by
  refine ZM.of [(0, .ref a0), (1, .ref a1)] rfl (Nat.le_of_ble_eq_true rfl) fun X (C : ZC G RX10 "town" cX10_town 2 none [] X 11) => ?_
  unfold f_X10_town at hf
  have j97_0 : ∀ (a0_97 : Nat) (a1_97 : Nat) (σ : ZT), f_X10_town_J97 a0_97 a1_97 σ = some out → ZW l G 2 X (ZQ G X (zov out) (zsv out)) σ 97 [(0, .ref a0_97), (1, .ref a1_97)] [] := by
    intro a0_97 a1_97 σ hf
    unfold f_X10_town_J97 at hf
    refine z_aload_n (q := 98) (i := 0) C 0 dX10_town_97 rfl rfl rfl ?_
    refine z_callXVv (q := 101) (As := []) C (fun o ho => m_X10_close _ _ ho) zk10 vvX10_185 cdX10_close pnX10 dX10_town_98 rfl (by decide) (Nat.le_of_ble_eq_true rfl) hf rfl (fun xx σ hf T locs ls hP hL h1 h2 hl X0 => ?_) fun σ hf => ?_
    · cases hf
      exact zthrown_out C (by decide) hP hL h1 h2 X0
    refine z_goto (q := 0) C dX10_town_101 (by decide) ?_
    obtain ⟨r1, hr1, hk1⟩ := Option.bind_eq_some_iff.mp hf
    refine loopC_ind (P := fun s => ZW l G 2 X (ZQ G X (zov out) (zsv out)) s 0 [(0, .ref a0_97), (1, .ref a1_97)] []) (fun σ x1 hf hx1 => ?_) hr1
    unfold f_X10_town_L0 at hf
    try dsimp only at hf
    try dsimp only
    have j97_1 : ∀  (σ : ZT), f_X10_town_J97_0 a0_97 a1_97 σ = some x1 → ZW l G 2 X (ZQ G X (zov out) (zsv out)) σ 97 [(0, .ref a0_97), (1, .ref a1_97)] [] := by
      intro  σ hf
      unfold f_X10_town_J97_0 at hf
      refine z_aload_n (q := 98) (i := 0) C 0 dX10_town_97 rfl rfl rfl ?_
      refine z_callXVv (q := 101) (As := []) C (fun o ho => m_X10_close _ _ ho) zk10 vvX10_185 cdX10_close pnX10 dX10_town_98 rfl (by decide) (Nat.le_of_ble_eq_true rfl) hf rfl (fun xx σ hf T locs ls hP hL h1 h2 hl X0 => ?_) fun σ hf => ?_
      · have e1 := zl_x hf hx1
        have hf := hk1
        rw [← e1] at hf
        try dsimp only at hf
        cases hf
        exact zthrown_out C (by decide) hP hL h1 h2 X0
      refine z_goto (q := 0) C dX10_town_101 (by decide) ?_
      have hc1 := zl_c hf hx1
      exact hc1
    refine z_aload_n (q := 1) (i := 0) C 0 dX10_town_0 rfl rfl rfl ?_
    refine z_getI (q := 4) C flX10_32 dX10_town_1 hf rfl fun v14 hf => ?_
    refine z_ifeq (q := 7) (tgt := 104) C dX10_town_4 (by decide) rfl hf (fun c4 hf => ?_) (fun c4 hf => ?_)
    · have e1 := zl_x hf hx1
      have hf := hk1
      rw [← e1] at hf
      try dsimp only at hf
      cases hf
      exact z_return C rfl dX10_town_104 rfl
    · refine z_aload_n (q := 8) (i := 0) C 0 dX10_town_7 rfl rfl rfl ?_
      refine z_ldcS (q := 10) C 0 (by decide) rfl rfl dX10_town_8 rfl ?_
      refine z_callVi (q := 13) (As := [.ref (gS G 0)]) C (fun o ho => m_X10_isWord _ _ _ ho) zk10 vvX10_68 cdX10_isWord pnX10 dX10_town_10 rfl (by decide) (Nat.le_of_ble_eq_true rfl) hf rfl fun v15 σ hf => ?_
      refine z_ifeq (q := 16) (tgt := 24) C dX10_town_13 (by decide) rfl hf (fun c13 hf => ?_) (fun c13 hf => ?_)
      · refine z_aload_n (q := 25) (i := 0) C 0 dX10_town_24 rfl rfl rfl ?_
        refine z_ldcS (q := 27) C 1 (by decide) rfl rfl dX10_town_25 rfl ?_
        refine z_callVi (q := 30) (As := [.ref (gS G 1)]) C (fun o ho => m_X10_isWord _ _ _ ho) zk10 vvX10_68 cdX10_isWord pnX10 dX10_town_27 rfl (by decide) (Nat.le_of_ble_eq_true rfl) hf rfl fun v16 σ hf => ?_
        refine z_ifeq (q := 33) (tgt := 41) C dX10_town_30 (by decide) rfl hf (fun c30 hf => ?_) (fun c30 hf => ?_)
        · refine z_aload_n (q := 42) (i := 0) C 0 dX10_town_41 rfl rfl rfl ?_
          refine z_ldcS (q := 44) C 11 (by decide) rfl rfl dX10_town_42 rfl ?_
          refine z_callVi (q := 47) (As := [.ref (gS G 11)]) C (fun o ho => m_X10_isWord _ _ _ ho) zk10 vvX10_68 cdX10_isWord pnX10 dX10_town_44 rfl (by decide) (Nat.le_of_ble_eq_true rfl) hf rfl fun v17 σ hf => ?_
          refine z_ifeq (q := 50) (tgt := 58) C dX10_town_47 (by decide) rfl hf (fun c47 hf => ?_) (fun c47 hf => ?_)
          · refine z_aload_n (q := 59) (i := 0) C 0 dX10_town_58 rfl rfl rfl ?_
            refine z_ldcS (q := 61) C 17 (by decide) rfl rfl dX10_town_59 rfl ?_
            refine z_callVi (q := 64) (As := [.ref (gS G 17)]) C (fun o ho => m_X10_isWord _ _ _ ho) zk10 vvX10_68 cdX10_isWord pnX10 dX10_town_61 rfl (by decide) (Nat.le_of_ble_eq_true rfl) hf rfl fun v18 σ hf => ?_
            refine z_ifeq (q := 67) (tgt := 75) C dX10_town_64 (by decide) rfl hf (fun c64 hf => ?_) (fun c64 hf => ?_)
            · refine z_aload_n (q := 76) (i := 0) C 0 dX10_town_75 rfl rfl rfl ?_
              refine z_ldcS (q := 78) C 18 (by decide) rfl rfl dX10_town_76 rfl ?_
              refine z_callVi (q := 81) (As := [.ref (gS G 18)]) C (fun o ho => m_X10_isWord _ _ _ ho) zk10 vvX10_68 cdX10_isWord pnX10 dX10_town_78 rfl (by decide) (Nat.le_of_ble_eq_true rfl) hf rfl fun v19 σ hf => ?_
              refine z_ifeq (q := 84) (tgt := 92) C dX10_town_81 (by decide) rfl hf (fun c81 hf => ?_) (fun c81 hf => ?_)
              · refine z_aload_n (q := 93) (i := 0) C 0 dX10_town_92 rfl rfl rfl ?_
                refine z_callVr (q := 96) (As := []) C (fun o ho => m_X10_wrong _ _ ho) zk10 vvX10_64 cdX10_wrong pnX10 dX10_town_93 rfl (by decide) (Nat.le_of_ble_eq_true rfl) hf rfl fun v20 σ hf => ?_
                have e1 := zl_x hf hx1
                have hf := hk1
                rw [← e1] at hf
                try dsimp only at hf
                cases hf
                exact z_athrow C dX10_town_96 (by decide) rfl
              · refine z_aload_n (q := 85) (i := 0) C 0 dX10_town_84 rfl rfl rfl ?_
                refine z_aload_n (q := 86) (i := 1) C 1 dX10_town_85 rfl rfl rfl ?_
                refine z_callXVv (q := 89) (As := [.ref a1_97]) C (fun o ho => m_X10_newStone _ _ _ ho) zk10 vvX10_182 cdX10_newStone pnX10 dX10_town_86 rfl (by decide) (Nat.le_of_ble_eq_true rfl) hf rfl (fun xx σ hf T locs ls hP hL h1 h2 hl X0 => ?_) fun σ hf => ?_
                · have e1 := zl_x hf hx1
                  have hf := hk1
                  rw [← e1] at hf
                  try dsimp only at hf
                  cases hf
                  exact zthrown_out C (by decide) hP hL h1 h2 X0
                refine z_goto (q := 97) C dX10_town_89 (by decide) ?_
                exact j97_1  σ hf
            · refine z_aload_n (q := 68) (i := 0) C 0 dX10_town_67 rfl rfl rfl ?_
              refine z_aload_n (q := 69) (i := 1) C 1 dX10_town_68 rfl rfl rfl ?_
              refine z_callXVv (q := 72) (As := [.ref a1_97]) C (fun o ho => m_X10_newLoad _ _ _ ho) zk10 vvX10_179 cdX10_newLoad pnX10 dX10_town_69 rfl (by decide) (Nat.le_of_ble_eq_true rfl) hf rfl (fun xx σ hf T locs ls hP hL h1 h2 hl X0 => ?_) fun σ hf => ?_
              · have e1 := zl_x hf hx1
                have hf := hk1
                rw [← e1] at hf
                try dsimp only at hf
                cases hf
                exact zthrown_out C (by decide) hP hL h1 h2 X0
              refine z_goto (q := 97) C dX10_town_72 (by decide) ?_
              exact j97_1  σ hf
          · refine z_aload_n (q := 51) (i := 0) C 0 dX10_town_50 rfl rfl rfl ?_
            refine z_aload_n (q := 52) (i := 1) C 1 dX10_town_51 rfl rfl rfl ?_
            refine z_callXVv (q := 55) (As := [.ref a1_97]) C (fun o ho => m_X10_newPerson _ _ _ ho) zk10 vvX10_176 cdX10_newPerson pnX10 dX10_town_52 rfl (by decide) (Nat.le_of_ble_eq_true rfl) hf rfl (fun xx σ hf T locs ls hP hL h1 h2 hl X0 => ?_) fun σ hf => ?_
            · have e1 := zl_x hf hx1
              have hf := hk1
              rw [← e1] at hf
              try dsimp only at hf
              cases hf
              exact zthrown_out C (by decide) hP hL h1 h2 X0
            refine z_goto (q := 97) C dX10_town_55 (by decide) ?_
            exact j97_1  σ hf
        · refine z_aload_n (q := 34) (i := 0) C 0 dX10_town_33 rfl rfl rfl ?_
          refine z_aload_n (q := 35) (i := 1) C 1 dX10_town_34 rfl rfl rfl ?_
          refine z_callXVv (q := 38) (As := [.ref a1_97]) C (fun o ho => m_X10_newBridge _ _ _ ho) zk10 vvX10_173 cdX10_newBridge pnX10 dX10_town_35 rfl (by decide) (Nat.le_of_ble_eq_true rfl) hf rfl (fun xx σ hf T locs ls hP hL h1 h2 hl X0 => ?_) fun σ hf => ?_
          · have e1 := zl_x hf hx1
            have hf := hk1
            rw [← e1] at hf
            try dsimp only at hf
            cases hf
            exact zthrown_out C (by decide) hP hL h1 h2 X0
          refine z_goto (q := 97) C dX10_town_38 (by decide) ?_
          exact j97_1  σ hf
      · refine z_aload_n (q := 17) (i := 0) C 0 dX10_town_16 rfl rfl rfl ?_
        refine z_aload_n (q := 18) (i := 1) C 1 dX10_town_17 rfl rfl rfl ?_
        refine z_callXVv (q := 21) (As := [.ref a1_97]) C (fun o ho => m_X10_newPlace _ _ _ ho) zk10 vvX10_169 cdX10_newPlace pnX10 dX10_town_18 rfl (by decide) (Nat.le_of_ble_eq_true rfl) hf rfl (fun xx σ hf T locs ls hP hL h1 h2 hl X0 => ?_) fun σ hf => ?_
        · have e1 := zl_x hf hx1
          have hf := hk1
          rw [← e1] at hf
          try dsimp only at hf
          cases hf
          exact zthrown_out C (by decide) hP hL h1 h2 X0
        refine z_goto (q := 97) C dX10_town_21 (by decide) ?_
        exact j97_1  σ hf
  refine z_aload_n (q := 1) (i := 0) C 0 dX10_town_0 rfl rfl rfl ?_
  refine z_getI (q := 4) C flX10_32 dX10_town_1 hf rfl fun v1 hf => ?_
  refine z_ifeq (q := 7) (tgt := 104) C dX10_town_4 (by decide) rfl hf (fun c4 hf => ?_) (fun c4 hf => ?_)
  · cases hf
    exact z_return C rfl dX10_town_104 rfl
  · refine z_aload_n (q := 8) (i := 0) C 0 dX10_town_7 rfl rfl rfl ?_
    refine z_ldcS (q := 10) C 0 (by decide) rfl rfl dX10_town_8 rfl ?_
    refine z_callVi (q := 13) (As := [.ref (gS G 0)]) C (fun o ho => m_X10_isWord _ _ _ ho) zk10 vvX10_68 cdX10_isWord pnX10 dX10_town_10 rfl (by decide) (Nat.le_of_ble_eq_true rfl) hf rfl fun v2 σ hf => ?_
    refine z_ifeq (q := 16) (tgt := 24) C dX10_town_13 (by decide) rfl hf (fun c13 hf => ?_) (fun c13 hf => ?_)
    · refine z_aload_n (q := 25) (i := 0) C 0 dX10_town_24 rfl rfl rfl ?_
      refine z_ldcS (q := 27) C 1 (by decide) rfl rfl dX10_town_25 rfl ?_
      refine z_callVi (q := 30) (As := [.ref (gS G 1)]) C (fun o ho => m_X10_isWord _ _ _ ho) zk10 vvX10_68 cdX10_isWord pnX10 dX10_town_27 rfl (by decide) (Nat.le_of_ble_eq_true rfl) hf rfl fun v3 σ hf => ?_
      refine z_ifeq (q := 33) (tgt := 41) C dX10_town_30 (by decide) rfl hf (fun c30 hf => ?_) (fun c30 hf => ?_)
      · refine z_aload_n (q := 42) (i := 0) C 0 dX10_town_41 rfl rfl rfl ?_
        refine z_ldcS (q := 44) C 11 (by decide) rfl rfl dX10_town_42 rfl ?_
        refine z_callVi (q := 47) (As := [.ref (gS G 11)]) C (fun o ho => m_X10_isWord _ _ _ ho) zk10 vvX10_68 cdX10_isWord pnX10 dX10_town_44 rfl (by decide) (Nat.le_of_ble_eq_true rfl) hf rfl fun v4 σ hf => ?_
        refine z_ifeq (q := 50) (tgt := 58) C dX10_town_47 (by decide) rfl hf (fun c47 hf => ?_) (fun c47 hf => ?_)
        · refine z_aload_n (q := 59) (i := 0) C 0 dX10_town_58 rfl rfl rfl ?_
          refine z_ldcS (q := 61) C 17 (by decide) rfl rfl dX10_town_59 rfl ?_
          refine z_callVi (q := 64) (As := [.ref (gS G 17)]) C (fun o ho => m_X10_isWord _ _ _ ho) zk10 vvX10_68 cdX10_isWord pnX10 dX10_town_61 rfl (by decide) (Nat.le_of_ble_eq_true rfl) hf rfl fun v5 σ hf => ?_
          refine z_ifeq (q := 67) (tgt := 75) C dX10_town_64 (by decide) rfl hf (fun c64 hf => ?_) (fun c64 hf => ?_)
          · refine z_aload_n (q := 76) (i := 0) C 0 dX10_town_75 rfl rfl rfl ?_
            refine z_ldcS (q := 78) C 18 (by decide) rfl rfl dX10_town_76 rfl ?_
            refine z_callVi (q := 81) (As := [.ref (gS G 18)]) C (fun o ho => m_X10_isWord _ _ _ ho) zk10 vvX10_68 cdX10_isWord pnX10 dX10_town_78 rfl (by decide) (Nat.le_of_ble_eq_true rfl) hf rfl fun v6 σ hf => ?_
            refine z_ifeq (q := 84) (tgt := 92) C dX10_town_81 (by decide) rfl hf (fun c81 hf => ?_) (fun c81 hf => ?_)
            · refine z_aload_n (q := 93) (i := 0) C 0 dX10_town_92 rfl rfl rfl ?_
              refine z_callVr (q := 96) (As := []) C (fun o ho => m_X10_wrong _ _ ho) zk10 vvX10_64 cdX10_wrong pnX10 dX10_town_93 rfl (by decide) (Nat.le_of_ble_eq_true rfl) hf rfl fun v7 σ hf => ?_
              cases hf
              exact z_athrow C dX10_town_96 (by decide) rfl
            · refine z_aload_n (q := 85) (i := 0) C 0 dX10_town_84 rfl rfl rfl ?_
              refine z_aload_n (q := 86) (i := 1) C 1 dX10_town_85 rfl rfl rfl ?_
              refine z_callXVv (q := 89) (As := [.ref a1]) C (fun o ho => m_X10_newStone _ _ _ ho) zk10 vvX10_182 cdX10_newStone pnX10 dX10_town_86 rfl (by decide) (Nat.le_of_ble_eq_true rfl) hf rfl (fun xx σ hf T locs ls hP hL h1 h2 hl X0 => ?_) fun σ hf => ?_
              · cases hf
                exact zthrown_out C (by decide) hP hL h1 h2 X0
              refine z_goto (q := 97) C dX10_town_89 (by decide) ?_
              exact j97_0 a0 a1 σ hf
          · refine z_aload_n (q := 68) (i := 0) C 0 dX10_town_67 rfl rfl rfl ?_
            refine z_aload_n (q := 69) (i := 1) C 1 dX10_town_68 rfl rfl rfl ?_
            refine z_callXVv (q := 72) (As := [.ref a1]) C (fun o ho => m_X10_newLoad _ _ _ ho) zk10 vvX10_179 cdX10_newLoad pnX10 dX10_town_69 rfl (by decide) (Nat.le_of_ble_eq_true rfl) hf rfl (fun xx σ hf T locs ls hP hL h1 h2 hl X0 => ?_) fun σ hf => ?_
            · cases hf
              exact zthrown_out C (by decide) hP hL h1 h2 X0
            refine z_goto (q := 97) C dX10_town_72 (by decide) ?_
            exact j97_0 a0 a1 σ hf
        · refine z_aload_n (q := 51) (i := 0) C 0 dX10_town_50 rfl rfl rfl ?_
          refine z_aload_n (q := 52) (i := 1) C 1 dX10_town_51 rfl rfl rfl ?_
          refine z_callXVv (q := 55) (As := [.ref a1]) C (fun o ho => m_X10_newPerson _ _ _ ho) zk10 vvX10_176 cdX10_newPerson pnX10 dX10_town_52 rfl (by decide) (Nat.le_of_ble_eq_true rfl) hf rfl (fun xx σ hf T locs ls hP hL h1 h2 hl X0 => ?_) fun σ hf => ?_
          · cases hf
            exact zthrown_out C (by decide) hP hL h1 h2 X0
          refine z_goto (q := 97) C dX10_town_55 (by decide) ?_
          exact j97_0 a0 a1 σ hf
      · refine z_aload_n (q := 34) (i := 0) C 0 dX10_town_33 rfl rfl rfl ?_
        refine z_aload_n (q := 35) (i := 1) C 1 dX10_town_34 rfl rfl rfl ?_
        refine z_callXVv (q := 38) (As := [.ref a1]) C (fun o ho => m_X10_newBridge _ _ _ ho) zk10 vvX10_173 cdX10_newBridge pnX10 dX10_town_35 rfl (by decide) (Nat.le_of_ble_eq_true rfl) hf rfl (fun xx σ hf T locs ls hP hL h1 h2 hl X0 => ?_) fun σ hf => ?_
        · cases hf
          exact zthrown_out C (by decide) hP hL h1 h2 X0
        refine z_goto (q := 97) C dX10_town_38 (by decide) ?_
        exact j97_0 a0 a1 σ hf
    · refine z_aload_n (q := 17) (i := 0) C 0 dX10_town_16 rfl rfl rfl ?_
      refine z_aload_n (q := 18) (i := 1) C 1 dX10_town_17 rfl rfl rfl ?_
      refine z_callXVv (q := 21) (As := [.ref a1]) C (fun o ho => m_X10_newPlace _ _ _ ho) zk10 vvX10_169 cdX10_newPlace pnX10 dX10_town_18 rfl (by decide) (Nat.le_of_ble_eq_true rfl) hf rfl (fun xx σ hf T locs ls hP hL h1 h2 hl X0 => ?_) fun σ hf => ?_
      · cases hf
        exact zthrown_out C (by decide) hP hL h1 h2 X0
      refine z_goto (q := 97) C dX10_town_21 (by decide) ?_
      exact j97_0 a0 a1 σ hf

noncomputable def f_X10_isPlain_J50 (w0_50 : Int32) (σ : ZT) : Option (Int32 × ZT) :=
  (rz w0_50).bind fun z6 =>
  some (z6, σ)
noncomputable def f_X10_isPlain_J45  (σ : ZT) : Option (Int32 × ZT) :=
  f_X10_isPlain_J50 (1 : Int32) σ
noncomputable def f_X10_isPlain (a0 : Nat) (σ : ZT) : Option (Int32 × ZT) :=
  bnd2 (vc 10 a0 σ (f_X10_isWord a0 19 σ)) fun v1 σ =>
  if v1 = 0 then
  (bnd2 (vc 10 a0 σ (f_X10_isWord a0 20 σ)) fun v2 σ =>
  if v2 = 0 then
  (bnd2 (vc 10 a0 σ (f_X10_isWord a0 22 σ)) fun v3 σ =>
  if v3 = 0 then
  (bnd2 (vc 10 a0 σ (f_X10_isWord a0 23 σ)) fun v4 σ =>
  if v4 = 0 then
  (bnd2 (vc 10 a0 σ (f_X10_isWord a0 29 σ)) fun v5 σ =>
  if v5 = 0 then
  (f_X10_isPlain_J50 (0 : Int32) σ)
  else
  (f_X10_isPlain_J45  σ))
  else
  (f_X10_isPlain_J45  σ))
  else
  (f_X10_isPlain_J45  σ))
  else
  (f_X10_isPlain_J45  σ))
  else
  (f_X10_isPlain_J45  σ)
set_option maxHeartbeats 4000000 in
theorem m_X10_isPlain {l : Launch} {G : ZG} (a0 : Nat) (σ : ZT) {out : (Int32 × ZT)} (hf : f_X10_isPlain a0 σ = some out) : ZM l G yX10_isPlain cX10_isPlain 1 (some .boolean) [] 7 [.ref a0] σ (.returned (some (.int out.1))) out.2 := by
  refine ZM.of [(0, .ref a0)] rfl (Nat.le_of_ble_eq_true rfl) fun X (C : ZC G RX10 "isPlain" cX10_isPlain 1 (some .boolean) [] X 7) => ?_
  unfold f_X10_isPlain at hf
  have j50_0 : ∀ (w0_50 : Int32) (σ : ZT), f_X10_isPlain_J50 w0_50 σ = some out → ZW l G 1 X (ZQ G X (.returned (some (.int out.1))) out.2) σ 50 [] [.int w0_50] := by
    intro w0_50 σ hf
    unfold f_X10_isPlain_J50 at hf
    refine z_rz C hf fun hn hf => ?_
    exact z_zreturn C rfl hn dX10_isPlain_50 (Option.some.inj hf)
  have j45_0 : ∀  (σ : ZT), f_X10_isPlain_J45  σ = some out → ZW l G 1 X (ZQ G X (.returned (some (.int out.1))) out.2) σ 45 [] [] := by
    intro  σ hf
    unfold f_X10_isPlain_J45 at hf
    refine z_iconst (q := 46) C (1 : Int32) dX10_isPlain_45 ki_1 rfl ?_
    refine z_goto (q := 50) C dX10_isPlain_46 (by decide) ?_
    exact j50_0 (1 : Int32) σ hf
  refine z_aload_n (q := 1) (i := 0) C 0 dX10_isPlain_0 rfl rfl rfl ?_
  refine z_ldcS (q := 3) C 19 (by decide) rfl rfl dX10_isPlain_1 rfl ?_
  refine z_callVi (q := 6) (As := [.ref (gS G 19)]) C (fun o ho => m_X10_isWord _ _ _ ho) zk10 vvX10_68 cdX10_isWord pnX10 dX10_isPlain_3 rfl (by decide) (Nat.le_of_ble_eq_true rfl) hf rfl fun v1 σ hf => ?_
  refine z_ifne (q := 9) (tgt := 45) C dX10_isPlain_6 (by decide) rfl hf (fun c6 hf => ?_) (fun c6 hf => ?_)
  · refine z_lv [] rfl ?_
    exact j45_0  σ hf
  · refine z_aload_n (q := 10) (i := 0) C 0 dX10_isPlain_9 rfl rfl rfl ?_
    refine z_ldcS (q := 12) C 20 (by decide) rfl rfl dX10_isPlain_10 rfl ?_
    refine z_callVi (q := 15) (As := [.ref (gS G 20)]) C (fun o ho => m_X10_isWord _ _ _ ho) zk10 vvX10_68 cdX10_isWord pnX10 dX10_isPlain_12 rfl (by decide) (Nat.le_of_ble_eq_true rfl) hf rfl fun v2 σ hf => ?_
    refine z_ifne (q := 18) (tgt := 45) C dX10_isPlain_15 (by decide) rfl hf (fun c15 hf => ?_) (fun c15 hf => ?_)
    · refine z_lv [] rfl ?_
      exact j45_0  σ hf
    · refine z_aload_n (q := 19) (i := 0) C 0 dX10_isPlain_18 rfl rfl rfl ?_
      refine z_ldcS (q := 21) C 22 (by decide) rfl rfl dX10_isPlain_19 rfl ?_
      refine z_callVi (q := 24) (As := [.ref (gS G 22)]) C (fun o ho => m_X10_isWord _ _ _ ho) zk10 vvX10_68 cdX10_isWord pnX10 dX10_isPlain_21 rfl (by decide) (Nat.le_of_ble_eq_true rfl) hf rfl fun v3 σ hf => ?_
      refine z_ifne (q := 27) (tgt := 45) C dX10_isPlain_24 (by decide) rfl hf (fun c24 hf => ?_) (fun c24 hf => ?_)
      · refine z_lv [] rfl ?_
        exact j45_0  σ hf
      · refine z_aload_n (q := 28) (i := 0) C 0 dX10_isPlain_27 rfl rfl rfl ?_
        refine z_ldcS (q := 30) C 23 (by decide) rfl rfl dX10_isPlain_28 rfl ?_
        refine z_callVi (q := 33) (As := [.ref (gS G 23)]) C (fun o ho => m_X10_isWord _ _ _ ho) zk10 vvX10_68 cdX10_isWord pnX10 dX10_isPlain_30 rfl (by decide) (Nat.le_of_ble_eq_true rfl) hf rfl fun v4 σ hf => ?_
        refine z_ifne (q := 36) (tgt := 45) C dX10_isPlain_33 (by decide) rfl hf (fun c33 hf => ?_) (fun c33 hf => ?_)
        · refine z_lv [] rfl ?_
          exact j45_0  σ hf
        · refine z_aload_n (q := 37) (i := 0) C 0 dX10_isPlain_36 rfl rfl rfl ?_
          refine z_ldcS (q := 39) C 29 (by decide) rfl rfl dX10_isPlain_37 rfl ?_
          refine z_callVi (q := 42) (As := [.ref (gS G 29)]) C (fun o ho => m_X10_isWord _ _ _ ho) zk10 vvX10_68 cdX10_isWord pnX10 dX10_isPlain_39 rfl (by decide) (Nat.le_of_ble_eq_true rfl) hf rfl fun v5 σ hf => ?_
          refine z_ifeq (q := 45) (tgt := 49) C dX10_isPlain_42 (by decide) rfl hf (fun c42 hf => ?_) (fun c42 hf => ?_)
          · refine z_iconst (q := 50) C (0 : Int32) dX10_isPlain_49 ki_0 rfl ?_
            refine z_lv [] rfl ?_
            exact j50_0 (0 : Int32) σ hf
          · refine z_lv [] rfl ?_
            exact j45_0  σ hf

noncomputable def f_X10_bridge (a0 : Nat) (a1 : Nat) (σ : ZT) : Option ((Nat × ZT) ⊕ (Int32 × ZT)) :=
  bndX (vc 10 a0 σ (f_X10_name a0 σ)) (fun xx σ => some (.inl (xx, σ))) fun v1 σ =>
  bnd2 (vc 6 a1 σ (f_X6_bridgeNamed a1 v1 σ)) fun v2 σ =>
  bndX (vc 10 a0 σ (f_X10_known a0 v2 σ)) (fun xx σ => some (.inl (xx, σ))) fun v3 σ =>
  some (.inr (v3, σ))
set_option maxHeartbeats 4000000 in
theorem m_X10_bridge {l : Launch} {G : ZG} (a0 : Nat) (a1 : Nat) (σ : ZT) {out : ((Nat × ZT) ⊕ (Int32 × ZT))} (hf : f_X10_bridge a0 a1 σ = some out) : ZM l G yX10_bridge cX10_bridge 2 (some .int) [] 9 [.ref a0, .ref a1] σ (zoi out) (zsi out) := by
  refine ZM.of [(0, .ref a0), (1, .ref a1)] rfl (Nat.le_of_ble_eq_true rfl) fun X (C : ZC G RX10 "bridge" cX10_bridge 2 (some .int) [] X 9) => ?_
  unfold f_X10_bridge at hf
  refine z_aload_n (q := 1) (i := 0) C 0 dX10_bridge_0 rfl rfl rfl ?_
  refine z_aload_n (q := 2) (i := 1) C 1 dX10_bridge_1 rfl rfl rfl ?_
  refine z_aload_n (q := 3) (i := 0) C 0 dX10_bridge_2 rfl rfl rfl ?_
  refine z_callXVl (q := 6) (As := []) C (fun o ho => m_X10_name _ _ ho) zk10 vvX10_142 cdX10_name pnX10 dX10_bridge_3 rfl (by decide) (Nat.le_of_ble_eq_true rfl) hf rfl (fun xx σ hf T locs ls hP hL h1 h2 hl X0 => ?_) fun v1 σ hf => ?_
  · cases hf
    exact zthrown_out C (by decide) hP hL h1 h2 X0
  refine z_callVi (q := 9) (As := [.long v1]) C (fun o ho => m_X6_bridgeNamed _ _ _ ho) zk6 vvX10_160 cdX6_bridgeNamed pnX6 dX10_bridge_6 rfl (by decide) (Nat.le_of_ble_eq_true rfl) hf rfl fun v2 σ hf => ?_
  refine z_callXVi (q := 12) (As := [.int v2]) C (fun o ho => m_X10_known _ _ _ ho) zk10 vvX10_156 cdX10_known pnX10 dX10_bridge_9 rfl (by decide) (Nat.le_of_ble_eq_true rfl) hf rfl (fun xx σ hf T locs ls hP hL h1 h2 hl X0 => ?_) fun v3 σ hf => ?_
  · cases hf
    exact zthrown_out C (by decide) hP hL h1 h2 X0
  cases hf
  exact z_ireturn C rfl dX10_bridge_12 rfl

noncomputable def f_X10_person (a0 : Nat) (a1 : Nat) (σ : ZT) : Option ((Nat × ZT) ⊕ (Int32 × ZT)) :=
  bndX (vc 10 a0 σ (f_X10_name a0 σ)) (fun xx σ => some (.inl (xx, σ))) fun v1 σ =>
  bnd2 (vc 6 a1 σ (f_X6_personNamed a1 v1 σ)) fun v2 σ =>
  bndX (vc 10 a0 σ (f_X10_known a0 v2 σ)) (fun xx σ => some (.inl (xx, σ))) fun v3 σ =>
  some (.inr (v3, σ))
set_option maxHeartbeats 4000000 in
theorem m_X10_person {l : Launch} {G : ZG} (a0 : Nat) (a1 : Nat) (σ : ZT) {out : ((Nat × ZT) ⊕ (Int32 × ZT))} (hf : f_X10_person a0 a1 σ = some out) : ZM l G yX10_person cX10_person 2 (some .int) [] 9 [.ref a0, .ref a1] σ (zoi out) (zsi out) := by
  refine ZM.of [(0, .ref a0), (1, .ref a1)] rfl (Nat.le_of_ble_eq_true rfl) fun X (C : ZC G RX10 "person" cX10_person 2 (some .int) [] X 9) => ?_
  unfold f_X10_person at hf
  refine z_aload_n (q := 1) (i := 0) C 0 dX10_person_0 rfl rfl rfl ?_
  refine z_aload_n (q := 2) (i := 1) C 1 dX10_person_1 rfl rfl rfl ?_
  refine z_aload_n (q := 3) (i := 0) C 0 dX10_person_2 rfl rfl rfl ?_
  refine z_callXVl (q := 6) (As := []) C (fun o ho => m_X10_name _ _ ho) zk10 vvX10_142 cdX10_name pnX10 dX10_person_3 rfl (by decide) (Nat.le_of_ble_eq_true rfl) hf rfl (fun xx σ hf T locs ls hP hL h1 h2 hl X0 => ?_) fun v1 σ hf => ?_
  · cases hf
    exact zthrown_out C (by decide) hP hL h1 h2 X0
  refine z_callVi (q := 9) (As := [.long v1]) C (fun o ho => m_X6_personNamed _ _ _ ho) zk6 vvX10_163 cdX6_personNamed pnX6 dX10_person_6 rfl (by decide) (Nat.le_of_ble_eq_true rfl) hf rfl fun v2 σ hf => ?_
  refine z_callXVi (q := 12) (As := [.int v2]) C (fun o ho => m_X10_known _ _ _ ho) zk10 vvX10_156 cdX10_known pnX10 dX10_person_9 rfl (by decide) (Nat.le_of_ble_eq_true rfl) hf rfl (fun xx σ hf T locs ls hP hL h1 h2 hl X0 => ?_) fun v3 σ hf => ?_
  · cases hf
    exact zthrown_out C (by decide) hP hL h1 h2 X0
  cases hf
  exact z_ireturn C rfl dX10_person_12 rfl

noncomputable def f_X10_when_J103 (w0_103 : Nat) (σ : ZT) : Option ((Nat × ZT) ⊕ (Nat × ZT)) :=
  some (.inr (w0_103, σ))
noncomputable def f_X10_when_J40 (a0_40 : Nat) (a1_40 : Nat) (i2_40 : Int32) (i3_40 : Int32) (σ : ZT) : Option ((Nat × ZT) ⊕ (Nat × ZT)) :=
  (vc 10 a0_40 σ (f_X10_next a0_40 σ)).bind fun σ =>
  if i3_40 = 0 then
  (bndX (vc 10 a0_40 σ (f_X10_person a0_40 a1_40 σ)) (fun xx σ => some (.inl (xx, σ))) fun v6 σ =>
  if i2_40 = 0 then
  (bnd2 (nwO 17 5 σ) fun v7 σ =>
  (f_X17_init v7 (2 : Int32) v6 (-1 : Int32) σ).bind fun σ =>
  f_X10_when_J103 v7 σ)
  else
  (bnd2 (nwO 17 5 σ) fun v9 σ =>
  bndX (vc 10 a0_40 σ (f_X10_place a0_40 a1_40 σ)) (fun xx σ => some (.inl (xx, σ))) fun v10 σ =>
  (f_X17_init v9 (0 : Int32) v6 v10 σ).bind fun σ =>
  f_X10_when_J103 v9 σ))
  else
  (bnd2 (nwO 17 5 σ) fun v12 σ =>
  bndX (vc 10 a0_40 σ (f_X10_bridge a0_40 a1_40 σ)) (fun xx σ => some (.inl (xx, σ))) fun v13 σ =>
  (f_X17_init v12 (1 : Int32) v13 (-1 : Int32) σ).bind fun σ =>
  some (.inr (v12, σ)))
noncomputable def f_X10_when (a0 : Nat) (a1 : Nat) (σ : ZT) : Option ((Nat × ZT) ⊕ (Nat × ZT)) :=
  bnd2 (vc 10 a0 σ (f_X10_isWord a0 13 σ)) fun v1 σ =>
  bnd2 (vc 10 a0 σ (f_X10_isWord a0 25 σ)) fun v2 σ =>
  bnd2 (vc 10 a0 σ (f_X10_isWord a0 26 σ)) fun v3 σ =>
  if v1 = 0 then
  (if v2 = 0 then
  (if v3 = 0 then
  (bnd2 (vc 10 a0 σ (f_X10_wrong a0 σ)) fun v4 σ =>
  some (.inl (v4, σ)))
  else
  (f_X10_when_J40 a0 a1 v1 v2 σ))
  else
  (f_X10_when_J40 a0 a1 v1 v2 σ))
  else
  (f_X10_when_J40 a0 a1 v1 v2 σ)
set_option maxHeartbeats 4000000 in
theorem m_X10_when {l : Launch} {G : ZG} (a0 : Nat) (a1 : Nat) (σ : ZT) {out : ((Nat × ZT) ⊕ (Nat × ZT))} (hf : f_X10_when a0 a1 σ = some out) : ZM l G yX10_when cX10_when 6 (some (.object "SillBridges$When")) [] 10 [.ref a0, .ref a1] σ (zor out) (zsr out) := by
  refine ZM.of [(0, .ref a0), (1, .ref a1)] rfl (Nat.le_of_ble_eq_true rfl) fun X (C : ZC G RX10 "when" cX10_when 6 (some (.object "SillBridges$When")) [] X 10) => ?_
  unfold f_X10_when at hf
  have j103_0 : ∀ (w0_103 : Nat) (σ : ZT), f_X10_when_J103 w0_103 σ = some out → ZW l G 6 X (ZQ G X (zor out) (zsr out)) σ 103 [] [.ref w0_103] := by
    intro w0_103 σ hf
    unfold f_X10_when_J103 at hf
    cases hf
    exact z_areturn C rfl dX10_when_103 rfl
  have j40_0 : ∀ (a0_40 : Nat) (a1_40 : Nat) (i2_40 : Int32) (i3_40 : Int32) (σ : ZT), f_X10_when_J40 a0_40 a1_40 i2_40 i3_40 σ = some out → ZW l G 6 X (ZQ G X (zor out) (zsr out)) σ 40 [(0, .ref a0_40), (1, .ref a1_40), (2, .int i2_40), (3, .int i3_40)] [] := by
    intro a0_40 a1_40 i2_40 i3_40 σ hf
    unfold f_X10_when_J40 at hf
    refine z_aload_n (q := 41) (i := 0) C 0 dX10_when_40 rfl rfl rfl ?_
    refine z_callVv (q := 44) (As := []) C (fun o ho => m_X10_next _ _ ho) zk10 vvX10_19 cdX10_next pnX10 dX10_when_41 rfl (by decide) (Nat.le_of_ble_eq_true rfl) hf rfl fun σ hf => ?_
    refine z_iload_n (q := 45) (i := 3) C 3 dX10_when_44 rfl rfl rfl ?_
    refine z_ifeq (q := 48) (tgt := 63) C dX10_when_45 (by decide) rfl hf (fun c45 hf => ?_) (fun c45 hf => ?_)
    · refine z_aload_n (q := 64) (i := 0) C 0 dX10_when_63 rfl rfl rfl ?_
      refine z_aload_n (q := 65) (i := 1) C 1 dX10_when_64 rfl rfl rfl ?_
      refine z_callXVi (q := 68) (As := [.ref a1_40]) C (fun o ho => m_X10_person _ _ _ ho) zk10 vvX10_291 cdX10_person pnX10 dX10_when_65 rfl (by decide) (Nat.le_of_ble_eq_true rfl) hf rfl (fun xx σ hf T locs ls hP hL h1 h2 hl X0 => ?_) fun v6 σ hf => ?_
      · cases hf
        exact zthrown_out C (by decide) hP hL h1 h2 X0
      refine z_istore (q := 70) (i := 5) (lv' := [(5, .int v6), (0, .ref a0_40), (1, .ref a1_40), (2, .int i2_40), (3, .int i3_40)]) C dX10_when_68 (by decide) rfl rfl ?_
      refine z_iload_n (q := 71) (i := 2) C 3 dX10_when_70 rfl rfl rfl ?_
      refine z_ifeq (q := 74) (tgt := 92) C dX10_when_71 (by decide) rfl hf (fun c71 hf => ?_) (fun c71 hf => ?_)
      · refine z_new (q := 95) C zk17 zty17 q1097 q1098 q173 dX10_when_92 hf rfl fun v7 σ hf => ?_
        refine z_dup (q := 96) C dX10_when_95 rfl rfl ?_
        refine z_iconst (q := 97) C (2 : Int32) dX10_when_96 ki_2 rfl ?_
        refine z_iload (q := 99) (i := 5) C 0 dX10_when_97 rfl rfl ?_
        refine z_iconst (q := 100) C (-1 : Int32) dX10_when_99 ki_m1 rfl ?_
        refine z_callIv (q := 103) (As := [.int (2 : Int32), .int v6, .int (-1 : Int32)]) C (fun o ho => m_X17_init _ _ _ _ _ ho) viX10_315 pnX17 dX10_when_100 rfl (by decide) (Nat.le_of_ble_eq_true rfl) hf rfl fun σ hf => ?_
        refine z_lv [] rfl ?_
        exact j103_0 v7 σ hf
      · refine z_new (q := 77) C zk17 zty17 q1097 q1098 q173 dX10_when_74 hf rfl fun v9 σ hf => ?_
        refine z_dup (q := 78) C dX10_when_77 rfl rfl ?_
        refine z_iconst (q := 79) C (0 : Int32) dX10_when_78 ki_0 rfl ?_
        refine z_iload (q := 81) (i := 5) C 0 dX10_when_79 rfl rfl ?_
        refine z_aload_n (q := 82) (i := 0) C 1 dX10_when_81 rfl rfl rfl ?_
        refine z_aload_n (q := 83) (i := 1) C 2 dX10_when_82 rfl rfl rfl ?_
        refine z_callXVi (q := 86) (As := [.ref a1_40]) C (fun o ho => m_X10_place _ _ _ ho) zk10 vvX10_206 cdX10_place pnX10 dX10_when_83 rfl (by decide) (Nat.le_of_ble_eq_true rfl) hf rfl (fun xx σ hf T locs ls hP hL h1 h2 hl X0 => ?_) fun v10 σ hf => ?_
        · cases hf
          exact zthrown_out C (by decide) hP hL h1 h2 X0
        refine z_callIv (q := 89) (As := [.int (0 : Int32), .int v6, .int v10]) C (fun o ho => m_X17_init _ _ _ _ _ ho) viX10_315 pnX17 dX10_when_86 rfl (by decide) (Nat.le_of_ble_eq_true rfl) hf rfl fun σ hf => ?_
        refine z_goto (q := 103) C dX10_when_89 (by decide) ?_
        refine z_lv [] rfl ?_
        exact j103_0 v9 σ hf
    · refine z_new (q := 51) C zk17 zty17 q1097 q1098 q173 dX10_when_48 hf rfl fun v12 σ hf => ?_
      refine z_dup (q := 52) C dX10_when_51 rfl rfl ?_
      refine z_iconst (q := 53) C (1 : Int32) dX10_when_52 ki_1 rfl ?_
      refine z_aload_n (q := 54) (i := 0) C 0 dX10_when_53 rfl rfl rfl ?_
      refine z_aload_n (q := 55) (i := 1) C 1 dX10_when_54 rfl rfl rfl ?_
      refine z_callXVi (q := 58) (As := [.ref a1_40]) C (fun o ho => m_X10_bridge _ _ _ ho) zk10 vvX10_303 cdX10_bridge pnX10 dX10_when_55 rfl (by decide) (Nat.le_of_ble_eq_true rfl) hf rfl (fun xx σ hf T locs ls hP hL h1 h2 hl X0 => ?_) fun v13 σ hf => ?_
      · cases hf
        exact zthrown_out C (by decide) hP hL h1 h2 X0
      refine z_iconst (q := 59) C (-1 : Int32) dX10_when_58 ki_m1 rfl ?_
      refine z_callIv (q := 62) (As := [.int (1 : Int32), .int v13, .int (-1 : Int32)]) C (fun o ho => m_X17_init _ _ _ _ _ ho) viX10_315 pnX17 dX10_when_59 rfl (by decide) (Nat.le_of_ble_eq_true rfl) hf rfl fun σ hf => ?_
      cases hf
      exact z_areturn C rfl dX10_when_62 rfl
  refine z_aload_n (q := 1) (i := 0) C 0 dX10_when_0 rfl rfl rfl ?_
  refine z_ldcS (q := 3) C 13 (by decide) rfl rfl dX10_when_1 rfl ?_
  refine z_callVi (q := 6) (As := [.ref (gS G 13)]) C (fun o ho => m_X10_isWord _ _ _ ho) zk10 vvX10_68 cdX10_isWord pnX10 dX10_when_3 rfl (by decide) (Nat.le_of_ble_eq_true rfl) hf rfl fun v1 σ hf => ?_
  refine z_istore_n (q := 7) (i := 2) (lv' := [(2, .int v1), (0, .ref a0), (1, .ref a1)]) C dX10_when_6 rfl (by decide) rfl rfl ?_
  refine z_aload_n (q := 8) (i := 0) C 1 dX10_when_7 rfl rfl rfl ?_
  refine z_ldcS (q := 10) C 25 (by decide) rfl rfl dX10_when_8 rfl ?_
  refine z_callVi (q := 13) (As := [.ref (gS G 25)]) C (fun o ho => m_X10_isWord _ _ _ ho) zk10 vvX10_68 cdX10_isWord pnX10 dX10_when_10 rfl (by decide) (Nat.le_of_ble_eq_true rfl) hf rfl fun v2 σ hf => ?_
  refine z_istore_n (q := 14) (i := 3) (lv' := [(3, .int v2), (2, .int v1), (0, .ref a0), (1, .ref a1)]) C dX10_when_13 rfl (by decide) rfl rfl ?_
  refine z_aload_n (q := 15) (i := 0) C 2 dX10_when_14 rfl rfl rfl ?_
  refine z_ldcS (q := 17) C 26 (by decide) rfl rfl dX10_when_15 rfl ?_
  refine z_callVi (q := 20) (As := [.ref (gS G 26)]) C (fun o ho => m_X10_isWord _ _ _ ho) zk10 vvX10_68 cdX10_isWord pnX10 dX10_when_17 rfl (by decide) (Nat.le_of_ble_eq_true rfl) hf rfl fun v3 σ hf => ?_
  refine z_istore (q := 22) (i := 4) (lv' := [(4, .int v3), (3, .int v2), (2, .int v1), (0, .ref a0), (1, .ref a1)]) C dX10_when_20 (by decide) rfl rfl ?_
  refine z_iload_n (q := 23) (i := 2) C 2 dX10_when_22 rfl rfl rfl ?_
  refine z_ifne (q := 26) (tgt := 40) C dX10_when_23 (by decide) rfl hf (fun c23 hf => ?_) (fun c23 hf => ?_)
  · refine z_lv [3, 4, 2, 1] rfl ?_
    exact j40_0 a0 a1 v1 v2 σ hf
  · refine z_iload_n (q := 27) (i := 3) C 1 dX10_when_26 rfl rfl rfl ?_
    refine z_ifne (q := 30) (tgt := 40) C dX10_when_27 (by decide) rfl hf (fun c27 hf => ?_) (fun c27 hf => ?_)
    · refine z_lv [3, 4, 2, 1] rfl ?_
      exact j40_0 a0 a1 v1 v2 σ hf
    · refine z_iload (q := 32) (i := 4) C 0 dX10_when_30 rfl rfl ?_
      refine z_ifne (q := 35) (tgt := 40) C dX10_when_32 (by decide) rfl hf (fun c32 hf => ?_) (fun c32 hf => ?_)
      · refine z_lv [3, 4, 2, 1] rfl ?_
        exact j40_0 a0 a1 v1 v2 σ hf
      · refine z_aload_n (q := 36) (i := 0) C 3 dX10_when_35 rfl rfl rfl ?_
        refine z_callVr (q := 39) (As := []) C (fun o ho => m_X10_wrong _ _ ho) zk10 vvX10_64 cdX10_wrong pnX10 dX10_when_36 rfl (by decide) (Nat.le_of_ble_eq_true rfl) hf rfl fun v4 σ hf => ?_
        cases hf
        exact z_athrow C dX10_when_39 (by decide) rfl

noncomputable def f_X10_block_L36 (F : Nat → Nat → Nat → Int32 → ZT → Option ((Nat × ZT) ⊕ ZT)) (c0_36 : Nat) (c1_36 : Nat) (c3_36 : Int32) (c4_36 : Nat)  (σ : ZT) : Option (ZT ⊕ (((Nat × ZT) ⊕ (Nat × ZT)) ⊕ ZT)) :=
  bnd2 (vc 10 c0_36 σ (f_X10_isWord c0_36 28 σ)) fun v7 σ =>
  if v7 = 0 then
  (bndXv (vc 10 c0_36 σ (F c0_36 c1_36 c4_36 (c3_36 + (1 : Int32)) σ)) (fun xx σ => some (.inr (.inl (.inl (xx, σ))))) fun σ =>
  some (.inl σ))
  else
  (some (.inr (.inr σ)))
noncomputable def f_X10_block_J30 (F : Nat → Nat → Nat → Int32 → ZT → Option ((Nat × ZT) ⊕ ZT)) (a0_30 : Nat) (a1_30 : Nat) (i3_30 : Int32) (w0_30 : Nat) (σ : ZT) : Option ((Nat × ZT) ⊕ (Nat × ZT)) :=
  bndXv (vc 10 a0_30 σ (f_X10_close a0_30 σ)) (fun xx σ => some (.inl (xx, σ))) fun σ =>
  (loopC (fun s : ZT => f_X10_block_L36 F a0_30 a1_30 i3_30 w0_30 s) σ).bind fun x => (match x with
  | .inl o => some o
  | .inr σ => (vc 10 a0_30 σ (f_X10_next a0_30 σ)).bind fun σ =>
  some (.inr (w0_30, σ)))
noncomputable def f_X10_block (F : Nat → Nat → Nat → Int32 → ZT → Option ((Nat × ZT) ⊕ ZT)) (a0 : Nat) (a1 : Nat) (i2 : Int32) (i3 : Int32) (σ : ZT) : Option ((Nat × ZT) ⊕ (Nat × ZT)) :=
  (vc 10 a0 σ (f_X10_next a0 σ)).bind fun σ =>
  if i2 = 0 then
  (bnd2 (nwO 16 3 σ) fun v2 σ =>
  bndX (vc 10 a0 σ (f_X10_number a0 (1 : Int32) (99 : Int32) σ)) (fun xx σ => some (.inl (xx, σ))) fun v3 σ =>
  (f_X16_init v2 v3 σ).bind fun σ =>
  f_X10_block_J30 F a0 a1 i3 v2 σ)
  else
  (bndX (vc 10 a0 σ (f_X10_when a0 a1 σ)) (fun xx σ => some (.inl (xx, σ))) fun v5 σ =>
  f_X10_block_J30 F a0 a1 i3 v5 σ)
set_option maxHeartbeats 4000000 in
theorem m_X10_block {l : Launch} {G : ZG} {d0 : Nat} (F : Nat → Nat → Nat → Int32 → ZT → Option ((Nat × ZT) ⊕ ZT)) (hF : ∀ (a : Nat) (p0 : Nat) (p1 : Nat) (p2 : Int32) (σ : ZT) (o : (Nat × ZT) ⊕ ZT), F a p0 p1 p2 σ = some o → ZM l G yX10_step cX10_step 7 none [] d0 [.ref a, .ref p0, .ref p1, .int p2] σ (zov o) (zsv o)) (a0 : Nat) (a1 : Nat) (i2 : Int32) (i3 : Int32) (σ : ZT) {out : ((Nat × ZT) ⊕ (Nat × ZT))} (hf : f_X10_block F a0 a1 i2 i3 σ = some out) : ZM l G yX10_block cX10_block 5 (some (.object "SillBridges$Block")) [] (d0 + 14) [.ref a0, .ref a1, .int i2, .int i3] σ (zor out) (zsr out) := by
  refine ZM.of [(0, .ref a0), (1, .ref a1), (2, .int i2), (3, .int i3)] rfl (Nat.le_of_ble_eq_true rfl) fun X (C : ZC G RX10 "block" cX10_block 5 (some (.object "SillBridges$Block")) [] X (d0 + 14)) => ?_
  unfold f_X10_block at hf
  have j30_0 : ∀ (a0_30 : Nat) (a1_30 : Nat) (i3_30 : Int32) (w0_30 : Nat) (σ : ZT), f_X10_block_J30 F a0_30 a1_30 i3_30 w0_30 σ = some out → ZW l G 5 X (ZQ G X (zor out) (zsr out)) σ 30 [(0, .ref a0_30), (1, .ref a1_30), (3, .int i3_30)] [.ref w0_30] := by
    intro a0_30 a1_30 i3_30 w0_30 σ hf
    unfold f_X10_block_J30 at hf
    refine z_astore (q := 32) (i := 4) (lv' := [(4, .ref w0_30), (0, .ref a0_30), (1, .ref a1_30), (3, .int i3_30)]) C dX10_block_30 (by decide) rfl rfl ?_
    refine z_aload_n (q := 33) (i := 0) C 1 dX10_block_32 rfl rfl rfl ?_
    refine z_callXVv (q := 36) (As := []) C (fun o ho => m_X10_close _ _ ho) zk10 vvX10_185 cdX10_close pnX10 dX10_block_33 rfl (by omega) (Nat.le_of_ble_eq_true rfl) hf rfl (fun xx σ hf T locs ls hP hL h1 h2 hl X0 => ?_) fun σ hf => ?_
    · cases hf
      exact zthrown_out C (by decide) hP hL h1 h2 X0
    refine z_lv [1, 2, 3, 0] rfl ?_
    obtain ⟨r1, hr1, hk1⟩ := Option.bind_eq_some_iff.mp hf
    refine loopC_ind (P := fun s => ZW l G 5 X (ZQ G X (zor out) (zsr out)) s 36 [(0, .ref a0_30), (1, .ref a1_30), (3, .int i3_30), (4, .ref w0_30)] []) (fun σ x1 hf hx1 => ?_) hr1
    unfold f_X10_block_L36 at hf
    try dsimp only at hf
    try dsimp only
    refine z_aload_n (q := 37) (i := 0) C 0 dX10_block_36 rfl rfl rfl ?_
    refine z_ldcS (q := 39) C 28 (by decide) rfl rfl dX10_block_37 rfl ?_
    refine z_callVi (q := 42) (As := [.ref (gS G 28)]) C (fun o ho => m_X10_isWord _ _ _ ho) zk10 vvX10_68 cdX10_isWord pnX10 dX10_block_39 rfl (by omega) (Nat.le_of_ble_eq_true rfl) hf rfl fun v7 σ hf => ?_
    refine z_ifne (q := 45) (tgt := 58) C dX10_block_42 (by decide) rfl hf (fun c42 hf => ?_) (fun c42 hf => ?_)
    · have e1 := zl_x hf hx1
      have hf := hk1
      rw [← e1] at hf
      try dsimp only at hf
      refine z_aload_n (q := 59) (i := 0) C 0 dX10_block_58 rfl rfl rfl ?_
      refine z_callVv (q := 62) (As := []) C (fun o ho => m_X10_next _ _ ho) zk10 vvX10_19 cdX10_next pnX10 dX10_block_59 rfl (by omega) (Nat.le_of_ble_eq_true rfl) hf rfl fun σ hf => ?_
      refine z_aload (q := 64) (i := 4) C 3 dX10_block_62 rfl rfl ?_
      cases hf
      exact z_areturn C rfl dX10_block_64 rfl
    · refine z_aload_n (q := 46) (i := 0) C 0 dX10_block_45 rfl rfl rfl ?_
      refine z_aload_n (q := 47) (i := 1) C 1 dX10_block_46 rfl rfl rfl ?_
      refine z_aload (q := 49) (i := 4) C 3 dX10_block_47 rfl rfl ?_
      refine z_iload_n (q := 50) (i := 3) C 2 dX10_block_49 rfl rfl rfl ?_
      refine z_iconst (q := 51) C (1 : Int32) dX10_block_50 ki_1 rfl ?_
      refine z_iadd (q := 52) C dX10_block_51 rfl ?_
      refine z_callXVv (q := 55) (As := [.ref a1_30, .ref w0_30, .int (i3_30 + (1 : Int32))]) C (fun o ho => hF _ _ _ _ _ o ho) zk10 vvX10_263 cdX10_step pnX10 dX10_block_52 rfl (by omega) (Nat.le_of_ble_eq_true rfl) hf rfl (fun xx σ hf T locs ls hP hL h1 h2 hl X0 => ?_) fun σ hf => ?_
      · have e1 := zl_x hf hx1
        have hf := hk1
        rw [← e1] at hf
        try dsimp only at hf
        cases hf
        exact zthrown_out C (by decide) hP hL h1 h2 X0
      refine z_goto (q := 36) C dX10_block_55 (by decide) ?_
      have hc1 := zl_c hf hx1
      exact hc1
  refine z_aload_n (q := 1) (i := 0) C 0 dX10_block_0 rfl rfl rfl ?_
  refine z_callVv (q := 4) (As := []) C (fun o ho => m_X10_next _ _ ho) zk10 vvX10_19 cdX10_next pnX10 dX10_block_1 rfl (by omega) (Nat.le_of_ble_eq_true rfl) hf rfl fun σ hf => ?_
  refine z_iload_n (q := 5) (i := 2) C 2 dX10_block_4 rfl rfl rfl ?_
  refine z_ifeq (q := 8) (tgt := 16) C dX10_block_5 (by decide) rfl hf (fun c5 hf => ?_) (fun c5 hf => ?_)
  · refine z_new (q := 19) C zk16 zty16 q1125 q1050 q172 dX10_block_16 hf rfl fun v2 σ hf => ?_
    refine z_dup (q := 20) C dX10_block_19 rfl rfl ?_
    refine z_aload_n (q := 21) (i := 0) C 0 dX10_block_20 rfl rfl rfl ?_
    refine z_iconst (q := 22) C (1 : Int32) dX10_block_21 ki_1 rfl ?_
    refine z_bipush (q := 24) C (99 : Int32) dX10_block_22 kb_99 rfl ?_
    refine z_callXVi (q := 27) (As := [.int (1 : Int32), .int (99 : Int32)]) C (fun o ho => m_X10_number _ _ _ _ ho) zk10 vvX10_72 cdX10_number pnX10 dX10_block_24 rfl (by omega) (Nat.le_of_ble_eq_true rfl) hf rfl (fun xx σ hf T locs ls hP hL h1 h2 hl X0 => ?_) fun v3 σ hf => ?_
    · cases hf
      exact zthrown_out C (by decide) hP hL h1 h2 X0
    refine z_callIv (q := 30) (As := [.int v3]) C (fun o ho => m_X16_init _ _ _ ho) viX10_310 pnX16 dX10_block_27 rfl (by omega) (Nat.le_of_ble_eq_true rfl) hf rfl fun σ hf => ?_
    refine z_lv [0, 1, 3] rfl ?_
    exact j30_0 a0 a1 i3 v2 σ hf
  · refine z_aload_n (q := 9) (i := 0) C 0 dX10_block_8 rfl rfl rfl ?_
    refine z_aload_n (q := 10) (i := 1) C 1 dX10_block_9 rfl rfl rfl ?_
    refine z_callXVr (q := 13) (As := [.ref a1]) C (fun o ho => m_X10_when _ _ _ ho) zk10 vvX10_305 cdX10_when pnX10 dX10_block_10 rfl (by omega) (Nat.le_of_ble_eq_true rfl) hf rfl (fun xx σ hf T locs ls hP hL h1 h2 hl X0 => ?_) fun v5 σ hf => ?_
    · cases hf
      exact zthrown_out C (by decide) hP hL h1 h2 X0
    refine z_goto (q := 30) C dX10_block_13 (by decide) ?_
    refine z_lv [0, 1, 3] rfl ?_
    exact j30_0 a0 a1 i3 v5 σ hf

noncomputable def f_X10_going_J65 (a0_65 : Nat) (a1_65 : Nat) (i3_65 : Int32) (i4_65 : Int32) (w0_65 : Int32) (w1_65 : Nat) (w2_65 : Nat) (σ : ZT) : Option ((Nat × ZT) ⊕ (Nat × ZT)) :=
  bndX (vc 10 a0_65 σ (f_X10_bridge a0_65 a1_65 σ)) (fun xx σ => some (.inl (xx, σ))) fun v9 σ =>
  (f_X18_init w1_65 w0_65 i3_65 i4_65 v9 σ).bind fun σ =>
  some (.inr (w2_65, σ))
noncomputable def f_X10_going_J46 (a0_46 : Nat) (a1_46 : Nat) (i2_46 : Int32) (i3_46 : Int32) (i4_46 : Int32) (σ : ZT) : Option ((Nat × ZT) ⊕ (Nat × ZT)) :=
  bndXv (vc 10 a0_46 σ (f_X10_word a0_46 21 σ)) (fun xx σ => some (.inl (xx, σ))) fun σ =>
  bnd2 (nwO 18 4 σ) fun v8 σ =>
  if i2_46 = 0 then
  (f_X10_going_J65 a0_46 a1_46 i3_46 i4_46 (0 : Int32) v8 v8 σ)
  else
  (f_X10_going_J65 a0_46 a1_46 i3_46 i4_46 (1 : Int32) v8 v8 σ)
noncomputable def f_X10_going (a0 : Nat) (a1 : Nat) (i2 : Int32) (σ : ZT) : Option ((Nat × ZT) ⊕ (Nat × ZT)) :=
  bndX (vc 10 a0 σ (f_X10_person a0 a1 σ)) (fun xx σ => some (.inl (xx, σ))) fun v1 σ =>
  if i2 = 0 then
  (f_X10_going_J46 a0 a1 i2 v1 (-1 : Int32) σ)
  else
  ((gI 10 1001 a0 σ).bind fun v2 =>
  bndX (vc 10 a0 σ (f_X10_person a0 a1 σ)) (fun xx σ => some (.inl (xx, σ))) fun v3 σ =>
  if v1 = v3 then
  ((gR 10 1006 a0 σ).bind fun v4 =>
  (gR 0 5 v4 σ).bind fun v5 =>
  bnd2 (vc 2 v5 σ (f_X2_at v5 (5 : Int32) v2 σ)) fun v6 σ =>
  some (.inl (v6, σ)))
  else
  (f_X10_going_J46 a0 a1 i2 v1 v3 σ))
set_option maxHeartbeats 4000000 in
theorem m_X10_going {l : Launch} {G : ZG} (a0 : Nat) (a1 : Nat) (i2 : Int32) (σ : ZT) {out : ((Nat × ZT) ⊕ (Nat × ZT))} (hf : f_X10_going a0 a1 i2 σ = some out) : ZM l G yX10_going cX10_going 6 (some (.object "SillBridges$Step")) [] 10 [.ref a0, .ref a1, .int i2] σ (zor out) (zsr out) := by
  refine ZM.of [(0, .ref a0), (1, .ref a1), (2, .int i2)] rfl (Nat.le_of_ble_eq_true rfl) fun X (C : ZC G RX10 "going" cX10_going 6 (some (.object "SillBridges$Step")) [] X 10) => ?_
  unfold f_X10_going at hf
  have j65_0 : ∀ (a0_65 : Nat) (a1_65 : Nat) (i3_65 : Int32) (i4_65 : Int32) (w0_65 : Int32) (w1_65 : Nat) (w2_65 : Nat) (σ : ZT), f_X10_going_J65 a0_65 a1_65 i3_65 i4_65 w0_65 w1_65 w2_65 σ = some out → ZW l G 6 X (ZQ G X (zor out) (zsr out)) σ 65 [(0, .ref a0_65), (1, .ref a1_65), (3, .int i3_65), (4, .int i4_65)] [.int w0_65, .ref w1_65, .ref w2_65] := by
    intro a0_65 a1_65 i3_65 i4_65 w0_65 w1_65 w2_65 σ hf
    unfold f_X10_going_J65 at hf
    refine z_iload_n (q := 66) (i := 3) C 2 dX10_going_65 rfl rfl rfl ?_
    refine z_iload (q := 68) (i := 4) C 3 dX10_going_66 rfl rfl ?_
    refine z_aload_n (q := 69) (i := 0) C 0 dX10_going_68 rfl rfl rfl ?_
    refine z_aload_n (q := 70) (i := 1) C 1 dX10_going_69 rfl rfl rfl ?_
    refine z_callXVi (q := 73) (As := [.ref a1_65]) C (fun o ho => m_X10_bridge _ _ _ ho) zk10 vvX10_303 cdX10_bridge pnX10 dX10_going_70 rfl (by decide) (Nat.le_of_ble_eq_true rfl) hf rfl (fun xx σ hf T locs ls hP hL h1 h2 hl X0 => ?_) fun v9 σ hf => ?_
    · cases hf
      exact zthrown_out C (by decide) hP hL h1 h2 X0
    refine z_callIv (q := 76) (As := [.int w0_65, .int i3_65, .int i4_65, .int v9]) C (fun o ho => m_X18_init _ _ _ _ _ _ ho) viX10_297 pnX18 dX10_going_73 rfl (by decide) (Nat.le_of_ble_eq_true rfl) hf rfl fun σ hf => ?_
    cases hf
    exact z_areturn C rfl dX10_going_76 rfl
  have j46_0 : ∀ (a0_46 : Nat) (a1_46 : Nat) (i2_46 : Int32) (i3_46 : Int32) (i4_46 : Int32) (σ : ZT), f_X10_going_J46 a0_46 a1_46 i2_46 i3_46 i4_46 σ = some out → ZW l G 6 X (ZQ G X (zor out) (zsr out)) σ 46 [(0, .ref a0_46), (1, .ref a1_46), (2, .int i2_46), (3, .int i3_46), (4, .int i4_46)] [] := by
    intro a0_46 a1_46 i2_46 i3_46 i4_46 σ hf
    unfold f_X10_going_J46 at hf
    refine z_aload_n (q := 47) (i := 0) C 0 dX10_going_46 rfl rfl rfl ?_
    refine z_ldcS (q := 49) C 21 (by decide) rfl rfl dX10_going_47 rfl ?_
    refine z_callXVv (q := 52) (As := [.ref (gS G 21)]) C (fun o ho => m_X10_word _ _ _ ho) zk10 vvX10_202 cdX10_word pnX10 dX10_going_49 rfl (by decide) (Nat.le_of_ble_eq_true rfl) hf rfl (fun xx σ hf T locs ls hP hL h1 h2 hl X0 => ?_) fun σ hf => ?_
    · cases hf
      exact zthrown_out C (by decide) hP hL h1 h2 X0
    refine z_new (q := 55) C zk18 zty18 q1135 q1136 q174 dX10_going_52 hf rfl fun v8 σ hf => ?_
    refine z_dup (q := 56) C dX10_going_55 rfl rfl ?_
    refine z_iload_n (q := 57) (i := 2) C 2 dX10_going_56 rfl rfl rfl ?_
    refine z_ifeq (q := 60) (tgt := 64) C dX10_going_57 (by decide) rfl hf (fun c57 hf => ?_) (fun c57 hf => ?_)
    · refine z_iconst (q := 65) C (0 : Int32) dX10_going_64 ki_0 rfl ?_
      refine z_lv [0, 1, 3, 4] rfl ?_
      exact j65_0 a0_46 a1_46 i3_46 i4_46 (0 : Int32) v8 v8 σ hf
    · refine z_iconst (q := 61) C (1 : Int32) dX10_going_60 ki_1 rfl ?_
      refine z_goto (q := 65) C dX10_going_61 (by decide) ?_
      refine z_lv [0, 1, 3, 4] rfl ?_
      exact j65_0 a0_46 a1_46 i3_46 i4_46 (1 : Int32) v8 v8 σ hf
  refine z_aload_n (q := 1) (i := 0) C 0 dX10_going_0 rfl rfl rfl ?_
  refine z_aload_n (q := 2) (i := 1) C 1 dX10_going_1 rfl rfl rfl ?_
  refine z_callXVi (q := 5) (As := [.ref a1]) C (fun o ho => m_X10_person _ _ _ ho) zk10 vvX10_291 cdX10_person pnX10 dX10_going_2 rfl (by decide) (Nat.le_of_ble_eq_true rfl) hf rfl (fun xx σ hf T locs ls hP hL h1 h2 hl X0 => ?_) fun v1 σ hf => ?_
  · cases hf
    exact zthrown_out C (by decide) hP hL h1 h2 X0
  refine z_istore_n (q := 6) (i := 3) (lv' := [(3, .int v1), (0, .ref a0), (1, .ref a1), (2, .int i2)]) C dX10_going_5 rfl (by decide) rfl rfl ?_
  refine z_iconst (q := 7) C (-1 : Int32) dX10_going_6 ki_m1 rfl ?_
  refine z_istore (q := 9) (i := 4) (lv' := [(4, .int (-1 : Int32)), (3, .int v1), (0, .ref a0), (1, .ref a1), (2, .int i2)]) C dX10_going_7 (by decide) rfl rfl ?_
  refine z_iload_n (q := 10) (i := 2) C 4 dX10_going_9 rfl rfl rfl ?_
  refine z_ifeq (q := 13) (tgt := 46) C dX10_going_10 (by decide) rfl hf (fun c10 hf => ?_) (fun c10 hf => ?_)
  · refine z_lv [2, 3, 4, 1, 0] rfl ?_
    exact j46_0 a0 a1 i2 v1 (-1 : Int32) σ hf
  · refine z_aload_n (q := 14) (i := 0) C 2 dX10_going_13 rfl rfl rfl ?_
    refine z_getI (q := 17) C flX10_29 dX10_going_14 hf rfl fun v2 hf => ?_
    refine z_istore (q := 19) (i := 5) (lv' := [(5, .int v2), (4, .int (-1 : Int32)), (3, .int v1), (0, .ref a0), (1, .ref a1), (2, .int i2)]) C dX10_going_17 (by decide) rfl rfl ?_
    refine z_aload_n (q := 20) (i := 0) C 3 dX10_going_19 rfl rfl rfl ?_
    refine z_aload_n (q := 21) (i := 1) C 4 dX10_going_20 rfl rfl rfl ?_
    refine z_callXVi (q := 24) (As := [.ref a1]) C (fun o ho => m_X10_person _ _ _ ho) zk10 vvX10_291 cdX10_person pnX10 dX10_going_21 rfl (by decide) (Nat.le_of_ble_eq_true rfl) hf rfl (fun xx σ hf T locs ls hP hL h1 h2 hl X0 => ?_) fun v3 σ hf => ?_
    · cases hf
      exact zthrown_out C (by decide) hP hL h1 h2 X0
    refine z_istore (q := 26) (i := 4) (lv' := [(4, .int v3), (5, .int v2), (3, .int v1), (0, .ref a0), (1, .ref a1), (2, .int i2)]) C dX10_going_24 (by decide) rfl rfl ?_
    refine z_iload_n (q := 27) (i := 3) C 2 dX10_going_26 rfl rfl rfl ?_
    refine z_iload (q := 29) (i := 4) C 0 dX10_going_27 rfl rfl ?_
    refine z_icmpne (q := 32) (tgt := 46) C dX10_going_29 (by decide) rfl hf (fun c29 hf => ?_) (fun c29 hf => ?_)
    · refine z_lv [3, 4, 5, 2, 0] rfl ?_
      exact j46_0 a0 a1 i2 v1 v3 σ hf
    · refine z_aload_n (q := 33) (i := 0) C 3 dX10_going_32 rfl rfl rfl ?_
      refine z_getR (q := 36) C flX10_3 dX10_going_33 hf rfl fun v4 hf => ?_
      refine z_getR (q := 39) C flX10_55 dX10_going_36 hf rfl fun v5 hf => ?_
      refine z_iconst (q := 40) C (5 : Int32) dX10_going_39 ki_5 rfl ?_
      refine z_iload (q := 42) (i := 5) C 1 dX10_going_40 rfl rfl ?_
      refine z_callVr (q := 45) (As := [.int (5 : Int32), .int v2]) C (fun o ho => m_X2_at _ _ _ _ ho) zk2 vvX10_59 cdX2_at pnX2 dX10_going_42 rfl (by decide) (Nat.le_of_ble_eq_true rfl) hf rfl fun v6 σ hf => ?_
      cases hf
      exact z_athrow C dX10_going_45 (by decide) rfl

noncomputable def f_X10_load (a0 : Nat) (a1 : Nat) (σ : ZT) : Option ((Nat × ZT) ⊕ (Int32 × ZT)) :=
  bndX (vc 10 a0 σ (f_X10_name a0 σ)) (fun xx σ => some (.inl (xx, σ))) fun v1 σ =>
  bnd2 (vc 6 a1 σ (f_X6_loadNamed a1 v1 σ)) fun v2 σ =>
  bndX (vc 10 a0 σ (f_X10_known a0 v2 σ)) (fun xx σ => some (.inl (xx, σ))) fun v3 σ =>
  some (.inr (v3, σ))
set_option maxHeartbeats 4000000 in
theorem m_X10_load {l : Launch} {G : ZG} (a0 : Nat) (a1 : Nat) (σ : ZT) {out : ((Nat × ZT) ⊕ (Int32 × ZT))} (hf : f_X10_load a0 a1 σ = some out) : ZM l G yX10_load cX10_load 2 (some .int) [] 9 [.ref a0, .ref a1] σ (zoi out) (zsi out) := by
  refine ZM.of [(0, .ref a0), (1, .ref a1)] rfl (Nat.le_of_ble_eq_true rfl) fun X (C : ZC G RX10 "load" cX10_load 2 (some .int) [] X 9) => ?_
  unfold f_X10_load at hf
  refine z_aload_n (q := 1) (i := 0) C 0 dX10_load_0 rfl rfl rfl ?_
  refine z_aload_n (q := 2) (i := 1) C 1 dX10_load_1 rfl rfl rfl ?_
  refine z_aload_n (q := 3) (i := 0) C 0 dX10_load_2 rfl rfl rfl ?_
  refine z_callXVl (q := 6) (As := []) C (fun o ho => m_X10_name _ _ ho) zk10 vvX10_142 cdX10_name pnX10 dX10_load_3 rfl (by decide) (Nat.le_of_ble_eq_true rfl) hf rfl (fun xx σ hf T locs ls hP hL h1 h2 hl X0 => ?_) fun v1 σ hf => ?_
  · cases hf
    exact zthrown_out C (by decide) hP hL h1 h2 X0
  refine z_callVi (q := 9) (As := [.long v1]) C (fun o ho => m_X6_loadNamed _ _ _ ho) zk6 vvX10_166 cdX6_loadNamed pnX6 dX10_load_6 rfl (by decide) (Nat.le_of_ble_eq_true rfl) hf rfl fun v2 σ hf => ?_
  refine z_callXVi (q := 12) (As := [.int v2]) C (fun o ho => m_X10_known _ _ _ ho) zk10 vvX10_156 cdX10_known pnX10 dX10_load_9 rfl (by decide) (Nat.le_of_ble_eq_true rfl) hf rfl (fun xx σ hf T locs ls hP hL h1 h2 hl X0 => ?_) fun v3 σ hf => ?_
  · cases hf
    exact zthrown_out C (by decide) hP hL h1 h2 X0
  cases hf
  exact z_ireturn C rfl dX10_load_12 rfl

noncomputable def f_X10_plain_J42 (a0_42 : Nat) (a1_42 : Nat) (i3_42 : Int32) (σ : ZT) : Option ((Nat × ZT) ⊕ (Nat × ZT)) :=
  bndX (vc 10 a0_42 σ (f_X10_going a0_42 a1_42 i3_42 σ)) (fun xx σ => some (.inl (xx, σ))) fun v15 σ =>
  some (.inr (v15, σ))
noncomputable def f_X10_plain_J108 (w0_108 : Nat) (σ : ZT) : Option ((Nat × ZT) ⊕ (Nat × ZT)) :=
  some (.inr (w0_108, σ))
noncomputable def f_X10_plain (a0 : Nat) (a1 : Nat) (σ : ZT) : Option ((Nat × ZT) ⊕ (Nat × ZT)) :=
  bnd2 (vc 10 a0 σ (f_X10_isWord a0 19 σ)) fun v1 σ =>
  bnd2 (vc 10 a0 σ (f_X10_isWord a0 20 σ)) fun v2 σ =>
  bnd2 (vc 10 a0 σ (f_X10_isWord a0 22 σ)) fun v3 σ =>
  bnd2 (vc 10 a0 σ (f_X10_isWord a0 23 σ)) fun v4 σ =>
  (vc 10 a0 σ (f_X10_next a0 σ)).bind fun σ =>
  if v1 = 0 then
  (if v2 = 0 then
  (if v3 = 0 then
  (if v4 = 0 then
  (bnd2 (nwO 19 0 σ) fun v6 σ =>
  (f_X19_init v6 σ).bind fun σ =>
  f_X10_plain_J108 v6 σ)
  else
  (bnd2 (nwO 18 4 σ) fun v8 σ =>
  bndX (vc 10 a0 σ (f_X10_person a0 a1 σ)) (fun xx σ => some (.inl (xx, σ))) fun v9 σ =>
  (f_X18_init v8 (3 : Int32) v9 (-1 : Int32) (-1 : Int32) σ).bind fun σ =>
  f_X10_plain_J108 v8 σ))
  else
  (bndX (vc 10 a0 σ (f_X10_person a0 a1 σ)) (fun xx σ => some (.inl (xx, σ))) fun v11 σ =>
  bnd2 (nwO 18 4 σ) fun v12 σ =>
  bndX (vc 10 a0 σ (f_X10_load a0 a1 σ)) (fun xx σ => some (.inl (xx, σ))) fun v13 σ =>
  (f_X18_init v12 (2 : Int32) v11 (-1 : Int32) v13 σ).bind fun σ =>
  some (.inr (v12, σ))))
  else
  (f_X10_plain_J42 a0 a1 v2 σ))
  else
  (f_X10_plain_J42 a0 a1 v2 σ)
set_option maxHeartbeats 4000000 in
theorem m_X10_plain {l : Launch} {G : ZG} (a0 : Nat) (a1 : Nat) (σ : ZT) {out : ((Nat × ZT) ⊕ (Nat × ZT))} (hf : f_X10_plain a0 a1 σ = some out) : ZM l G yX10_plain cX10_plain 7 (some (.object "SillBridges$Step")) [] 11 [.ref a0, .ref a1] σ (zor out) (zsr out) := by
  refine ZM.of [(0, .ref a0), (1, .ref a1)] rfl (Nat.le_of_ble_eq_true rfl) fun X (C : ZC G RX10 "plain" cX10_plain 7 (some (.object "SillBridges$Step")) [] X 11) => ?_
  unfold f_X10_plain at hf
  have j108_0 : ∀ (w0_108 : Nat) (σ : ZT), f_X10_plain_J108 w0_108 σ = some out → ZW l G 7 X (ZQ G X (zor out) (zsr out)) σ 108 [] [.ref w0_108] := by
    intro w0_108 σ hf
    unfold f_X10_plain_J108 at hf
    cases hf
    exact z_areturn C rfl dX10_plain_108 rfl
  have j42_0 : ∀ (a0_42 : Nat) (a1_42 : Nat) (i3_42 : Int32) (σ : ZT), f_X10_plain_J42 a0_42 a1_42 i3_42 σ = some out → ZW l G 7 X (ZQ G X (zor out) (zsr out)) σ 42 [(0, .ref a0_42), (1, .ref a1_42), (3, .int i3_42)] [] := by
    intro a0_42 a1_42 i3_42 σ hf
    unfold f_X10_plain_J42 at hf
    refine z_aload_n (q := 43) (i := 0) C 0 dX10_plain_42 rfl rfl rfl ?_
    refine z_aload_n (q := 44) (i := 1) C 1 dX10_plain_43 rfl rfl rfl ?_
    refine z_iload_n (q := 45) (i := 3) C 2 dX10_plain_44 rfl rfl rfl ?_
    refine z_callXVr (q := 48) (As := [.ref a1_42, .int i3_42]) C (fun o ho => m_X10_going _ _ _ _ ho) zk10 vvX10_287 cdX10_going pnX10 dX10_plain_45 rfl (by decide) (Nat.le_of_ble_eq_true rfl) hf rfl (fun xx σ hf T locs ls hP hL h1 h2 hl X0 => ?_) fun v15 σ hf => ?_
    · cases hf
      exact zthrown_out C (by decide) hP hL h1 h2 X0
    cases hf
    exact z_areturn C rfl dX10_plain_48 rfl
  refine z_aload_n (q := 1) (i := 0) C 0 dX10_plain_0 rfl rfl rfl ?_
  refine z_ldcS (q := 3) C 19 (by decide) rfl rfl dX10_plain_1 rfl ?_
  refine z_callVi (q := 6) (As := [.ref (gS G 19)]) C (fun o ho => m_X10_isWord _ _ _ ho) zk10 vvX10_68 cdX10_isWord pnX10 dX10_plain_3 rfl (by decide) (Nat.le_of_ble_eq_true rfl) hf rfl fun v1 σ hf => ?_
  refine z_istore_n (q := 7) (i := 2) (lv' := [(2, .int v1), (0, .ref a0), (1, .ref a1)]) C dX10_plain_6 rfl (by decide) rfl rfl ?_
  refine z_aload_n (q := 8) (i := 0) C 1 dX10_plain_7 rfl rfl rfl ?_
  refine z_ldcS (q := 10) C 20 (by decide) rfl rfl dX10_plain_8 rfl ?_
  refine z_callVi (q := 13) (As := [.ref (gS G 20)]) C (fun o ho => m_X10_isWord _ _ _ ho) zk10 vvX10_68 cdX10_isWord pnX10 dX10_plain_10 rfl (by decide) (Nat.le_of_ble_eq_true rfl) hf rfl fun v2 σ hf => ?_
  refine z_istore_n (q := 14) (i := 3) (lv' := [(3, .int v2), (2, .int v1), (0, .ref a0), (1, .ref a1)]) C dX10_plain_13 rfl (by decide) rfl rfl ?_
  refine z_aload_n (q := 15) (i := 0) C 2 dX10_plain_14 rfl rfl rfl ?_
  refine z_ldcS (q := 17) C 22 (by decide) rfl rfl dX10_plain_15 rfl ?_
  refine z_callVi (q := 20) (As := [.ref (gS G 22)]) C (fun o ho => m_X10_isWord _ _ _ ho) zk10 vvX10_68 cdX10_isWord pnX10 dX10_plain_17 rfl (by decide) (Nat.le_of_ble_eq_true rfl) hf rfl fun v3 σ hf => ?_
  refine z_istore (q := 22) (i := 4) (lv' := [(4, .int v3), (3, .int v2), (2, .int v1), (0, .ref a0), (1, .ref a1)]) C dX10_plain_20 (by decide) rfl rfl ?_
  refine z_aload_n (q := 23) (i := 0) C 3 dX10_plain_22 rfl rfl rfl ?_
  refine z_ldcS (q := 25) C 23 (by decide) rfl rfl dX10_plain_23 rfl ?_
  refine z_callVi (q := 28) (As := [.ref (gS G 23)]) C (fun o ho => m_X10_isWord _ _ _ ho) zk10 vvX10_68 cdX10_isWord pnX10 dX10_plain_25 rfl (by decide) (Nat.le_of_ble_eq_true rfl) hf rfl fun v4 σ hf => ?_
  refine z_istore (q := 30) (i := 5) (lv' := [(5, .int v4), (4, .int v3), (3, .int v2), (2, .int v1), (0, .ref a0), (1, .ref a1)]) C dX10_plain_28 (by decide) rfl rfl ?_
  refine z_aload_n (q := 31) (i := 0) C 4 dX10_plain_30 rfl rfl rfl ?_
  refine z_callVv (q := 34) (As := []) C (fun o ho => m_X10_next _ _ ho) zk10 vvX10_19 cdX10_next pnX10 dX10_plain_31 rfl (by decide) (Nat.le_of_ble_eq_true rfl) hf rfl fun σ hf => ?_
  refine z_iload_n (q := 35) (i := 2) C 3 dX10_plain_34 rfl rfl rfl ?_
  refine z_ifne (q := 38) (tgt := 42) C dX10_plain_35 (by decide) rfl hf (fun c35 hf => ?_) (fun c35 hf => ?_)
  · refine z_lv [4, 5, 2] rfl ?_
    exact j42_0 a0 a1 v2 σ hf
  · refine z_iload_n (q := 39) (i := 3) C 2 dX10_plain_38 rfl rfl rfl ?_
    refine z_ifeq (q := 42) (tgt := 49) C dX10_plain_39 (by decide) rfl hf (fun c39 hf => ?_) (fun c39 hf => ?_)
    · refine z_iload (q := 51) (i := 4) C 1 dX10_plain_49 rfl rfl ?_
      refine z_ifeq (q := 54) (tgt := 78) C dX10_plain_51 (by decide) rfl hf (fun c51 hf => ?_) (fun c51 hf => ?_)
      · refine z_iload (q := 80) (i := 5) C 0 dX10_plain_78 rfl rfl ?_
        refine z_ifeq (q := 83) (tgt := 101) C dX10_plain_80 (by decide) rfl hf (fun c80 hf => ?_) (fun c80 hf => ?_)
        · refine z_new (q := 104) C zk19 zty19 q1165 q1166 q175 dX10_plain_101 hf rfl fun v6 σ hf => ?_
          refine z_dup (q := 105) C dX10_plain_104 rfl rfl ?_
          refine z_callIv (q := 108) (As := []) C (fun o ho => m_X19_init _ _ ho) viX10_302 pnX19 dX10_plain_105 rfl (by decide) (Nat.le_of_ble_eq_true rfl) hf rfl fun σ hf => ?_
          refine z_lv [] rfl ?_
          exact j108_0 v6 σ hf
        · refine z_new (q := 86) C zk18 zty18 q1135 q1136 q174 dX10_plain_83 hf rfl fun v8 σ hf => ?_
          refine z_dup (q := 87) C dX10_plain_86 rfl rfl ?_
          refine z_iconst (q := 88) C (3 : Int32) dX10_plain_87 ki_3 rfl ?_
          refine z_aload_n (q := 89) (i := 0) C 4 dX10_plain_88 rfl rfl rfl ?_
          refine z_aload_n (q := 90) (i := 1) C 5 dX10_plain_89 rfl rfl rfl ?_
          refine z_callXVi (q := 93) (As := [.ref a1]) C (fun o ho => m_X10_person _ _ _ ho) zk10 vvX10_291 cdX10_person pnX10 dX10_plain_90 rfl (by decide) (Nat.le_of_ble_eq_true rfl) hf rfl (fun xx σ hf T locs ls hP hL h1 h2 hl X0 => ?_) fun v9 σ hf => ?_
          · cases hf
            exact zthrown_out C (by decide) hP hL h1 h2 X0
          refine z_iconst (q := 94) C (-1 : Int32) dX10_plain_93 ki_m1 rfl ?_
          refine z_iconst (q := 95) C (-1 : Int32) dX10_plain_94 ki_m1 rfl ?_
          refine z_callIv (q := 98) (As := [.int (3 : Int32), .int v9, .int (-1 : Int32), .int (-1 : Int32)]) C (fun o ho => m_X18_init _ _ _ _ _ _ ho) viX10_297 pnX18 dX10_plain_95 rfl (by decide) (Nat.le_of_ble_eq_true rfl) hf rfl fun σ hf => ?_
          refine z_goto (q := 108) C dX10_plain_98 (by decide) ?_
          refine z_lv [] rfl ?_
          exact j108_0 v8 σ hf
      · refine z_aload_n (q := 55) (i := 0) C 4 dX10_plain_54 rfl rfl rfl ?_
        refine z_aload_n (q := 56) (i := 1) C 5 dX10_plain_55 rfl rfl rfl ?_
        refine z_callXVi (q := 59) (As := [.ref a1]) C (fun o ho => m_X10_person _ _ _ ho) zk10 vvX10_291 cdX10_person pnX10 dX10_plain_56 rfl (by decide) (Nat.le_of_ble_eq_true rfl) hf rfl (fun xx σ hf T locs ls hP hL h1 h2 hl X0 => ?_) fun v11 σ hf => ?_
        · cases hf
          exact zthrown_out C (by decide) hP hL h1 h2 X0
        refine z_istore (q := 61) (i := 6) (lv' := [(6, .int v11), (5, .int v4), (4, .int v3), (3, .int v2), (2, .int v1), (0, .ref a0), (1, .ref a1)]) C dX10_plain_59 (by decide) rfl rfl ?_
        refine z_new (q := 64) C zk18 zty18 q1135 q1136 q174 dX10_plain_61 hf rfl fun v12 σ hf => ?_
        refine z_dup (q := 65) C dX10_plain_64 rfl rfl ?_
        refine z_iconst (q := 66) C (2 : Int32) dX10_plain_65 ki_2 rfl ?_
        refine z_iload (q := 68) (i := 6) C 0 dX10_plain_66 rfl rfl ?_
        refine z_iconst (q := 69) C (-1 : Int32) dX10_plain_68 ki_m1 rfl ?_
        refine z_aload_n (q := 70) (i := 0) C 5 dX10_plain_69 rfl rfl rfl ?_
        refine z_aload_n (q := 71) (i := 1) C 6 dX10_plain_70 rfl rfl rfl ?_
        refine z_callXVi (q := 74) (As := [.ref a1]) C (fun o ho => m_X10_load _ _ _ ho) zk10 vvX10_295 cdX10_load pnX10 dX10_plain_71 rfl (by decide) (Nat.le_of_ble_eq_true rfl) hf rfl (fun xx σ hf T locs ls hP hL h1 h2 hl X0 => ?_) fun v13 σ hf => ?_
        · cases hf
          exact zthrown_out C (by decide) hP hL h1 h2 X0
        refine z_callIv (q := 77) (As := [.int (2 : Int32), .int v11, .int (-1 : Int32), .int v13]) C (fun o ho => m_X18_init _ _ _ _ _ _ ho) viX10_297 pnX18 dX10_plain_74 rfl (by decide) (Nat.le_of_ble_eq_true rfl) hf rfl fun σ hf => ?_
        cases hf
        exact z_areturn C rfl dX10_plain_77 rfl
    · refine z_lv [4, 5, 2] rfl ?_
      exact j42_0 a0 a1 v2 σ hf

noncomputable def f_X10_step_J130 (F : Nat → Nat → Nat → Int32 → ZT → Option ((Nat × ZT) ⊕ ZT)) (a0_130 : Nat) (a2_130 : Nat) (w0_130 : Nat) (σ : ZT) : Option ((Nat × ZT) ⊕ ZT) :=
  bndXv (vc 10 a0_130 σ (f_X10_close a0_130 σ)) (fun xx σ => some (.inl (xx, σ))) fun σ =>
  (vc2 a2_130 σ (f_X15_add a2_130 w0_130 σ)).bind fun σ =>
  some (.inr σ)
noncomputable def f_X10_step_J99 (F : Nat → Nat → Nat → Int32 → ZT → Option ((Nat × ZT) ⊕ ZT)) (a0_99 : Nat) (a1_99 : Nat) (a2_99 : Nat) (i3_99 : Int32) (i4_99 : Int32) (i5_99 : Int32) (σ : ZT) : Option ((Nat × ZT) ⊕ ZT) :=
  (gI 10 1005 a0_99 σ).bind fun v14 =>
  (pI 10 1005 a0_99 (v14 + (1 : Int32)) σ).bind fun σ =>
  if i5_99 = 0 then
  (bndX (vc 10 a0_99 σ (f_X10_plain a0_99 a1_99 σ)) (fun xx σ => some (.inl (xx, σ))) fun v15 σ =>
  f_X10_step_J130 F a0_99 a2_99 v15 σ)
  else
  (bndX (vc 10 a0_99 σ (f_X10_block F a0_99 a1_99 i4_99 i3_99 σ)) (fun xx σ => some (.inl (xx, σ))) fun v16 σ =>
  f_X10_step_J130 F a0_99 a2_99 v16 σ)
noncomputable def f_X10_step_J46 (F : Nat → Nat → Nat → Int32 → ZT → Option ((Nat × ZT) ⊕ ZT)) (a0_46 : Nat) (a1_46 : Nat) (a2_46 : Nat) (i3_46 : Int32) (i4_46 : Int32) (i5_46 : Int32) (σ : ZT) : Option ((Nat × ZT) ⊕ ZT) :=
  (gI 10 1005 a0_46 σ).bind fun v5 =>
  if v5 = (30 : Int32) then
  ((gR 10 1006 a0_46 σ).bind fun v10 =>
  (gR 0 5 v10 σ).bind fun v11 =>
  (gI 10 1001 a0_46 σ).bind fun v12 =>
  bnd2 (vc 2 v11 σ (f_X2_at v11 (6 : Int32) v12 σ)) fun v13 σ =>
  some (.inl (v13, σ)))
  else
  (if i5_46 = 0 then
  (f_X10_step_J99 F a0_46 a1_46 a2_46 i3_46 i4_46 i5_46 σ)
  else
  (if i3_46 = (3 : Int32) then
  ((gR 10 1006 a0_46 σ).bind fun v6 =>
  (gR 0 5 v6 σ).bind fun v7 =>
  (gI 10 1001 a0_46 σ).bind fun v8 =>
  bnd2 (vc 2 v7 σ (f_X2_at v7 (7 : Int32) v8 σ)) fun v9 σ =>
  some (.inl (v9, σ)))
  else
  (f_X10_step_J99 F a0_46 a1_46 a2_46 i3_46 i4_46 i5_46 σ)))
noncomputable def f_X10_step_J27 (F : Nat → Nat → Nat → Int32 → ZT → Option ((Nat × ZT) ⊕ ZT)) (a0_27 : Nat) (a1_27 : Nat) (a2_27 : Nat) (i3_27 : Int32) (i4_27 : Int32) (w0_27 : Int32) (σ : ZT) : Option ((Nat × ZT) ⊕ ZT) :=
  bnd2 (vc 10 a0_27 σ (f_X10_isPlain a0_27 σ)) fun v3 σ =>
  if v3 = 0 then
  (if w0_27 = 0 then
  (bnd2 (vc 10 a0_27 σ (f_X10_wrong a0_27 σ)) fun v4 σ =>
  some (.inl (v4, σ)))
  else
  (f_X10_step_J46 F a0_27 a1_27 a2_27 i3_27 i4_27 w0_27 σ))
  else
  (f_X10_step_J46 F a0_27 a1_27 a2_27 i3_27 i4_27 w0_27 σ)
noncomputable def f_X10_step_J22 (F : Nat → Nat → Nat → Int32 → ZT → Option ((Nat × ZT) ⊕ ZT)) (a0_22 : Nat) (a1_22 : Nat) (a2_22 : Nat) (i3_22 : Int32) (i4_22 : Int32) (σ : ZT) : Option ((Nat × ZT) ⊕ ZT) :=
  f_X10_step_J27 F a0_22 a1_22 a2_22 i3_22 i4_22 (1 : Int32) σ
noncomputable def f_X10_step (F : Nat → Nat → Nat → Int32 → ZT → Option ((Nat × ZT) ⊕ ZT)) (a0 : Nat) (a1 : Nat) (a2 : Nat) (i3 : Int32) (σ : ZT) : Option ((Nat × ZT) ⊕ ZT) :=
  bnd2 (vc 10 a0 σ (f_X10_isWord a0 24 σ)) fun v1 σ =>
  if v1 = 0 then
  (bnd2 (vc 10 a0 σ (f_X10_isWord a0 27 σ)) fun v2 σ =>
  if v2 = 0 then
  (f_X10_step_J27 F a0 a1 a2 i3 v1 (0 : Int32) σ)
  else
  (f_X10_step_J22 F a0 a1 a2 i3 v1 σ))
  else
  (f_X10_step_J22 F a0 a1 a2 i3 v1 σ)
set_option maxHeartbeats 4000000 in
theorem m_X10_step {l : Launch} {G : ZG} {d0 : Nat} (F : Nat → Nat → Nat → Int32 → ZT → Option ((Nat × ZT) ⊕ ZT)) (hF : ∀ (a : Nat) (p0 : Nat) (p1 : Nat) (p2 : Int32) (σ : ZT) (o : (Nat × ZT) ⊕ ZT), F a p0 p1 p2 σ = some o → ZM l G yX10_step cX10_step 7 none [] d0 [.ref a, .ref p0, .ref p1, .int p2] σ (zov o) (zsv o)) (a0 : Nat) (a1 : Nat) (a2 : Nat) (i3 : Int32) (σ : ZT) {out : ((Nat × ZT) ⊕ ZT)} (hf : f_X10_step F a0 a1 a2 i3 σ = some out) : ZM l G yX10_step cX10_step 7 none [] (d0 + 15) [.ref a0, .ref a1, .ref a2, .int i3] σ (zov out) (zsv out) := by
  refine ZM.of [(0, .ref a0), (1, .ref a1), (2, .ref a2), (3, .int i3)] rfl (Nat.le_of_ble_eq_true rfl) fun X (C : ZC G RX10 "step" cX10_step 7 none [] X (d0 + 15)) => ?_
  unfold f_X10_step at hf
  have j130_0 : ∀ (a0_130 : Nat) (a2_130 : Nat) (w0_130 : Nat) (σ : ZT), f_X10_step_J130 F a0_130 a2_130 w0_130 σ = some out → ZW l G 7 X (ZQ G X (zov out) (zsv out)) σ 130 [(0, .ref a0_130), (2, .ref a2_130)] [.ref w0_130] := by
    intro a0_130 a2_130 w0_130 σ hf
    unfold f_X10_step_J130 at hf
    refine z_astore (q := 132) (i := 6) (lv' := [(6, .ref w0_130), (0, .ref a0_130), (2, .ref a2_130)]) C dX10_step_130 (by decide) rfl rfl ?_
    refine z_aload_n (q := 133) (i := 0) C 1 dX10_step_132 rfl rfl rfl ?_
    refine z_callXVv (q := 136) (As := []) C (fun o ho => m_X10_close _ _ ho) zk10 vvX10_185 cdX10_close pnX10 dX10_step_133 rfl (by omega) (Nat.le_of_ble_eq_true rfl) hf rfl (fun xx σ hf T locs ls hP hL h1 h2 hl X0 => ?_) fun σ hf => ?_
    · cases hf
      exact zthrown_out C (by decide) hP hL h1 h2 X0
    refine z_aload_n (q := 137) (i := 2) C 2 dX10_step_136 rfl rfl rfl ?_
    refine z_aload (q := 139) (i := 6) C 0 dX10_step_137 rfl rfl ?_
    refine z_call2v (q := 142) (As := [.ref w0_130]) C (fun o ho => m_X15_add _ _ _ ho) v2X10_281 cdX15_add pnX15 dX10_step_139 rfl (by omega) (Nat.le_of_ble_eq_true rfl) hf rfl fun σ hf => ?_
    cases hf
    exact z_return C rfl dX10_step_142 rfl
  have j99_0 : ∀ (a0_99 : Nat) (a1_99 : Nat) (a2_99 : Nat) (i3_99 : Int32) (i4_99 : Int32) (i5_99 : Int32) (σ : ZT), f_X10_step_J99 F a0_99 a1_99 a2_99 i3_99 i4_99 i5_99 σ = some out → ZW l G 7 X (ZQ G X (zov out) (zsv out)) σ 99 [(0, .ref a0_99), (1, .ref a1_99), (2, .ref a2_99), (3, .int i3_99), (4, .int i4_99), (5, .int i5_99)] [] := by
    intro a0_99 a1_99 a2_99 i3_99 i4_99 i5_99 σ hf
    unfold f_X10_step_J99 at hf
    refine z_aload_n (q := 100) (i := 0) C 0 dX10_step_99 rfl rfl rfl ?_
    refine z_dup (q := 101) C dX10_step_100 rfl rfl ?_
    refine z_getI (q := 104) C flX10_270 dX10_step_101 hf rfl fun v14 hf => ?_
    refine z_iconst (q := 105) C (1 : Int32) dX10_step_104 ki_1 rfl ?_
    refine z_iadd (q := 106) C dX10_step_105 rfl ?_
    refine z_putI (q := 109) C puX10_270 dX10_step_106 hf rfl fun σ hf => ?_
    refine z_iload (q := 111) (i := 5) C 5 dX10_step_109 rfl rfl ?_
    refine z_ifeq (q := 114) (tgt := 125) C dX10_step_111 (by decide) rfl hf (fun c111 hf => ?_) (fun c111 hf => ?_)
    · refine z_aload_n (q := 126) (i := 0) C 0 dX10_step_125 rfl rfl rfl ?_
      refine z_aload_n (q := 127) (i := 1) C 1 dX10_step_126 rfl rfl rfl ?_
      refine z_callXVr (q := 130) (As := [.ref a1_99]) C (fun o ho => m_X10_plain _ _ _ ho) zk10 vvX10_277 cdX10_plain pnX10 dX10_step_127 rfl (by omega) (Nat.le_of_ble_eq_true rfl) hf rfl (fun xx σ hf T locs ls hP hL h1 h2 hl X0 => ?_) fun v15 σ hf => ?_
      · cases hf
        exact zthrown_out C (by decide) hP hL h1 h2 X0
      refine z_lv [0, 2] rfl ?_
      exact j130_0 a0_99 a2_99 v15 σ hf
    · refine z_aload_n (q := 115) (i := 0) C 0 dX10_step_114 rfl rfl rfl ?_
      refine z_aload_n (q := 116) (i := 1) C 1 dX10_step_115 rfl rfl rfl ?_
      refine z_iload (q := 118) (i := 4) C 4 dX10_step_116 rfl rfl ?_
      refine z_iload_n (q := 119) (i := 3) C 3 dX10_step_118 rfl rfl rfl ?_
      refine z_callXVr (q := 122) (As := [.ref a1_99, .int i4_99, .int i3_99]) C (fun o ho => m_X10_block F hF _ _ _ _ _ ho) zk10 vvX10_273 cdX10_block pnX10 dX10_step_119 rfl (by omega) (Nat.le_of_ble_eq_true rfl) hf rfl (fun xx σ hf T locs ls hP hL h1 h2 hl X0 => ?_) fun v16 σ hf => ?_
      · cases hf
        exact zthrown_out C (by decide) hP hL h1 h2 X0
      refine z_goto (q := 130) C dX10_step_122 (by decide) ?_
      refine z_lv [0, 2] rfl ?_
      exact j130_0 a0_99 a2_99 v16 σ hf
  have j46_0 : ∀ (a0_46 : Nat) (a1_46 : Nat) (a2_46 : Nat) (i3_46 : Int32) (i4_46 : Int32) (i5_46 : Int32) (σ : ZT), f_X10_step_J46 F a0_46 a1_46 a2_46 i3_46 i4_46 i5_46 σ = some out → ZW l G 7 X (ZQ G X (zov out) (zsv out)) σ 46 [(0, .ref a0_46), (1, .ref a1_46), (2, .ref a2_46), (3, .int i3_46), (4, .int i4_46), (5, .int i5_46)] [] := by
    intro a0_46 a1_46 a2_46 i3_46 i4_46 i5_46 σ hf
    unfold f_X10_step_J46 at hf
    refine z_aload_n (q := 47) (i := 0) C 0 dX10_step_46 rfl rfl rfl ?_
    refine z_getI (q := 50) C flX10_270 dX10_step_47 hf rfl fun v5 hf => ?_
    refine z_bipush (q := 52) C (30 : Int32) dX10_step_50 kb_30 rfl ?_
    refine z_icmpne (q := 55) (tgt := 72) C dX10_step_52 (by decide) rfl hf (fun c52 hf => ?_) (fun c52 hf => ?_)
    · refine z_iload (q := 74) (i := 5) C 5 dX10_step_72 rfl rfl ?_
      refine z_ifeq (q := 77) (tgt := 99) C dX10_step_74 (by decide) rfl hf (fun c74 hf => ?_) (fun c74 hf => ?_)
      · exact j99_0 a0_46 a1_46 a2_46 i3_46 i4_46 i5_46 σ hf
      · refine z_iload_n (q := 78) (i := 3) C 3 dX10_step_77 rfl rfl rfl ?_
        refine z_iconst (q := 79) C (3 : Int32) dX10_step_78 ki_3 rfl ?_
        refine z_icmpne (q := 82) (tgt := 99) C dX10_step_79 (by decide) rfl hf (fun c79 hf => ?_) (fun c79 hf => ?_)
        · exact j99_0 a0_46 a1_46 a2_46 i3_46 i4_46 i5_46 σ hf
        · refine z_aload_n (q := 83) (i := 0) C 0 dX10_step_82 rfl rfl rfl ?_
          refine z_getR (q := 86) C flX10_3 dX10_step_83 hf rfl fun v6 hf => ?_
          refine z_getR (q := 89) C flX10_55 dX10_step_86 hf rfl fun v7 hf => ?_
          refine z_bipush (q := 91) C (7 : Int32) dX10_step_89 kb_7 rfl ?_
          refine z_aload_n (q := 92) (i := 0) C 0 dX10_step_91 rfl rfl rfl ?_
          refine z_getI (q := 95) C flX10_29 dX10_step_92 hf rfl fun v8 hf => ?_
          refine z_callVr (q := 98) (As := [.int (7 : Int32), .int v8]) C (fun o ho => m_X2_at _ _ _ _ ho) zk2 vvX10_59 cdX2_at pnX2 dX10_step_95 rfl (by omega) (Nat.le_of_ble_eq_true rfl) hf rfl fun v9 σ hf => ?_
          cases hf
          exact z_athrow C dX10_step_98 (by decide) rfl
    · refine z_aload_n (q := 56) (i := 0) C 0 dX10_step_55 rfl rfl rfl ?_
      refine z_getR (q := 59) C flX10_3 dX10_step_56 hf rfl fun v10 hf => ?_
      refine z_getR (q := 62) C flX10_55 dX10_step_59 hf rfl fun v11 hf => ?_
      refine z_bipush (q := 64) C (6 : Int32) dX10_step_62 kb_6 rfl ?_
      refine z_aload_n (q := 65) (i := 0) C 0 dX10_step_64 rfl rfl rfl ?_
      refine z_getI (q := 68) C flX10_29 dX10_step_65 hf rfl fun v12 hf => ?_
      refine z_callVr (q := 71) (As := [.int (6 : Int32), .int v12]) C (fun o ho => m_X2_at _ _ _ _ ho) zk2 vvX10_59 cdX2_at pnX2 dX10_step_68 rfl (by omega) (Nat.le_of_ble_eq_true rfl) hf rfl fun v13 σ hf => ?_
      cases hf
      exact z_athrow C dX10_step_71 (by decide) rfl
  have j27_0 : ∀ (a0_27 : Nat) (a1_27 : Nat) (a2_27 : Nat) (i3_27 : Int32) (i4_27 : Int32) (w0_27 : Int32) (σ : ZT), f_X10_step_J27 F a0_27 a1_27 a2_27 i3_27 i4_27 w0_27 σ = some out → ZW l G 7 X (ZQ G X (zov out) (zsv out)) σ 27 [(0, .ref a0_27), (1, .ref a1_27), (2, .ref a2_27), (3, .int i3_27), (4, .int i4_27)] [.int w0_27] := by
    intro a0_27 a1_27 a2_27 i3_27 i4_27 w0_27 σ hf
    unfold f_X10_step_J27 at hf
    refine z_istore (q := 29) (i := 5) (lv' := [(5, .int w0_27), (0, .ref a0_27), (1, .ref a1_27), (2, .ref a2_27), (3, .int i3_27), (4, .int i4_27)]) C dX10_step_27 (by decide) rfl rfl ?_
    refine z_aload_n (q := 30) (i := 0) C 1 dX10_step_29 rfl rfl rfl ?_
    refine z_callVi (q := 33) (As := []) C (fun o ho => m_X10_isPlain _ _ ho) zk10 vvX10_267 cdX10_isPlain pnX10 dX10_step_30 rfl (by omega) (Nat.le_of_ble_eq_true rfl) hf rfl fun v3 σ hf => ?_
    refine z_ifne (q := 36) (tgt := 46) C dX10_step_33 (by decide) rfl hf (fun c33 hf => ?_) (fun c33 hf => ?_)
    · refine z_lv [1, 2, 3, 4, 5, 0] rfl ?_
      exact j46_0 a0_27 a1_27 a2_27 i3_27 i4_27 w0_27 σ hf
    · refine z_iload (q := 38) (i := 5) C 0 dX10_step_36 rfl rfl ?_
      refine z_ifne (q := 41) (tgt := 46) C dX10_step_38 (by decide) rfl hf (fun c38 hf => ?_) (fun c38 hf => ?_)
      · refine z_lv [1, 2, 3, 4, 5, 0] rfl ?_
        exact j46_0 a0_27 a1_27 a2_27 i3_27 i4_27 w0_27 σ hf
      · refine z_aload_n (q := 42) (i := 0) C 1 dX10_step_41 rfl rfl rfl ?_
        refine z_callVr (q := 45) (As := []) C (fun o ho => m_X10_wrong _ _ ho) zk10 vvX10_64 cdX10_wrong pnX10 dX10_step_42 rfl (by omega) (Nat.le_of_ble_eq_true rfl) hf rfl fun v4 σ hf => ?_
        cases hf
        exact z_athrow C dX10_step_45 (by decide) rfl
  have j22_0 : ∀ (a0_22 : Nat) (a1_22 : Nat) (a2_22 : Nat) (i3_22 : Int32) (i4_22 : Int32) (σ : ZT), f_X10_step_J22 F a0_22 a1_22 a2_22 i3_22 i4_22 σ = some out → ZW l G 7 X (ZQ G X (zov out) (zsv out)) σ 22 [(0, .ref a0_22), (1, .ref a1_22), (2, .ref a2_22), (3, .int i3_22), (4, .int i4_22)] [] := by
    intro a0_22 a1_22 a2_22 i3_22 i4_22 σ hf
    unfold f_X10_step_J22 at hf
    refine z_iconst (q := 23) C (1 : Int32) dX10_step_22 ki_1 rfl ?_
    refine z_goto (q := 27) C dX10_step_23 (by decide) ?_
    exact j27_0 a0_22 a1_22 a2_22 i3_22 i4_22 (1 : Int32) σ hf
  refine z_aload_n (q := 1) (i := 0) C 0 dX10_step_0 rfl rfl rfl ?_
  refine z_ldcS (q := 3) C 24 (by decide) rfl rfl dX10_step_1 rfl ?_
  refine z_callVi (q := 6) (As := [.ref (gS G 24)]) C (fun o ho => m_X10_isWord _ _ _ ho) zk10 vvX10_68 cdX10_isWord pnX10 dX10_step_3 rfl (by omega) (Nat.le_of_ble_eq_true rfl) hf rfl fun v1 σ hf => ?_
  refine z_istore (q := 8) (i := 4) (lv' := [(4, .int v1), (0, .ref a0), (1, .ref a1), (2, .ref a2), (3, .int i3)]) C dX10_step_6 (by decide) rfl rfl ?_
  refine z_iload (q := 10) (i := 4) C 0 dX10_step_8 rfl rfl ?_
  refine z_ifne (q := 13) (tgt := 22) C dX10_step_10 (by decide) rfl hf (fun c10 hf => ?_) (fun c10 hf => ?_)
  · refine z_lv [1, 2, 3, 4, 0] rfl ?_
    exact j22_0 a0 a1 a2 i3 v1 σ hf
  · refine z_aload_n (q := 14) (i := 0) C 1 dX10_step_13 rfl rfl rfl ?_
    refine z_ldcS (q := 16) C 27 (by decide) rfl rfl dX10_step_14 rfl ?_
    refine z_callVi (q := 19) (As := [.ref (gS G 27)]) C (fun o ho => m_X10_isWord _ _ _ ho) zk10 vvX10_68 cdX10_isWord pnX10 dX10_step_16 rfl (by omega) (Nat.le_of_ble_eq_true rfl) hf rfl fun v2 σ hf => ?_
    refine z_ifeq (q := 22) (tgt := 26) C dX10_step_19 (by decide) rfl hf (fun c19 hf => ?_) (fun c19 hf => ?_)
    · refine z_iconst (q := 27) C (0 : Int32) dX10_step_26 ki_0 rfl ?_
      refine z_lv [1, 2, 3, 4, 0] rfl ?_
      exact j27_0 a0 a1 a2 i3 v1 (0 : Int32) σ hf
    · refine z_lv [1, 2, 3, 4, 0] rfl ?_
      exact j22_0 a0 a1 a2 i3 v1 σ hf
noncomputable def stepN : Nat → Nat → Nat → Nat → Int32 → ZT → Option ((Nat × ZT) ⊕ ZT)
  | 0 => fun _ _ _ _ _ => none
  | n + 1 => f_X10_step (stepN n)
theorem stepN_m {l : Launch} {G : ZG} (n : Nat) : ∀ (a t b : Nat) (i : Int32) (σ : ZT) (o : (Nat × ZT) ⊕ ZT), stepN n a t b i σ = some o → ZM l G yX10_step cX10_step 7 none [] (15 * n) [.ref a, .ref t, .ref b, .int i] σ (zov o) (zsv o) := by
  induction n with
  | zero => intro a t b i σ o h; cases h
  | succ n ih => intro a t b i σ o h; exact m_X10_step (stepN n) ih a t b i σ h

noncomputable def f_X10_orders_L0 (c0_0 : Nat) (c1_0 : Nat) (c2_0 : Nat)  (σ : ZT) : Option (ZT ⊕ (((Nat × ZT) ⊕ ZT) ⊕ ZT)) :=
  (gI 10 1003 c0_0 σ).bind fun v3 =>
  if v3 = 0 then
  (some (.inr (.inr σ)))
  else
  (bndXv (vc 10 c0_0 σ ((stepN 4) c0_0 c1_0 c2_0 (0 : Int32) σ)) (fun xx σ => some (.inr (.inl (.inl (xx, σ))))) fun σ =>
  some (.inl σ))
noncomputable def f_X10_orders (a0 : Nat) (a1 : Nat) (a2 : Nat) (σ : ZT) : Option ((Nat × ZT) ⊕ ZT) :=
  (gI 10 1003 a0 σ).bind fun v1 =>
  if v1 = 0 then
  (some (.inr σ))
  else
  (bndXv (vc 10 a0 σ ((stepN 4) a0 a1 a2 (0 : Int32) σ)) (fun xx σ => some (.inl (xx, σ))) fun σ =>
  (loopC (fun s : ZT => f_X10_orders_L0 a0 a1 a2 s) σ).bind fun x => (match x with
  | .inl o => some o
  | .inr σ => some (.inr σ)))
set_option maxHeartbeats 4000000 in
theorem m_X10_orders {l : Launch} {G : ZG} (a0 : Nat) (a1 : Nat) (a2 : Nat) (σ : ZT) {out : ((Nat × ZT) ⊕ ZT)} (hf : f_X10_orders a0 a1 a2 σ = some out) : ZM l G yX10_orders cX10_orders 3 none [] 71 [.ref a0, .ref a1, .ref a2] σ (zov out) (zsv out) := by
  refine ZM.of [(0, .ref a0), (1, .ref a1), (2, .ref a2)] rfl (Nat.le_of_ble_eq_true rfl) fun X (C : ZC G RX10 "orders" cX10_orders 3 none [] X 71) => ?_
  unfold f_X10_orders at hf
  refine z_aload_n (q := 1) (i := 0) C 0 dX10_orders_0 rfl rfl rfl ?_
  refine z_getI (q := 4) C flX10_32 dX10_orders_1 hf rfl fun v1 hf => ?_
  refine z_ifeq (q := 7) (tgt := 17) C dX10_orders_4 (by decide) rfl hf (fun c4 hf => ?_) (fun c4 hf => ?_)
  · cases hf
    exact z_return C rfl dX10_orders_17 rfl
  · refine z_aload_n (q := 8) (i := 0) C 0 dX10_orders_7 rfl rfl rfl ?_
    refine z_aload_n (q := 9) (i := 1) C 1 dX10_orders_8 rfl rfl rfl ?_
    refine z_aload_n (q := 10) (i := 2) C 2 dX10_orders_9 rfl rfl rfl ?_
    refine z_iconst (q := 11) C (0 : Int32) dX10_orders_10 ki_0 rfl ?_
    refine z_callXVv (q := 14) (As := [.ref a1, .ref a2, .int (0 : Int32)]) C (fun o ho => stepN_m 4 _ _ _ _ _ o ho) zk10 vvX10_263 cdX10_step pnX10 dX10_orders_11 rfl (by decide) (Nat.le_of_ble_eq_true rfl) hf rfl (fun xx σ hf T locs ls hP hL h1 h2 hl X0 => ?_) fun σ hf => ?_
    · cases hf
      exact zthrown_out C (by decide) hP hL h1 h2 X0
    refine z_goto (q := 0) C dX10_orders_14 (by decide) ?_
    obtain ⟨r1, hr1, hk1⟩ := Option.bind_eq_some_iff.mp hf
    refine loopC_ind (P := fun s => ZW l G 3 X (ZQ G X (zov out) (zsv out)) s 0 [(0, .ref a0), (1, .ref a1), (2, .ref a2)] []) (fun σ x1 hf hx1 => ?_) hr1
    unfold f_X10_orders_L0 at hf
    try dsimp only at hf
    try dsimp only
    refine z_aload_n (q := 1) (i := 0) C 0 dX10_orders_0 rfl rfl rfl ?_
    refine z_getI (q := 4) C flX10_32 dX10_orders_1 hf rfl fun v3 hf => ?_
    refine z_ifeq (q := 7) (tgt := 17) C dX10_orders_4 (by decide) rfl hf (fun c4 hf => ?_) (fun c4 hf => ?_)
    · have e1 := zl_x hf hx1
      have hf := hk1
      rw [← e1] at hf
      try dsimp only at hf
      cases hf
      exact z_return C rfl dX10_orders_17 rfl
    · refine z_aload_n (q := 8) (i := 0) C 0 dX10_orders_7 rfl rfl rfl ?_
      refine z_aload_n (q := 9) (i := 1) C 1 dX10_orders_8 rfl rfl rfl ?_
      refine z_aload_n (q := 10) (i := 2) C 2 dX10_orders_9 rfl rfl rfl ?_
      refine z_iconst (q := 11) C (0 : Int32) dX10_orders_10 ki_0 rfl ?_
      refine z_callXVv (q := 14) (As := [.ref a1, .ref a2, .int (0 : Int32)]) C (fun o ho => stepN_m 4 _ _ _ _ _ o ho) zk10 vvX10_263 cdX10_step pnX10 dX10_orders_11 rfl (by decide) (Nat.le_of_ble_eq_true rfl) hf rfl (fun xx σ hf T locs ls hP hL h1 h2 hl X0 => ?_) fun σ hf => ?_
      · have e1 := zl_x hf hx1
        have hf := hk1
        rw [← e1] at hf
        try dsimp only at hf
        cases hf
        exact zthrown_out C (by decide) hP hL h1 h2 X0
      refine z_goto (q := 0) C dX10_orders_14 (by decide) ?_
      have hc1 := zl_c hf hx1
      exact hc1

