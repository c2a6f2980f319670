set_option maxRecDepth 100000
noncomputable def f_X0_tray_J35 (a0_35 : Nat) (i1_35 : Int32) (i2_35 : Int32) (i3_35 : Int32) (w0_35 : Int32) (w1_35 : Nat) (σ : ZT) : Option (Int32 × ZT) :=
  bndXv (vc 0 w1_35 σ (f_X0_want w1_35 w0_35 (1 : Int32) σ)) (fun xx σ => vc 3 xx σ (bnd2 (vc 0 a0_35 σ (f_X0_no a0_35 xx σ)) fun v5 σ =>
  (rz v5).bind fun z6 =>
  some (z6, σ))) fun σ =>
  (gR 0 0 a0_35 σ).bind fun v2 =>
  (ldR 5 v2 i1_35 σ).bind fun v3 =>
  if negA i3_35 σ then
  (zgo (zgap σ 3 222) fun σ => (pI 0 7 a0_35 (1 : Int32) σ).bind fun σ =>
  some ((0 : Int32), σ))
  else
  (bnd2 (f_X0_row i2_35 i3_35 σ) fun v4 σ =>
  (pR 1 100 v3 (some v4) σ).bind fun σ =>
  some ((1 : Int32), σ))
noncomputable def f_X0_tray_J34 (a0_34 : Nat) (i1_34 : Int32) (i2_34 : Int32) (i3_34 : Int32) (w0_34 : Nat) (σ : ZT) : Option (Int32 × ZT) :=
  f_X0_tray_J35 a0_34 i1_34 i2_34 i3_34 (0 : Int32) w0_34 σ
noncomputable def f_X0_tray (a0 : Nat) (i1 : Int32) (i2 : Int32) (i3 : Int32) (σ : ZT) : Option (Int32 × ZT) :=
  (pI 0 7 a0 (0 : Int32) σ).bind fun σ =>
  if i1 < 0 then
  (f_X0_tray_J34 a0 i1 i2 i3 a0 σ)
  else
  (if i1 < (4 : Int32) then
  (if i2 < 0 then
  (f_X0_tray_J34 a0 i1 i2 i3 a0 σ)
  else
  (if (3 : Int32) < i2 then
  (f_X0_tray_J34 a0 i1 i2 i3 a0 σ)
  else
  (if (60 : Int32) < i3 then
  (f_X0_tray_J34 a0 i1 i2 i3 a0 σ)
  else
  (f_X0_tray_J35 a0 i1 i2 i3 (1 : Int32) a0 σ))))
  else
  (f_X0_tray_J34 a0 i1 i2 i3 a0 σ))
set_option maxHeartbeats 4000000 in
theorem m_X0_tray {l : Launch} {G : ZG} (hfl : l.flags = flags0) (a0 : Nat) (i1 : Int32) (i2 : Int32) (i3 : Int32) (σ : ZT) {out : (Int32 × ZT)} (hf : f_X0_tray a0 i1 i2 i3 σ = some out) : ZM l G yX0_tray cX0_tray 5 (some .boolean) [(5, 54, 55, 145), (5, 54, 64, 41)] 12 [.ref a0, .int i1, .int i2, .int i3] σ (.returned (some (.int out.1))) out.2 := by
  refine ZM.of [(0, .ref a0), (1, .int i1), (2, .int i2), (3, .int i3)] rfl (Nat.le_of_ble_eq_true rfl) fun X (C : ZC G RX0 "tray" cX0_tray 5 (some .boolean) [(5, 54, 55, 145), (5, 54, 64, 41)] X 12) => ?_
  unfold f_X0_tray at hf
  have j35_0 : ∀ (a0_35 : Nat) (i1_35 : Int32) (i2_35 : Int32) (i3_35 : Int32) (w0_35 : Int32) (w1_35 : Nat) (σ : ZT), f_X0_tray_J35 a0_35 i1_35 i2_35 i3_35 w0_35 w1_35 σ = some out → ZW l G 5 X (ZQ G X (.returned (some (.int out.1))) out.2) σ 35 [(0, .ref a0_35), (1, .int i1_35), (2, .int i2_35), (3, .int i3_35)] [.int w0_35, .ref w1_35] := by
    intro a0_35 i1_35 i2_35 i3_35 w0_35 w1_35 σ hf
    unfold f_X0_tray_J35 at hf
    refine z_iconst (q := 36) C (1 : Int32) dX0_tray_35 ki_1 rfl ?_
    refine z_callXVv (q := 39) (As := [.int w0_35, .int (1 : Int32)]) C (fun o ho => m_X0_want _ _ _ _ ho) zk0 vvX0_135 cdX0_want pnX0 dX0_tray_36 rfl (by decide) (Nat.le_of_ble_eq_true rfl) hf rfl (fun xx σ hf T locs ls hP hL h1 h2 hl X0 => ?_) fun σ hf => ?_
    · refine zcaughtO (q := 64) C 1 rfl zk3 (by decide) (by decide) (fun j hj y hy => ?_) q267 (zNw_in q269 rfl) hf hP hL h1 h2 hl X0 rfl (fun hf => ?_)
      · by_cases hj0 : j = 0
        · subst hj0
          obtain rfl : (5, 54, 55, 145) = y := Option.some.inj hy
          exact Or.inr ⟨by decide, "java/lang/NegativeArraySizeException", C.w q590, C.nc (q := (RX3, "java/lang/NegativeArraySizeException")) (by decide)⟩
        omega
      refine z_astore (q := 66) (i := 4) (lv' := [(4, .ref xx), (0, .ref a0_35), (1, .int i1_35), (2, .int i2_35), (3, .int i3_35)]) C dX0_tray_64 (by decide) rfl rfl ?_
      refine z_aload_n (q := 67) (i := 0) C 1 dX0_tray_66 rfl rfl rfl ?_
      refine z_aload (q := 69) (i := 4) C 0 dX0_tray_67 rfl rfl ?_
      refine z_callVi (q := 72) (As := [.ref xx]) C (fun o ho => m_X0_no _ _ _ ho) zk0 vvX0_147 cdX0_no pnX0 dX0_tray_69 rfl (by decide) (Nat.le_of_ble_eq_true rfl) hf rfl fun v5 σ hf => ?_
      refine z_rz C hf fun hn hf => ?_
      exact z_zreturn C rfl hn dX0_tray_72 (Option.some.inj hf)
    refine z_aload_n (q := 40) (i := 0) C 0 dX0_tray_39 rfl rfl rfl ?_
    refine z_getR (q := 43) C flX0_20 dX0_tray_40 hf rfl fun v2 hf => ?_
    refine z_iload_n (q := 44) (i := 1) C 1 dX0_tray_43 rfl rfl rfl ?_
    refine z_aaldR (q := 45) C 5 (by decide) (by decide) dX0_tray_44 hf rfl fun v3 hf => ?_
    refine z_iload_n (q := 46) (i := 2) C 2 dX0_tray_45 rfl rfl rfl ?_
    refine z_iload_n (q := 47) (i := 3) C 3 dX0_tray_46 rfl rfl rfl ?_
    by_cases ho47 : negA i3_35 σ
    · rw [if_pos ho47] at hf
      obtain ⟨c1, c2, g1, g2, g3⟩ := Cond.castable_spec (C.nw (zNw_in q610 rfl))
      refine zcall_goX (rest := [.ref v3]) C (t_X0_row hfl _ _ _ ho47) (by decide) pnX0 cdX0_row dX0_tray_47 (Nat.le_of_ble_eq_true rfl) (zinv_S (As := [.int i2_35, .int i3_35]) C vsX0_142 cdX0_row dX0_tray_47 rfl) (fun T locs ls hP hc hL h1 h2 hl X0 => ?_)
      refine zcaught (q := 55) C 0 rfl (by decide) (by decide) (fun j hj => absurd hj (Nat.not_lt_zero j)) q590 g1 g2 g3 hP hc hL h1 h2 hl X0 rfl ?_
      clear hP hc X0
      unfold zgo at hf
      generalize zsz σ + 2 = xx
      generalize zgap σ 3 222 = σ at hf ⊢
      refine z_astore (q := 57) (i := 4) (lv' := [(4, .ref xx), (0, .ref a0_35), (1, .int i1_35), (2, .int i2_35), (3, .int i3_35)]) C dX0_tray_55 (by decide) rfl rfl ?_
      refine z_aload_n (q := 58) (i := 0) C 1 dX0_tray_57 rfl rfl rfl ?_
      refine z_iconst (q := 59) C (1 : Int32) dX0_tray_58 ki_1 rfl ?_
      refine z_putI (q := 62) C puX0_110 dX0_tray_59 hf rfl fun σ hf => ?_
      refine z_iconst (q := 63) C (0 : Int32) dX0_tray_62 ki_0 rfl ?_
      exact z_zreturn C rfl z_nb0 dX0_tray_63 (Option.some.inj hf)
    rw [if_neg ho47] at hf
    refine z_callSr (q := 50) (As := [.int i2_35, .int i3_35]) C (fun o ho => m_X0_row _ _ _ ho) vsX0_142 cdX0_row pnX0 dX0_tray_47 rfl (by decide) (Nat.le_of_ble_eq_true rfl) hf rfl fun v4 σ hf => ?_
    refine z_putR (q := 53) C puX0_139 rfl dX0_tray_50 hf rfl fun σ hf => ?_
    refine z_iconst (q := 54) C (1 : Int32) dX0_tray_53 ki_1 rfl ?_
    exact z_zreturn C rfl z_nb1 dX0_tray_54 (Option.some.inj hf)
  have j34_0 : ∀ (a0_34 : Nat) (i1_34 : Int32) (i2_34 : Int32) (i3_34 : Int32) (w0_34 : Nat) (σ : ZT), f_X0_tray_J34 a0_34 i1_34 i2_34 i3_34 w0_34 σ = some out → ZW l G 5 X (ZQ G X (.returned (some (.int out.1))) out.2) σ 34 [(0, .ref a0_34), (1, .int i1_34), (2, .int i2_34), (3, .int i3_34)] [.ref w0_34] := by
    intro a0_34 i1_34 i2_34 i3_34 w0_34 σ hf
    unfold f_X0_tray_J34 at hf
    refine z_iconst (q := 35) C (0 : Int32) dX0_tray_34 ki_0 rfl ?_
    exact j35_0 a0_34 i1_34 i2_34 i3_34 (0 : Int32) w0_34 σ hf
  refine z_aload_n (q := 1) (i := 0) C 0 dX0_tray_0 rfl rfl rfl ?_
  refine z_iconst (q := 2) C (0 : Int32) dX0_tray_1 ki_0 rfl ?_
  refine z_putI (q := 5) C puX0_110 dX0_tray_2 hf rfl fun σ hf => ?_
  refine z_aload_n (q := 6) (i := 0) C 0 dX0_tray_5 rfl rfl rfl ?_
  refine z_iload_n (q := 7) (i := 1) C 1 dX0_tray_6 rfl rfl rfl ?_
  refine z_iflt (q := 10) (tgt := 34) C dX0_tray_7 (by decide) rfl hf (fun c7 hf => ?_) (fun c7 hf => ?_)
  · exact j34_0 a0 i1 i2 i3 a0 σ hf
  · refine z_iload_n (q := 11) (i := 1) C 1 dX0_tray_10 rfl rfl rfl ?_
    refine z_iconst (q := 12) C (4 : Int32) dX0_tray_11 ki_4 rfl ?_
    refine z_icmpge (q := 15) (tgt := 34) C dX0_tray_12 (by decide) rfl hf (fun c12 hf => ?_) (fun c12 hf => ?_)
    · exact j34_0 a0 i1 i2 i3 a0 σ hf
    · refine z_iload_n (q := 16) (i := 2) C 2 dX0_tray_15 rfl rfl rfl ?_
      refine z_iflt (q := 19) (tgt := 34) C dX0_tray_16 (by decide) rfl hf (fun c16 hf => ?_) (fun c16 hf => ?_)
      · exact j34_0 a0 i1 i2 i3 a0 σ hf
      · refine z_iload_n (q := 20) (i := 2) C 2 dX0_tray_19 rfl rfl rfl ?_
        refine z_iconst (q := 21) C (3 : Int32) dX0_tray_20 ki_3 rfl ?_
        refine z_icmpgt (q := 24) (tgt := 34) C dX0_tray_21 (by decide) rfl hf (fun c21 hf => ?_) (fun c21 hf => ?_)
        · exact j34_0 a0 i1 i2 i3 a0 σ hf
        · refine z_iload_n (q := 25) (i := 3) C 3 dX0_tray_24 rfl rfl rfl ?_
          refine z_bipush (q := 27) C (60 : Int32) dX0_tray_25 kb_60 rfl ?_
          refine z_icmpgt (q := 30) (tgt := 34) C dX0_tray_27 (by decide) rfl hf (fun c27 hf => ?_) (fun c27 hf => ?_)
          · exact j34_0 a0 i1 i2 i3 a0 σ hf
          · refine z_iconst (q := 31) C (1 : Int32) dX0_tray_30 ki_1 rfl ?_
            refine z_goto (q := 35) C dX0_tray_31 (by decide) ?_
            exact j35_0 a0 i1 i2 i3 (1 : Int32) a0 σ hf

noncomputable def f_X0_write (a0 : Nat) (i1 : Int32) (i2 : Int32) (l3 : Int64) (σ : ZT) : Option (Int32 × ZT) :=
  (pI 0 7 a0 (0 : Int32) σ).bind fun σ =>
  bndX (vc 0 a0 σ (f_X0_on a0 i1 σ)) (fun xx σ => vc 3 xx σ (bnd2 (vc 0 a0 σ (f_X0_no a0 xx σ)) fun v3 σ =>
  (rz v3).bind fun z4 =>
  some (z4, σ))) fun v1 σ =>
  if oobA v1 i2 σ then
  (zgo (zgap σ 3 222) fun σ => (pI 0 7 a0 (3 : Int32) σ).bind fun σ =>
  some ((0 : Int32), σ))
  else
  ((f_X0_put v1 i2 l3 σ).bind fun σ =>
  some ((1 : Int32), σ))
set_option maxHeartbeats 4000000 in
theorem m_X0_write {l : Launch} {G : ZG} (hfl : l.flags = flags0) (a0 : Nat) (i1 : Int32) (i2 : Int32) (l3 : Int64) (σ : ZT) {out : (Int32 × ZT)} (hf : f_X0_write a0 i1 i2 l3 σ = some out) : ZM l G yX0_write cX0_write 6 (some .boolean) [(5, 16, 17, 159), (5, 16, 26, 41)] 12 [.ref a0, .int i1, .int i2, .long l3] σ (.returned (some (.int out.1))) out.2 := by
  refine ZM.of [(0, .ref a0), (1, .int i1), (2, .int i2), (3, .long l3)] rfl (Nat.le_of_ble_eq_true rfl) fun X (C : ZC G RX0 "write" cX0_write 6 (some .boolean) [(5, 16, 17, 159), (5, 16, 26, 41)] X 12) => ?_
  unfold f_X0_write at hf
  refine z_aload_n (q := 1) (i := 0) C 0 dX0_write_0 rfl rfl rfl ?_
  refine z_iconst (q := 2) C (0 : Int32) dX0_write_1 ki_0 rfl ?_
  refine z_putI (q := 5) C puX0_110 dX0_write_2 hf rfl fun σ hf => ?_
  refine z_aload_n (q := 6) (i := 0) C 0 dX0_write_5 rfl rfl rfl ?_
  refine z_iload_n (q := 7) (i := 1) C 1 dX0_write_6 rfl rfl rfl ?_
  refine z_callXVr (q := 10) (As := [.int i1]) C (fun o ho => m_X0_on _ _ _ ho) zk0 vvX0_151 cdX0_on pnX0 dX0_write_7 rfl (by decide) (Nat.le_of_ble_eq_true rfl) hf rfl (fun xx σ hf T locs ls hP hL h1 h2 hl X0 => ?_) fun v1 σ hf => ?_
  · refine zcaughtO (q := 26) C 1 rfl zk3 (by decide) (by decide) (fun j hj y hy => ?_) q267 (zNw_in q269 rfl) hf hP hL h1 h2 hl X0 rfl (fun hf => ?_)
    · by_cases hj0 : j = 0
      · subst hj0
        obtain rfl : (5, 16, 17, 159) = y := Option.some.inj hy
        exact Or.inr ⟨by decide, "java/lang/ArrayIndexOutOfBoundsException", C.w q639, C.nc (q := (RX3, "java/lang/ArrayIndexOutOfBoundsException")) (by decide)⟩
      omega
    refine z_astore (q := 28) (i := 5) (lv' := [(5, .ref xx), (0, .ref a0), (1, .int i1), (2, .int i2), (3, .long l3)]) C dX0_write_26 (by decide) rfl rfl ?_
    refine z_aload_n (q := 29) (i := 0) C 1 dX0_write_28 rfl rfl rfl ?_
    refine z_aload (q := 31) (i := 5) C 0 dX0_write_29 rfl rfl ?_
    refine z_callVi (q := 34) (As := [.ref xx]) C (fun o ho => m_X0_no _ _ _ ho) zk0 vvX0_147 cdX0_no pnX0 dX0_write_31 rfl (by decide) (Nat.le_of_ble_eq_true rfl) hf rfl fun v3 σ hf => ?_
    refine z_rz C hf fun hn hf => ?_
    exact z_zreturn C rfl hn dX0_write_34 (Option.some.inj hf)
  refine z_iload_n (q := 11) (i := 2) C 2 dX0_write_10 rfl rfl rfl ?_
  refine z_lload_n (q := 12) (i := 3) C 3 dX0_write_11 rfl rfl rfl ?_
  by_cases ho12 : oobA v1 i2 σ
  · rw [if_pos ho12] at hf
    obtain ⟨c1, c2, g1, g2, g3⟩ := Cond.castable_spec (C.nw (zNw_in q654 rfl))
    refine zcall_goX (rest := []) C (t_X0_put hfl _ _ _ _ ho12) (by decide) pnX0 cdX0_put dX0_write_12 (Nat.le_of_ble_eq_true rfl) (zinv_S (As := [.ref v1, .int i2, .long l3]) C vsX0_155 cdX0_put dX0_write_12 rfl) (fun T locs ls hP hc hL h1 h2 hl X0 => ?_)
    refine zcaught (q := 17) C 0 rfl (by decide) (by decide) (fun j hj => absurd hj (Nat.not_lt_zero j)) q639 g1 g2 g3 hP hc hL h1 h2 hl X0 rfl ?_
    clear hP hc X0
    unfold zgo at hf
    generalize zsz σ + 2 = xx
    generalize zgap σ 3 222 = σ at hf ⊢
    refine z_astore (q := 19) (i := 5) (lv' := [(5, .ref xx), (0, .ref a0), (1, .int i1), (2, .int i2), (3, .long l3)]) C dX0_write_17 (by decide) rfl rfl ?_
    refine z_aload_n (q := 20) (i := 0) C 1 dX0_write_19 rfl rfl rfl ?_
    refine z_iconst (q := 21) C (3 : Int32) dX0_write_20 ki_3 rfl ?_
    refine z_putI (q := 24) C puX0_110 dX0_write_21 hf rfl fun σ hf => ?_
    refine z_iconst (q := 25) C (0 : Int32) dX0_write_24 ki_0 rfl ?_
    exact z_zreturn C rfl z_nb0 dX0_write_25 (Option.some.inj hf)
  rw [if_neg ho12] at hf
  refine z_callSv (q := 15) (As := [.ref v1, .int i2, .long l3]) C (fun o ho => m_X0_put _ _ _ _ ho) vsX0_155 cdX0_put pnX0 dX0_write_12 rfl (by decide) (Nat.le_of_ble_eq_true rfl) hf rfl fun σ hf => ?_
  refine z_iconst (q := 16) C (1 : Int32) dX0_write_15 ki_1 rfl ?_
  exact z_zreturn C rfl z_nb1 dX0_write_16 (Option.some.inj hf)

noncomputable def f_X0_read (a0 : Nat) (i1 : Int32) (i2 : Int32) (σ : ZT) : Option (Int64 × ZT) :=
  (pI 0 7 a0 (0 : Int32) σ).bind fun σ =>
  bndX (vc 0 a0 σ (f_X0_on a0 i1 σ)) (fun xx σ => vc 3 xx σ (bnd2 (vc 0 a0 σ (f_X0_none a0 xx σ)) fun v3 σ =>
  some ((v3.toInt64), σ))) fun v1 σ =>
  if oobA v1 i2 σ then
  (zgo (zgap σ 3 222) fun σ => (pI 0 7 a0 (3 : Int32) σ).bind fun σ =>
  some ((-1 : Int64), σ))
  else
  (bnd2 (f_X0_number v1 i2 σ) fun v2 σ =>
  some (v2, σ))
set_option maxHeartbeats 4000000 in
theorem m_X0_read {l : Launch} {G : ZG} (hfl : l.flags = flags0) (a0 : Nat) (i1 : Int32) (i2 : Int32) (σ : ZT) {out : (Int64 × ZT)} (hf : f_X0_read a0 i1 i2 σ = some out) : ZM l G yX0_read cX0_read 4 (some .long) [(5, 14, 15, 159), (5, 14, 25, 41)] 12 [.ref a0, .int i1, .int i2] σ (.returned (some (.long out.1))) out.2 := by
  refine ZM.of [(0, .ref a0), (1, .int i1), (2, .int i2)] rfl (Nat.le_of_ble_eq_true rfl) fun X (C : ZC G RX0 "read" cX0_read 4 (some .long) [(5, 14, 15, 159), (5, 14, 25, 41)] X 12) => ?_
  unfold f_X0_read at hf
  refine z_aload_n (q := 1) (i := 0) C 0 dX0_read_0 rfl rfl rfl ?_
  refine z_iconst (q := 2) C (0 : Int32) dX0_read_1 ki_0 rfl ?_
  refine z_putI (q := 5) C puX0_110 dX0_read_2 hf rfl fun σ hf => ?_
  refine z_aload_n (q := 6) (i := 0) C 0 dX0_read_5 rfl rfl rfl ?_
  refine z_iload_n (q := 7) (i := 1) C 1 dX0_read_6 rfl rfl rfl ?_
  refine z_callXVr (q := 10) (As := [.int i1]) C (fun o ho => m_X0_on _ _ _ ho) zk0 vvX0_151 cdX0_on pnX0 dX0_read_7 rfl (by decide) (Nat.le_of_ble_eq_true rfl) hf rfl (fun xx σ hf T locs ls hP hL h1 h2 hl X0 => ?_) fun v1 σ hf => ?_
  · refine zcaughtO (q := 25) C 1 rfl zk3 (by decide) (by decide) (fun j hj y hy => ?_) q267 (zNw_in q269 rfl) hf hP hL h1 h2 hl X0 rfl (fun hf => ?_)
    · by_cases hj0 : j = 0
      · subst hj0
        obtain rfl : (5, 14, 15, 159) = y := Option.some.inj hy
        exact Or.inr ⟨by decide, "java/lang/ArrayIndexOutOfBoundsException", C.w q639, C.nc (q := (RX3, "java/lang/ArrayIndexOutOfBoundsException")) (by decide)⟩
      omega
    refine z_astore_n (q := 26) (i := 3) (lv' := [(3, .ref xx), (0, .ref a0), (1, .int i1), (2, .int i2)]) C dX0_read_25 rfl (by decide) rfl rfl ?_
    refine z_aload_n (q := 27) (i := 0) C 1 dX0_read_26 rfl rfl rfl ?_
    refine z_aload_n (q := 28) (i := 3) C 0 dX0_read_27 rfl rfl rfl ?_
    refine z_callVi (q := 31) (As := [.ref xx]) C (fun o ho => m_X0_none _ _ _ ho) zk0 vvX0_167 cdX0_none pnX0 dX0_read_28 rfl (by decide) (Nat.le_of_ble_eq_true rfl) hf rfl fun v3 σ hf => ?_
    refine z_i2l (q := 32) C dX0_read_31 rfl ?_
    exact z_lreturn C rfl dX0_read_32 (Option.some.inj hf)
  refine z_iload_n (q := 11) (i := 2) C 2 dX0_read_10 rfl rfl rfl ?_
  by_cases ho11 : oobA v1 i2 σ
  · rw [if_pos ho11] at hf
    obtain ⟨c1, c2, g1, g2, g3⟩ := Cond.castable_spec (C.nw (zNw_in q654 rfl))
    refine zcall_goX (rest := []) C (t_X0_number hfl _ _ _ ho11) (by decide) pnX0 cdX0_number dX0_read_11 (Nat.le_of_ble_eq_true rfl) (zinv_S (As := [.ref v1, .int i2]) C vsX0_161 cdX0_number dX0_read_11 rfl) (fun T locs ls hP hc hL h1 h2 hl X0 => ?_)
    refine zcaught (q := 15) C 0 rfl (by decide) (by decide) (fun j hj => absurd hj (Nat.not_lt_zero j)) q639 g1 g2 g3 hP hc hL h1 h2 hl X0 rfl ?_
    clear hP hc X0
    unfold zgo at hf
    generalize zsz σ + 2 = xx
    generalize zgap σ 3 222 = σ at hf ⊢
    refine z_astore_n (q := 16) (i := 3) (lv' := [(3, .ref xx), (0, .ref a0), (1, .int i1), (2, .int i2)]) C dX0_read_15 rfl (by decide) rfl rfl ?_
    refine z_aload_n (q := 17) (i := 0) C 1 dX0_read_16 rfl rfl rfl ?_
    refine z_iconst (q := 18) C (3 : Int32) dX0_read_17 ki_3 rfl ?_
    refine z_putI (q := 21) C puX0_110 dX0_read_18 hf rfl fun σ hf => ?_
    refine z_ldc2 (q := 24) C q676 dX0_read_21 rfl ?_
    exact z_lreturn C rfl dX0_read_24 (Option.some.inj hf)
  rw [if_neg ho11] at hf
  refine z_callSl (q := 14) (As := [.ref v1, .int i2]) C (fun o ho => m_X0_number _ _ _ ho) vsX0_161 cdX0_number pnX0 dX0_read_11 rfl (by decide) (Nat.le_of_ble_eq_true rfl) hf rfl fun v2 σ hf => ?_
  exact z_lreturn C rfl dX0_read_14 (Option.some.inj hf)

noncomputable def f_X0_pour_J80 (a0_80 : Nat) (i2_80 : Int32) (i4_80 : Int32) (i5_80 : Int32) (a6_80 : Nat) (a7_80 : Nat) (w0_80 : Int32) (w1_80 : Nat) (σ : ZT) : Option (Int32 × ZT) :=
  bndXv (vc 0 w1_80 σ (f_X0_want w1_80 w0_80 (8 : Int32) σ)) (fun xx σ => vc 3 xx σ (bnd2 (vc 0 a0_80 σ (f_X0_no a0_80 xx σ)) fun v17 σ =>
  (rz v17).bind fun z18 =>
  some (z18, σ))) fun σ =>
  zif (cpF a6_80 i2_80 a7_80 i4_80 i5_80 σ) (zgo (zgap σ 3 400) fun σ => (gR 0 6 a0_80 σ).bind fun v13 =>
  bnd2 (vc 3 v13 σ (f_X3_by v13 (3 : Int32) σ)) fun v14 σ =>
  vc 3 v14 σ (bnd2 (vc 0 a0_80 σ (f_X0_no a0_80 v14 σ)) fun v15 σ =>
  (rz v15).bind fun z16 =>
  some (z16, σ))) ((cpO a6_80 i2_80 a7_80 i4_80 i5_80 σ).bind fun σ =>
  some ((1 : Int32), σ))
noncomputable def f_X0_pour_J43 (a0_43 : Nat) (i1_43 : Int32) (i2_43 : Int32) (i3_43 : Int32) (i4_43 : Int32) (i5_43 : Int32) (w0_43 : Int32) (w1_43 : Nat) (σ : ZT) : Option (Int32 × ZT) :=
  bndXv (vc 0 w1_43 σ (f_X0_want w1_43 w0_43 (1 : Int32) σ)) (fun xx σ => vc 3 xx σ (bnd2 (vc 0 a0_43 σ (f_X0_no a0_43 xx σ)) fun v10 σ =>
  (rz v10).bind fun z11 =>
  some (z11, σ))) fun σ =>
  bndX (vc 0 a0_43 σ (f_X0_on a0_43 i1_43 σ)) (fun xx σ => vc 3 xx σ (bnd2 (vc 0 a0_43 σ (f_X0_no a0_43 xx σ)) fun v8 σ =>
  (rz v8).bind fun z9 =>
  some (z9, σ))) fun v2 σ =>
  bndX (vc 0 a0_43 σ (f_X0_on a0_43 i3_43 σ)) (fun xx σ => vc 3 xx σ (bnd2 (vc 0 a0_43 σ (f_X0_no a0_43 xx σ)) fun v6 σ =>
  (rz v6).bind fun z7 =>
  some (z7, σ))) fun v3 σ =>
  bnd2 (f_X0_sortOf v2 σ) fun v4 σ =>
  bnd2 (f_X0_sortOf v3 σ) fun v5 σ =>
  if v4 = v5 then
  (f_X0_pour_J80 a0_43 i2_43 i4_43 i5_43 v2 v3 (1 : Int32) a0_43 σ)
  else
  (f_X0_pour_J80 a0_43 i2_43 i4_43 i5_43 v2 v3 (0 : Int32) a0_43 σ)
noncomputable def f_X0_pour_J42 (a0_42 : Nat) (i1_42 : Int32) (i2_42 : Int32) (i3_42 : Int32) (i4_42 : Int32) (i5_42 : Int32) (w0_42 : Nat) (σ : ZT) : Option (Int32 × ZT) :=
  f_X0_pour_J43 a0_42 i1_42 i2_42 i3_42 i4_42 i5_42 (0 : Int32) w0_42 σ
noncomputable def f_X0_pour (a0 : Nat) (i1 : Int32) (i2 : Int32) (i3 : Int32) (i4 : Int32) (i5 : Int32) (σ : ZT) : Option (Int32 × ZT) :=
  (pI 0 7 a0 (0 : Int32) σ).bind fun σ =>
  if i1 < 0 then
  (f_X0_pour_J42 a0 i1 i2 i3 i4 i5 a0 σ)
  else
  (if i1 < (4 : Int32) then
  (if i3 < 0 then
  (f_X0_pour_J42 a0 i1 i2 i3 i4 i5 a0 σ)
  else
  (if i3 < (4 : Int32) then
  (if i2 < 0 then
  (f_X0_pour_J42 a0 i1 i2 i3 i4 i5 a0 σ)
  else
  (if i4 < 0 then
  (f_X0_pour_J42 a0 i1 i2 i3 i4 i5 a0 σ)
  else
  (if i5 < 0 then
  (f_X0_pour_J42 a0 i1 i2 i3 i4 i5 a0 σ)
  else
  (f_X0_pour_J43 a0 i1 i2 i3 i4 i5 (1 : Int32) a0 σ))))
  else
  (f_X0_pour_J42 a0 i1 i2 i3 i4 i5 a0 σ)))
  else
  (f_X0_pour_J42 a0 i1 i2 i3 i4 i5 a0 σ))
set_option maxHeartbeats 4000000 in
theorem m_X0_pour {l : Launch} {G : ZG} (hfl : l.flags = flags0) (a0 : Nat) (i1 : Int32) (i2 : Int32) (i3 : Int32) (i4 : Int32) (i5 : Int32) (σ : ZT) {out : (Int32 × ZT)} (hf : f_X0_pour a0 i1 i2 i3 i4 i5 σ = some out) : ZM l G yX0_pour cX0_pour 9 (some .boolean) [(85, 97, 100, 181), (5, 112, 113, 41)] 12 [.ref a0, .int i1, .int i2, .int i3, .int i4, .int i5] σ (.returned (some (.int out.1))) out.2 := by
  refine ZM.ofO [(0, .ref a0), (1, .int i1), (2, .int i2), (3, .int i3), (4, .int i4), (5, .int i5)] rfl (Nat.le_of_ble_eq_true rfl) fun X (C : ZC G RX0 "pour" cX0_pour 9 (some .boolean) [(85, 97, 100, 181), (5, 112, 113, 41)] X 12) hO => ?_
  unfold f_X0_pour at hf
  have j80_0 : ∀ (a0_80 : Nat) (i2_80 : Int32) (i4_80 : Int32) (i5_80 : Int32) (a6_80 : Nat) (a7_80 : Nat) (w0_80 : Int32) (w1_80 : Nat) (σ : ZT), f_X0_pour_J80 a0_80 i2_80 i4_80 i5_80 a6_80 a7_80 w0_80 w1_80 σ = some out → ZW l G 9 X (ZQ G X (.returned (some (.int out.1))) out.2) σ 80 [(0, .ref a0_80), (2, .int i2_80), (4, .int i4_80), (5, .int i5_80), (6, .ref a6_80), (7, .ref a7_80)] [.int w0_80, .ref w1_80] := by
    intro a0_80 i2_80 i4_80 i5_80 a6_80 a7_80 w0_80 w1_80 σ hf
    unfold f_X0_pour_J80 at hf
    refine z_bipush (q := 82) C (8 : Int32) dX0_pour_80 kb_8 rfl ?_
    refine z_callXVv (q := 85) (As := [.int w0_80, .int (8 : Int32)]) C (fun o ho => m_X0_want _ _ _ _ ho) zk0 vvX0_135 cdX0_want pnX0 dX0_pour_82 rfl (by decide) (Nat.le_of_ble_eq_true rfl) hf rfl (fun xx σ hf T locs ls hP hL h1 h2 hl X0 => ?_) fun σ hf => ?_
    · refine zcaughtO (q := 113) C 1 rfl zk3 (by decide) (by decide) (fun j hj y hy => ?_) q267 (zNw_in q269 rfl) hf hP hL h1 h2 hl X0 rfl (fun hf => ?_)
      · by_cases hj0 : j = 0
        · subst hj0
          obtain rfl : (85, 97, 100, 181) = y := Option.some.inj hy
          exact Or.inl rfl
        omega
      refine z_astore (q := 115) (i := 6) (lv' := [(6, .ref xx), (0, .ref a0_80), (2, .int i2_80), (4, .int i4_80), (5, .int i5_80), (7, .ref a7_80)]) C dX0_pour_113 (by decide) rfl rfl ?_
      refine z_aload_n (q := 116) (i := 0) C 1 dX0_pour_115 rfl rfl rfl ?_
      refine z_aload (q := 118) (i := 6) C 0 dX0_pour_116 rfl rfl ?_
      refine z_callVi (q := 121) (As := [.ref xx]) C (fun o ho => m_X0_no _ _ _ ho) zk0 vvX0_147 cdX0_no pnX0 dX0_pour_118 rfl (by decide) (Nat.le_of_ble_eq_true rfl) hf rfl fun v17 σ hf => ?_
      refine z_rz C hf fun hn hf => ?_
      exact z_zreturn C rfl hn dX0_pour_121 (Option.some.inj hf)
    refine z_aload (q := 87) (i := 6) C 4 dX0_pour_85 rfl rfl ?_
    refine z_iload_n (q := 88) (i := 2) C 1 dX0_pour_87 rfl rfl rfl ?_
    refine z_aload (q := 90) (i := 7) C 5 dX0_pour_88 rfl rfl ?_
    refine z_iload (q := 92) (i := 4) C 2 dX0_pour_90 rfl rfl ?_
    refine z_iload (q := 94) (i := 5) C 3 dX0_pour_92 rfl rfl ?_
    unfold zif at hf
    by_cases hF : cpF a6_80 i2_80 a7_80 i4_80 i5_80 σ
    · rw [if_pos hF] at hf
      refine z_cpyX (q := 100) C hfl hO q689 dX0_pour_94 (by decide) (Nat.le_of_ble_eq_true rfl) hF rfl (by decide) (by decide) q685 rfl ?_
      unfold zgo at hf
      generalize zsz σ + 2 = xx
      generalize zgap σ 3 400 = σ at hf ⊢
      refine z_astore (q := 102) (i := 8) (lv' := [(8, .ref xx), (0, .ref a0_80), (2, .int i2_80), (4, .int i4_80), (5, .int i5_80), (6, .ref a6_80), (7, .ref a7_80)]) C dX0_pour_100 (by decide) rfl rfl ?_
      refine z_aload_n (q := 103) (i := 0) C 1 dX0_pour_102 rfl rfl rfl ?_
      refine z_getR (q := 106) C flX0_44 dX0_pour_103 hf rfl fun v13 hf => ?_
      refine z_iconst (q := 107) C (3 : Int32) dX0_pour_106 ki_3 rfl ?_
      refine z_callVr (q := 110) (As := [.int (3 : Int32)]) C (fun o ho => m_X3_by _ _ _ ho) zk3 vvX0_116 cdX3_by pnX3 dX0_pour_107 rfl (by decide) (Nat.le_of_ble_eq_true rfl) hf rfl fun v14 σ hf => ?_
      refine z_athrowC (q := 113) C dX0_pour_110 1 rfl zk3 (by decide) (by decide) (fun j hj y hy => ?_) q267 (zNw_in q269 rfl) hf rfl (fun hf => ?_)
      · by_cases hj0 : j = 0
        · subst hj0
          obtain rfl : (85, 97, 100, 181) = y := Option.some.inj hy
          exact Or.inl rfl
        omega
      refine z_astore (q := 115) (i := 6) (lv' := [(6, .ref v14), (8, .ref xx), (0, .ref a0_80), (2, .int i2_80), (4, .int i4_80), (5, .int i5_80), (7, .ref a7_80)]) C dX0_pour_113 (by decide) rfl rfl ?_
      refine z_aload_n (q := 116) (i := 0) C 2 dX0_pour_115 rfl rfl rfl ?_
      refine z_aload (q := 118) (i := 6) C 0 dX0_pour_116 rfl rfl ?_
      refine z_callVi (q := 121) (As := [.ref v14]) C (fun o ho => m_X0_no _ _ _ ho) zk0 vvX0_147 cdX0_no pnX0 dX0_pour_118 rfl (by decide) (Nat.le_of_ble_eq_true rfl) hf rfl fun v15 σ hf => ?_
      refine z_rz C hf fun hn hf => ?_
      exact z_zreturn C rfl hn dX0_pour_121 (Option.some.inj hf)
    rw [if_neg hF] at hf
    refine z_cpyO (q := 97) C q689 dX0_pour_94 (by decide) (Nat.le_of_ble_eq_true rfl) hf rfl fun σ hf => ?_
    refine z_goto (q := 111) C dX0_pour_97 (by decide) ?_
    refine z_iconst (q := 112) C (1 : Int32) dX0_pour_111 ki_1 rfl ?_
    exact z_zreturn C rfl z_nb1 dX0_pour_112 (Option.some.inj hf)
  have j43_0 : ∀ (a0_43 : Nat) (i1_43 : Int32) (i2_43 : Int32) (i3_43 : Int32) (i4_43 : Int32) (i5_43 : Int32) (w0_43 : Int32) (w1_43 : Nat) (σ : ZT), f_X0_pour_J43 a0_43 i1_43 i2_43 i3_43 i4_43 i5_43 w0_43 w1_43 σ = some out → ZW l G 9 X (ZQ G X (.returned (some (.int out.1))) out.2) σ 43 [(0, .ref a0_43), (1, .int i1_43), (2, .int i2_43), (3, .int i3_43), (4, .int i4_43), (5, .int i5_43)] [.int w0_43, .ref w1_43] := by
    intro a0_43 i1_43 i2_43 i3_43 i4_43 i5_43 w0_43 w1_43 σ hf
    unfold f_X0_pour_J43 at hf
    refine z_iconst (q := 44) C (1 : Int32) dX0_pour_43 ki_1 rfl ?_
    refine z_callXVv (q := 47) (As := [.int w0_43, .int (1 : Int32)]) C (fun o ho => m_X0_want _ _ _ _ ho) zk0 vvX0_135 cdX0_want pnX0 dX0_pour_44 rfl (by decide) (Nat.le_of_ble_eq_true rfl) hf rfl (fun xx σ hf T locs ls hP hL h1 h2 hl X0 => ?_) fun σ hf => ?_
    · refine zcaughtO (q := 113) C 1 rfl zk3 (by decide) (by decide) (fun j hj y hy => ?_) q267 (zNw_in q269 rfl) hf hP hL h1 h2 hl X0 rfl (fun hf => ?_)
      · by_cases hj0 : j = 0
        · subst hj0
          obtain rfl : (85, 97, 100, 181) = y := Option.some.inj hy
          exact Or.inl rfl
        omega
      refine z_astore (q := 115) (i := 6) (lv' := [(6, .ref xx), (0, .ref a0_43), (1, .int i1_43), (2, .int i2_43), (3, .int i3_43), (4, .int i4_43), (5, .int i5_43)]) C dX0_pour_113 (by decide) rfl rfl ?_
      refine z_aload_n (q := 116) (i := 0) C 1 dX0_pour_115 rfl rfl rfl ?_
      refine z_aload (q := 118) (i := 6) C 0 dX0_pour_116 rfl rfl ?_
      refine z_callVi (q := 121) (As := [.ref xx]) C (fun o ho => m_X0_no _ _ _ ho) zk0 vvX0_147 cdX0_no pnX0 dX0_pour_118 rfl (by decide) (Nat.le_of_ble_eq_true rfl) hf rfl fun v10 σ hf => ?_
      refine z_rz C hf fun hn hf => ?_
      exact z_zreturn C rfl hn dX0_pour_121 (Option.some.inj hf)
    refine z_aload_n (q := 48) (i := 0) C 0 dX0_pour_47 rfl rfl rfl ?_
    refine z_iload_n (q := 49) (i := 1) C 1 dX0_pour_48 rfl rfl rfl ?_
    refine z_callXVr (q := 52) (As := [.int i1_43]) C (fun o ho => m_X0_on _ _ _ ho) zk0 vvX0_151 cdX0_on pnX0 dX0_pour_49 rfl (by decide) (Nat.le_of_ble_eq_true rfl) hf rfl (fun xx σ hf T locs ls hP hL h1 h2 hl X0 => ?_) fun v2 σ hf => ?_
    · refine zcaughtO (q := 113) C 1 rfl zk3 (by decide) (by decide) (fun j hj y hy => ?_) q267 (zNw_in q269 rfl) hf hP hL h1 h2 hl X0 rfl (fun hf => ?_)
      · by_cases hj0 : j = 0
        · subst hj0
          obtain rfl : (85, 97, 100, 181) = y := Option.some.inj hy
          exact Or.inl rfl
        omega
      refine z_astore (q := 115) (i := 6) (lv' := [(6, .ref xx), (0, .ref a0_43), (1, .int i1_43), (2, .int i2_43), (3, .int i3_43), (4, .int i4_43), (5, .int i5_43)]) C dX0_pour_113 (by decide) rfl rfl ?_
      refine z_aload_n (q := 116) (i := 0) C 1 dX0_pour_115 rfl rfl rfl ?_
      refine z_aload (q := 118) (i := 6) C 0 dX0_pour_116 rfl rfl ?_
      refine z_callVi (q := 121) (As := [.ref xx]) C (fun o ho => m_X0_no _ _ _ ho) zk0 vvX0_147 cdX0_no pnX0 dX0_pour_118 rfl (by decide) (Nat.le_of_ble_eq_true rfl) hf rfl fun v8 σ hf => ?_
      refine z_rz C hf fun hn hf => ?_
      exact z_zreturn C rfl hn dX0_pour_121 (Option.some.inj hf)
    refine z_astore (q := 54) (i := 6) (lv' := [(6, .ref v2), (0, .ref a0_43), (1, .int i1_43), (2, .int i2_43), (3, .int i3_43), (4, .int i4_43), (5, .int i5_43)]) C dX0_pour_52 (by decide) rfl rfl ?_
    refine z_aload_n (q := 55) (i := 0) C 1 dX0_pour_54 rfl rfl rfl ?_
    refine z_iload_n (q := 56) (i := 3) C 4 dX0_pour_55 rfl rfl rfl ?_
    refine z_callXVr (q := 59) (As := [.int i3_43]) C (fun o ho => m_X0_on _ _ _ ho) zk0 vvX0_151 cdX0_on pnX0 dX0_pour_56 rfl (by decide) (Nat.le_of_ble_eq_true rfl) hf rfl (fun xx σ hf T locs ls hP hL h1 h2 hl X0 => ?_) fun v3 σ hf => ?_
    · refine zcaughtO (q := 113) C 1 rfl zk3 (by decide) (by decide) (fun j hj y hy => ?_) q267 (zNw_in q269 rfl) hf hP hL h1 h2 hl X0 rfl (fun hf => ?_)
      · by_cases hj0 : j = 0
        · subst hj0
          obtain rfl : (85, 97, 100, 181) = y := Option.some.inj hy
          exact Or.inl rfl
        omega
      refine z_astore (q := 115) (i := 6) (lv' := [(6, .ref xx), (0, .ref a0_43), (1, .int i1_43), (2, .int i2_43), (3, .int i3_43), (4, .int i4_43), (5, .int i5_43)]) C dX0_pour_113 (by decide) rfl rfl ?_
      refine z_aload_n (q := 116) (i := 0) C 1 dX0_pour_115 rfl rfl rfl ?_
      refine z_aload (q := 118) (i := 6) C 0 dX0_pour_116 rfl rfl ?_
      refine z_callVi (q := 121) (As := [.ref xx]) C (fun o ho => m_X0_no _ _ _ ho) zk0 vvX0_147 cdX0_no pnX0 dX0_pour_118 rfl (by decide) (Nat.le_of_ble_eq_true rfl) hf rfl fun v6 σ hf => ?_
      refine z_rz C hf fun hn hf => ?_
      exact z_zreturn C rfl hn dX0_pour_121 (Option.some.inj hf)
    refine z_astore (q := 61) (i := 7) (lv' := [(7, .ref v3), (6, .ref v2), (0, .ref a0_43), (1, .int i1_43), (2, .int i2_43), (3, .int i3_43), (4, .int i4_43), (5, .int i5_43)]) C dX0_pour_59 (by decide) rfl rfl ?_
    refine z_aload_n (q := 62) (i := 0) C 2 dX0_pour_61 rfl rfl rfl ?_
    refine z_aload (q := 64) (i := 6) C 1 dX0_pour_62 rfl rfl ?_
    refine z_callSi (q := 67) (As := [.ref v2]) C (fun o ho => m_X0_sortOf _ _ ho) vsX0_171 cdX0_sortOf pnX0 dX0_pour_64 rfl (by decide) (Nat.le_of_ble_eq_true rfl) hf rfl fun v4 σ hf => ?_
    refine z_aload (q := 69) (i := 7) C 0 dX0_pour_67 rfl rfl ?_
    refine z_callSi (q := 72) (As := [.ref v3]) C (fun o ho => m_X0_sortOf _ _ ho) vsX0_171 cdX0_sortOf pnX0 dX0_pour_69 rfl (by decide) (Nat.le_of_ble_eq_true rfl) hf rfl fun v5 σ hf => ?_
    refine z_icmpne (q := 75) (tgt := 79) C dX0_pour_72 (by decide) rfl hf (fun c72 hf => ?_) (fun c72 hf => ?_)
    · refine z_iconst (q := 80) C (0 : Int32) dX0_pour_79 ki_0 rfl ?_
      refine z_lv [2, 4, 6, 7, 1, 0] rfl ?_
      exact j80_0 a0_43 i2_43 i4_43 i5_43 v2 v3 (0 : Int32) a0_43 σ hf
    · refine z_iconst (q := 76) C (1 : Int32) dX0_pour_75 ki_1 rfl ?_
      refine z_goto (q := 80) C dX0_pour_76 (by decide) ?_
      refine z_lv [2, 4, 6, 7, 1, 0] rfl ?_
      exact j80_0 a0_43 i2_43 i4_43 i5_43 v2 v3 (1 : Int32) a0_43 σ hf
  have j42_0 : ∀ (a0_42 : Nat) (i1_42 : Int32) (i2_42 : Int32) (i3_42 : Int32) (i4_42 : Int32) (i5_42 : Int32) (w0_42 : Nat) (σ : ZT), f_X0_pour_J42 a0_42 i1_42 i2_42 i3_42 i4_42 i5_42 w0_42 σ = some out → ZW l G 9 X (ZQ G X (.returned (some (.int out.1))) out.2) σ 42 [(0, .ref a0_42), (1, .int i1_42), (2, .int i2_42), (3, .int i3_42), (4, .int i4_42), (5, .int i5_42)] [.ref w0_42] := by
    intro a0_42 i1_42 i2_42 i3_42 i4_42 i5_42 w0_42 σ hf
    unfold f_X0_pour_J42 at hf
    refine z_iconst (q := 43) C (0 : Int32) dX0_pour_42 ki_0 rfl ?_
    exact j43_0 a0_42 i1_42 i2_42 i3_42 i4_42 i5_42 (0 : Int32) w0_42 σ hf
  refine z_aload_n (q := 1) (i := 0) C 0 dX0_pour_0 rfl rfl rfl ?_
  refine z_iconst (q := 2) C (0 : Int32) dX0_pour_1 ki_0 rfl ?_
  refine z_putI (q := 5) C puX0_110 dX0_pour_2 hf rfl fun σ hf => ?_
  refine z_aload_n (q := 6) (i := 0) C 0 dX0_pour_5 rfl rfl rfl ?_
  refine z_iload_n (q := 7) (i := 1) C 1 dX0_pour_6 rfl rfl rfl ?_
  refine z_iflt (q := 10) (tgt := 42) C dX0_pour_7 (by decide) rfl hf (fun c7 hf => ?_) (fun c7 hf => ?_)
  · exact j42_0 a0 i1 i2 i3 i4 i5 a0 σ hf
  · refine z_iload_n (q := 11) (i := 1) C 1 dX0_pour_10 rfl rfl rfl ?_
    refine z_iconst (q := 12) C (4 : Int32) dX0_pour_11 ki_4 rfl ?_
    refine z_icmpge (q := 15) (tgt := 42) C dX0_pour_12 (by decide) rfl hf (fun c12 hf => ?_) (fun c12 hf => ?_)
    · exact j42_0 a0 i1 i2 i3 i4 i5 a0 σ hf
    · refine z_iload_n (q := 16) (i := 3) C 3 dX0_pour_15 rfl rfl rfl ?_
      refine z_iflt (q := 19) (tgt := 42) C dX0_pour_16 (by decide) rfl hf (fun c16 hf => ?_) (fun c16 hf => ?_)
      · exact j42_0 a0 i1 i2 i3 i4 i5 a0 σ hf
      · refine z_iload_n (q := 20) (i := 3) C 3 dX0_pour_19 rfl rfl rfl ?_
        refine z_iconst (q := 21) C (4 : Int32) dX0_pour_20 ki_4 rfl ?_
        refine z_icmpge (q := 24) (tgt := 42) C dX0_pour_21 (by decide) rfl hf (fun c21 hf => ?_) (fun c21 hf => ?_)
        · exact j42_0 a0 i1 i2 i3 i4 i5 a0 σ hf
        · refine z_iload_n (q := 25) (i := 2) C 2 dX0_pour_24 rfl rfl rfl ?_
          refine z_iflt (q := 28) (tgt := 42) C dX0_pour_25 (by decide) rfl hf (fun c25 hf => ?_) (fun c25 hf => ?_)
          · exact j42_0 a0 i1 i2 i3 i4 i5 a0 σ hf
          · refine z_iload (q := 30) (i := 4) C 4 dX0_pour_28 rfl rfl ?_
            refine z_iflt (q := 33) (tgt := 42) C dX0_pour_30 (by decide) rfl hf (fun c30 hf => ?_) (fun c30 hf => ?_)
            · exact j42_0 a0 i1 i2 i3 i4 i5 a0 σ hf
            · refine z_iload (q := 35) (i := 5) C 5 dX0_pour_33 rfl rfl ?_
              refine z_iflt (q := 38) (tgt := 42) C dX0_pour_35 (by decide) rfl hf (fun c35 hf => ?_) (fun c35 hf => ?_)
              · exact j42_0 a0 i1 i2 i3 i4 i5 a0 σ hf
              · refine z_iconst (q := 39) C (1 : Int32) dX0_pour_38 ki_1 rfl ?_
                refine z_goto (q := 43) C dX0_pour_39 (by decide) ?_
                exact j43_0 a0 i1 i2 i3 i4 i5 (1 : Int32) a0 σ hf

