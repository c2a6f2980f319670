set_option maxRecDepth 100000
noncomputable def f_J11_signum (l0 : Int64) (σ : ZT) : Option (Int32 × ZT) :=
  some ((((l0 >>> ((63 : Int32).toInt64 &&& 63)) ||| ((-l0).toUInt64 >>> ((63 : Int32).toInt64.toUInt64 &&& Int64.toUInt64 63)).toInt64).toInt32), σ)
set_option maxHeartbeats 4000000 in
theorem m_J11_signum {l : Launch} {G : ZG} (l0 : Int64) (σ : ZT) {out : (Int32 × ZT)} (hf : f_J11_signum l0 σ = some out) : ZM l G yJ11_signum cJ11_signum 2 (some .int) [] 1 [.long l0] σ (.returned (some (.int out.1))) out.2 := by
  refine ZM.of [(0, .long l0)] rfl (Nat.le_of_ble_eq_true rfl) fun X (C : ZC G RJ11 "signum" cJ11_signum 2 (some .int) [] X 1) => ?_
  unfold f_J11_signum at hf
  refine z_lload_n (q := 1) (i := 0) C 0 dJ11_signum_0 rfl rfl rfl ?_
  refine z_bipush (q := 3) C (63 : Int32) dJ11_signum_1 kb_63 rfl ?_
  refine z_lshr (q := 4) C dJ11_signum_3 rfl ?_
  refine z_lload_n (q := 5) (i := 0) C 0 dJ11_signum_4 rfl rfl rfl ?_
  refine z_lneg (q := 6) C dJ11_signum_5 rfl ?_
  refine z_bipush (q := 8) C (63 : Int32) dJ11_signum_6 kb_63 rfl ?_
  refine z_lushr (q := 9) C dJ11_signum_8 rfl ?_
  refine z_lor (q := 10) C dJ11_signum_9 rfl ?_
  refine z_l2i (q := 11) C dJ11_signum_10 rfl ?_
  exact z_ireturn C rfl dJ11_signum_11 (Option.some.inj hf)

