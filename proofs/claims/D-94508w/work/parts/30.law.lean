set_option maxRecDepth 100000
noncomputable def f_L_law_J1510_18 (sL : Nat) (sx : Nat → Int32) (x0_1510 : Nat) (a1_1510 : Nat) (a2_1510 : Nat) (i3_1510 : Int32) (σ : ZT) : Option ((Int32 × ZT) ⊕ ((Int32 × ZT) ⊕ ZT)) :=
  some (.inl ((i3_1510 + (6 : Int32)), σ))
noncomputable def f_L_law_L18 (sL : Nat) (sx : Nat → Int32) (c0_18 : Nat) (c1_18 : Nat) (c2_18 : Nat) (i_5 : Int32) (σ : ZT) : Option ((Int32 × ZT) ⊕ ((Int32 × ZT) ⊕ ZT)) :=
  (some (Int32.ofNat sL)).bind fun v6 =>
  if (v6 - (6 : Int32)) < i_5 then
  (some (.inr (.inr σ)))
  else
  ((zscr sL sx i_5).bind fun v7 =>
  if (v7 &&& (63 : Int32)) = (0 : Int32) then
  (bnd2 (vc 0 c1_18 σ (f_X0_status c1_18 σ)) fun v8 σ =>
  bnd2 (vc 9 c2_18 σ (f_X9_status c2_18 σ)) fun v9 σ =>
  if v8 = v9 then
  (f_L_law_J1510_18 sL sx c0_18 c1_18 c2_18 i_5 σ)
  else
  (some (.inr (.inl ((0 : Int32), σ)))))
  else if (v7 &&& (63 : Int32)) = (1 : Int32) then
  (bnd2 (vc 0 c1_18 σ (f_X0_top c1_18 σ)) fun v10 σ =>
  bnd2 (vc 9 c2_18 σ (f_X9_top c2_18 σ)) fun v11 σ =>
  if (lg_cmp v10 v11) = 0 then
  (f_L_law_J1510_18 sL sx c0_18 c1_18 c2_18 i_5 σ)
  else
  (some (.inr (.inl ((0 : Int32), σ)))))
  else if (v7 &&& (63 : Int32)) = (2 : Int32) then
  (bnd2 (vc 0 c1_18 σ (f_X0_bottom c1_18 σ)) fun v12 σ =>
  bnd2 (vc 9 c2_18 σ (f_X9_bottom c2_18 σ)) fun v13 σ =>
  if (lg_cmp v12 v13) = 0 then
  (f_L_law_J1510_18 sL sx c0_18 c1_18 c2_18 i_5 σ)
  else
  (some (.inr (.inl ((0 : Int32), σ)))))
  else if (v7 &&& (63 : Int32)) = (3 : Int32) then
  ((zscr sL sx (i_5 + (1 : Int32))).bind fun v14 =>
  (zscr sL sx (i_5 + (2 : Int32))).bind fun v15 =>
  (zscr sL sx (i_5 + (3 : Int32))).bind fun v16 =>
  bnd2 (vc 0 c1_18 σ (f_X0_tray c1_18 v14 v15 v16 σ)) fun v17 σ =>
  (zscr sL sx (i_5 + (1 : Int32))).bind fun v18 =>
  (zscr sL sx (i_5 + (2 : Int32))).bind fun v19 =>
  (zscr sL sx (i_5 + (3 : Int32))).bind fun v20 =>
  bnd2 (vc 9 c2_18 σ (f_X9_tray c2_18 v18 v19 v20 σ)) fun v21 σ =>
  if v17 = v21 then
  (f_L_law_J1510_18 sL sx c0_18 c1_18 c2_18 i_5 σ)
  else
  (some (.inr (.inl ((0 : Int32), σ)))))
  else if (v7 &&& (63 : Int32)) = (4 : Int32) then
  ((zscr sL sx (i_5 + (1 : Int32))).bind fun v22 =>
  (zscr sL sx (i_5 + (2 : Int32))).bind fun v23 =>
  (zscr sL sx (i_5 + (3 : Int32))).bind fun v24 =>
  (zscr sL sx (i_5 + (4 : Int32))).bind fun v25 =>
  bnd2 (vc 0 c1_18 σ (f_X0_write c1_18 v22 v23 (((v24.toInt64) <<< ((32 : Int32).toInt64 &&& 63)) ||| ((v25.toInt64) &&& (4294967295 : Int64))) σ)) fun v26 σ =>
  (zscr sL sx (i_5 + (1 : Int32))).bind fun v27 =>
  (zscr sL sx (i_5 + (2 : Int32))).bind fun v28 =>
  (zscr sL sx (i_5 + (3 : Int32))).bind fun v29 =>
  (zscr sL sx (i_5 + (4 : Int32))).bind fun v30 =>
  bnd2 (vc 9 c2_18 σ (f_X9_write c2_18 v27 v28 (((v29.toInt64) <<< ((32 : Int32).toInt64 &&& 63)) ||| ((v30.toInt64) &&& (4294967295 : Int64))) σ)) fun v31 σ =>
  if v26 = v31 then
  (f_L_law_J1510_18 sL sx c0_18 c1_18 c2_18 i_5 σ)
  else
  (some (.inr (.inl ((0 : Int32), σ)))))
  else if (v7 &&& (63 : Int32)) = (5 : Int32) then
  ((zscr sL sx (i_5 + (1 : Int32))).bind fun v32 =>
  (zscr sL sx (i_5 + (2 : Int32))).bind fun v33 =>
  bnd2 (vc 0 c1_18 σ (f_X0_read c1_18 v32 v33 σ)) fun v34 σ =>
  (zscr sL sx (i_5 + (1 : Int32))).bind fun v35 =>
  (zscr sL sx (i_5 + (2 : Int32))).bind fun v36 =>
  bnd2 (vc 9 c2_18 σ (f_X9_read c2_18 v35 v36 σ)) fun v37 σ =>
  if (lg_cmp v34 v37) = 0 then
  (f_L_law_J1510_18 sL sx c0_18 c1_18 c2_18 i_5 σ)
  else
  (some (.inr (.inl ((0 : Int32), σ)))))
  else if (v7 &&& (63 : Int32)) = (6 : Int32) then
  ((zscr sL sx (i_5 + (1 : Int32))).bind fun v38 =>
  (zscr sL sx (i_5 + (2 : Int32))).bind fun v39 =>
  (zscr sL sx (i_5 + (3 : Int32))).bind fun v40 =>
  (zscr sL sx (i_5 + (4 : Int32))).bind fun v41 =>
  (zscr sL sx (i_5 + (5 : Int32))).bind fun v42 =>
  bnd2 (vc 0 c1_18 σ (f_X0_pour c1_18 v38 v39 v40 v41 v42 σ)) fun v43 σ =>
  (zscr sL sx (i_5 + (1 : Int32))).bind fun v44 =>
  (zscr sL sx (i_5 + (2 : Int32))).bind fun v45 =>
  (zscr sL sx (i_5 + (3 : Int32))).bind fun v46 =>
  (zscr sL sx (i_5 + (4 : Int32))).bind fun v47 =>
  (zscr sL sx (i_5 + (5 : Int32))).bind fun v48 =>
  bnd2 (vc 9 c2_18 σ (f_X9_pour c2_18 v44 v45 v46 v47 v48 σ)) fun v49 σ =>
  if v43 = v49 then
  (f_L_law_J1510_18 sL sx c0_18 c1_18 c2_18 i_5 σ)
  else
  (some (.inr (.inl ((0 : Int32), σ)))))
  else if (v7 &&& (63 : Int32)) = (7 : Int32) then
  ((zscr sL sx (i_5 + (1 : Int32))).bind fun v50 =>
  (zscr sL sx (i_5 + (2 : Int32))).bind fun v51 =>
  (zscr sL sx (i_5 + (3 : Int32))).bind fun v52 =>
  (zscr sL sx (i_5 + (4 : Int32))).bind fun v53 =>
  (zscr sL sx (i_5 + (5 : Int32))).bind fun v54 =>
  bnd2 (vc 0 c1_18 σ (f_X0_feed c1_18 v50 v51 v52 v53 v54 σ)) fun v55 σ =>
  (zscr sL sx (i_5 + (1 : Int32))).bind fun v56 =>
  (zscr sL sx (i_5 + (2 : Int32))).bind fun v57 =>
  (zscr sL sx (i_5 + (3 : Int32))).bind fun v58 =>
  (zscr sL sx (i_5 + (4 : Int32))).bind fun v59 =>
  (zscr sL sx (i_5 + (5 : Int32))).bind fun v60 =>
  bnd2 (vc 9 c2_18 σ (f_X9_feed c2_18 v56 v57 v58 v59 v60 σ)) fun v61 σ =>
  if v55 = v61 then
  (f_L_law_J1510_18 sL sx c0_18 c1_18 c2_18 i_5 σ)
  else
  (some (.inr (.inl ((0 : Int32), σ)))))
  else if (v7 &&& (63 : Int32)) = (8 : Int32) then
  ((zscr sL sx (i_5 + (1 : Int32))).bind fun v62 =>
  bnd2 (vc 0 c1_18 σ (f_X0_town c1_18 v62 σ)) fun v63 σ =>
  (zscr sL sx (i_5 + (1 : Int32))).bind fun v64 =>
  bnd2 (vc 9 c2_18 σ (f_X9_town c2_18 v64 σ)) fun v65 σ =>
  if v63 = v65 then
  (f_L_law_J1510_18 sL sx c0_18 c1_18 c2_18 i_5 σ)
  else
  (some (.inr (.inl ((0 : Int32), σ)))))
  else if (v7 &&& (63 : Int32)) = (9 : Int32) then
  ((zscr sL sx (i_5 + (1 : Int32))).bind fun v66 =>
  bnd2 (vc 0 c1_18 σ (f_X0_orders c1_18 v66 σ)) fun v67 σ =>
  (zscr sL sx (i_5 + (1 : Int32))).bind fun v68 =>
  bnd2 (vc 9 c2_18 σ (f_X9_orders c2_18 v68 σ)) fun v69 σ =>
  if v67 = v69 then
  (f_L_law_J1510_18 sL sx c0_18 c1_18 c2_18 i_5 σ)
  else
  (some (.inr (.inl ((0 : Int32), σ)))))
  else if (v7 &&& (63 : Int32)) = (10 : Int32) then
  ((zscr sL sx (i_5 + (1 : Int32))).bind fun v70 =>
  bnd2 (vc 0 c1_18 σ (f_X0_fault c1_18 v70 σ)) fun v71 σ =>
  (zscr sL sx (i_5 + (1 : Int32))).bind fun v72 =>
  bnd2 (vc 9 c2_18 σ (f_X9_fault c2_18 v72 σ)) fun v73 σ =>
  if v71 = v73 then
  (f_L_law_J1510_18 sL sx c0_18 c1_18 c2_18 i_5 σ)
  else
  (some (.inr (.inl ((0 : Int32), σ)))))
  else if (v7 &&& (63 : Int32)) = (11 : Int32) then
  ((zscr sL sx (i_5 + (1 : Int32))).bind fun v74 =>
  bnd2 (vc 0 c1_18 σ (f_X0_told c1_18 v74 σ)) fun v75 σ =>
  (zscr sL sx (i_5 + (1 : Int32))).bind fun v76 =>
  bnd2 (vc 9 c2_18 σ (f_X9_told c2_18 v76 σ)) fun v77 σ =>
  if v75 = v77 then
  (f_L_law_J1510_18 sL sx c0_18 c1_18 c2_18 i_5 σ)
  else
  (some (.inr (.inl ((0 : Int32), σ)))))
  else if (v7 &&& (63 : Int32)) = (12 : Int32) then
  ((zscr sL sx (i_5 + (1 : Int32))).bind fun v78 =>
  (zscr sL sx (i_5 + (2 : Int32))).bind fun v79 =>
  bnd2 (vc 0 c1_18 σ (f_X0_bridge c1_18 v78 v79 σ)) fun v80 σ =>
  (zscr sL sx (i_5 + (1 : Int32))).bind fun v81 =>
  (zscr sL sx (i_5 + (2 : Int32))).bind fun v82 =>
  bnd2 (vc 9 c2_18 σ (f_X9_bridge c2_18 v81 v82 σ)) fun v83 σ =>
  if v80 = v83 then
  (f_L_law_J1510_18 sL sx c0_18 c1_18 c2_18 i_5 σ)
  else
  (some (.inr (.inl ((0 : Int32), σ)))))
  else if (v7 &&& (63 : Int32)) = (13 : Int32) then
  ((zscr sL sx (i_5 + (1 : Int32))).bind fun v84 =>
  (zscr sL sx (i_5 + (2 : Int32))).bind fun v85 =>
  bnd2 (vc 0 c1_18 σ (f_X0_person c1_18 v84 v85 σ)) fun v86 σ =>
  (zscr sL sx (i_5 + (1 : Int32))).bind fun v87 =>
  (zscr sL sx (i_5 + (2 : Int32))).bind fun v88 =>
  bnd2 (vc 9 c2_18 σ (f_X9_person c2_18 v87 v88 σ)) fun v89 σ =>
  if v86 = v89 then
  (f_L_law_J1510_18 sL sx c0_18 c1_18 c2_18 i_5 σ)
  else
  (some (.inr (.inl ((0 : Int32), σ)))))
  else if (v7 &&& (63 : Int32)) = (14 : Int32) then
  ((zscr sL sx (i_5 + (1 : Int32))).bind fun v90 =>
  bnd2 (vc 0 c1_18 σ (f_X0_stones c1_18 v90 σ)) fun v91 σ =>
  (zscr sL sx (i_5 + (1 : Int32))).bind fun v92 =>
  bnd2 (vc 9 c2_18 σ (f_X9_stones c2_18 v92 σ)) fun v93 σ =>
  if v91 = v93 then
  (f_L_law_J1510_18 sL sx c0_18 c1_18 c2_18 i_5 σ)
  else
  (some (.inr (.inl ((0 : Int32), σ)))))
  else if (v7 &&& (63 : Int32)) = (15 : Int32) then
  ((zscr sL sx (i_5 + (1 : Int32))).bind fun v94 =>
  bnd2 (vc 0 c1_18 σ (f_X0_at c1_18 v94 σ)) fun v95 σ =>
  (zscr sL sx (i_5 + (1 : Int32))).bind fun v96 =>
  bnd2 (vc 9 c2_18 σ (f_X9_at c2_18 v96 σ)) fun v97 σ =>
  if v95 = v97 then
  (f_L_law_J1510_18 sL sx c0_18 c1_18 c2_18 i_5 σ)
  else
  (some (.inr (.inl ((0 : Int32), σ)))))
  else if (v7 &&& (63 : Int32)) = (16 : Int32) then
  ((zscr sL sx (i_5 + (1 : Int32))).bind fun v98 =>
  bnd2 (vc 0 c1_18 σ (f_X0_carries c1_18 v98 σ)) fun v99 σ =>
  (zscr sL sx (i_5 + (1 : Int32))).bind fun v100 =>
  bnd2 (vc 9 c2_18 σ (f_X9_carries c2_18 v100 σ)) fun v101 σ =>
  if v99 = v101 then
  (f_L_law_J1510_18 sL sx c0_18 c1_18 c2_18 i_5 σ)
  else
  (some (.inr (.inl ((0 : Int32), σ)))))
  else if (v7 &&& (63 : Int32)) = (17 : Int32) then
  ((zscr sL sx (i_5 + (1 : Int32))).bind fun v102 =>
  (zscr sL sx (i_5 + (2 : Int32))).bind fun v103 =>
  bnd2 (vc 0 c1_18 σ (f_X0_load c1_18 v102 v103 σ)) fun v104 σ =>
  (zscr sL sx (i_5 + (1 : Int32))).bind fun v105 =>
  (zscr sL sx (i_5 + (2 : Int32))).bind fun v106 =>
  bnd2 (vc 9 c2_18 σ (f_X9_load c2_18 v105 v106 σ)) fun v107 σ =>
  if v104 = v107 then
  (f_L_law_J1510_18 sL sx c0_18 c1_18 c2_18 i_5 σ)
  else
  (some (.inr (.inl ((0 : Int32), σ)))))
  else if (v7 &&& (63 : Int32)) = (18 : Int32) then
  ((zscr sL sx (i_5 + (1 : Int32))).bind fun v108 =>
  bnd2 (vc 0 c1_18 σ (f_X0_weight c1_18 v108 σ)) fun v109 σ =>
  (zscr sL sx (i_5 + (1 : Int32))).bind fun v110 =>
  bnd2 (vc 9 c2_18 σ (f_X9_weight c2_18 v110 σ)) fun v111 σ =>
  if v109 = v111 then
  (f_L_law_J1510_18 sL sx c0_18 c1_18 c2_18 i_5 σ)
  else
  (some (.inr (.inl ((0 : Int32), σ)))))
  else if (v7 &&& (63 : Int32)) = (19 : Int32) then
  ((zscr sL sx (i_5 + (1 : Int32))).bind fun v112 =>
  bnd2 (vc 0 c1_18 σ (f_X0_hangs c1_18 v112 σ)) fun v113 σ =>
  (zscr sL sx (i_5 + (1 : Int32))).bind fun v114 =>
  bnd2 (vc 9 c2_18 σ (f_X9_hangs c2_18 v114 σ)) fun v115 σ =>
  if v113 = v115 then
  (f_L_law_J1510_18 sL sx c0_18 c1_18 c2_18 i_5 σ)
  else
  (some (.inr (.inl ((0 : Int32), σ)))))
  else if (v7 &&& (63 : Int32)) = (20 : Int32) then
  ((zscr sL sx (i_5 + (1 : Int32))).bind fun v116 =>
  (zscr sL sx (i_5 + (2 : Int32))).bind fun v117 =>
  bnd2 (vc 0 c1_18 σ (f_X0_put_2 c1_18 v116 v117 σ)) fun v118 σ =>
  (zscr sL sx (i_5 + (1 : Int32))).bind fun v119 =>
  (zscr sL sx (i_5 + (2 : Int32))).bind fun v120 =>
  bnd2 (vc 9 c2_18 σ (f_X9_put c2_18 v119 v120 σ)) fun v121 σ =>
  if v118 = v121 then
  (f_L_law_J1510_18 sL sx c0_18 c1_18 c2_18 i_5 σ)
  else
  (some (.inr (.inl ((0 : Int32), σ)))))
  else if (v7 &&& (63 : Int32)) = (21 : Int32) then
  ((zscr sL sx (i_5 + (1 : Int32))).bind fun v122 =>
  (zscr sL sx (i_5 + (2 : Int32))).bind fun v123 =>
  bnd2 (vc 0 c1_18 σ (f_X0_go c1_18 v122 v123 σ)) fun v124 σ =>
  (zscr sL sx (i_5 + (1 : Int32))).bind fun v125 =>
  (zscr sL sx (i_5 + (2 : Int32))).bind fun v126 =>
  bnd2 (vc 9 c2_18 σ (f_X9_go c2_18 v125 v126 σ)) fun v127 σ =>
  if v124 = v127 then
  (f_L_law_J1510_18 sL sx c0_18 c1_18 c2_18 i_5 σ)
  else
  (some (.inr (.inl ((0 : Int32), σ)))))
  else if (v7 &&& (63 : Int32)) = (22 : Int32) then
  ((zscr sL sx (i_5 + (1 : Int32))).bind fun v128 =>
  (zscr sL sx (i_5 + (2 : Int32))).bind fun v129 =>
  (zscr sL sx (i_5 + (3 : Int32))).bind fun v130 =>
  bnd2 (vc 0 c1_18 σ (f_X0_both c1_18 v128 v129 v130 σ)) fun v131 σ =>
  (zscr sL sx (i_5 + (1 : Int32))).bind fun v132 =>
  (zscr sL sx (i_5 + (2 : Int32))).bind fun v133 =>
  (zscr sL sx (i_5 + (3 : Int32))).bind fun v134 =>
  bnd2 (vc 9 c2_18 σ (f_X9_both c2_18 v132 v133 v134 σ)) fun v135 σ =>
  if v131 = v135 then
  (f_L_law_J1510_18 sL sx c0_18 c1_18 c2_18 i_5 σ)
  else
  (some (.inr (.inl ((0 : Int32), σ)))))
  else if (v7 &&& (63 : Int32)) = (23 : Int32) then
  ((zscr sL sx (i_5 + (1 : Int32))).bind fun v136 =>
  (zscr sL sx (i_5 + (2 : Int32))).bind fun v137 =>
  (zscr sL sx (i_5 + (3 : Int32))).bind fun v138 =>
  bnd2 (vc 0 c1_18 σ (f_X0_why c1_18 v136 v137 v138 σ)) fun v139 σ =>
  (zscr sL sx (i_5 + (1 : Int32))).bind fun v140 =>
  (zscr sL sx (i_5 + (2 : Int32))).bind fun v141 =>
  (zscr sL sx (i_5 + (3 : Int32))).bind fun v142 =>
  bnd2 (vc 9 c2_18 σ (f_X9_why c2_18 v140 v141 v142 σ)) fun v143 σ =>
  if v139 = v143 then
  (f_L_law_J1510_18 sL sx c0_18 c1_18 c2_18 i_5 σ)
  else
  (some (.inr (.inl ((0 : Int32), σ)))))
  else if (v7 &&& (63 : Int32)) = (24 : Int32) then
  ((zscr sL sx (i_5 + (1 : Int32))).bind fun v144 =>
  (zscr sL sx (i_5 + (2 : Int32))).bind fun v145 =>
  bnd2 (vc 0 c1_18 σ (f_X0_lift c1_18 v144 v145 σ)) fun v146 σ =>
  (zscr sL sx (i_5 + (1 : Int32))).bind fun v147 =>
  (zscr sL sx (i_5 + (2 : Int32))).bind fun v148 =>
  bnd2 (vc 9 c2_18 σ (f_X9_lift c2_18 v147 v148 σ)) fun v149 σ =>
  if v146 = v149 then
  (f_L_law_J1510_18 sL sx c0_18 c1_18 c2_18 i_5 σ)
  else
  (some (.inr (.inl ((0 : Int32), σ)))))
  else if (v7 &&& (63 : Int32)) = (25 : Int32) then
  ((zscr sL sx (i_5 + (1 : Int32))).bind fun v150 =>
  bnd2 (vc 0 c1_18 σ (f_X0_drop c1_18 v150 σ)) fun v151 σ =>
  (zscr sL sx (i_5 + (1 : Int32))).bind fun v152 =>
  bnd2 (vc 9 c2_18 σ (f_X9_drop c2_18 v152 σ)) fun v153 σ =>
  if v151 = v153 then
  (f_L_law_J1510_18 sL sx c0_18 c1_18 c2_18 i_5 σ)
  else
  (some (.inr (.inl ((0 : Int32), σ)))))
  else if (v7 &&& (63 : Int32)) = (26 : Int32) then
  (bnd2 (vc 0 c1_18 σ (f_X0_begin c1_18 σ)) fun v154 σ =>
  bnd2 (vc 9 c2_18 σ (f_X9_begin c2_18 σ)) fun v155 σ =>
  if v154 = v155 then
  (f_L_law_J1510_18 sL sx c0_18 c1_18 c2_18 i_5 σ)
  else
  (some (.inr (.inl ((0 : Int32), σ)))))
  else if (v7 &&& (63 : Int32)) = (27 : Int32) then
  ((zscr sL sx (i_5 + (1 : Int32))).bind fun v156 =>
  bnd2 (vc 0 c1_18 σ (f_X0_least c1_18 v156 σ)) fun v157 σ =>
  (zscr sL sx (i_5 + (1 : Int32))).bind fun v158 =>
  bnd2 (vc 9 c2_18 σ (f_X9_least c2_18 v158 σ)) fun v159 σ =>
  if v157 = v159 then
  (f_L_law_J1510_18 sL sx c0_18 c1_18 c2_18 i_5 σ)
  else
  (some (.inr (.inl ((0 : Int32), σ)))))
  else if (v7 &&& (63 : Int32)) = (28 : Int32) then
  (bnd2 (vc 0 c1_18 σ (f_X0_first c1_18 σ)) fun v160 σ =>
  bnd2 (vc 9 c2_18 σ (f_X9_first c2_18 σ)) fun v161 σ =>
  if v160 = v161 then
  (f_L_law_J1510_18 sL sx c0_18 c1_18 c2_18 i_5 σ)
  else
  (some (.inr (.inl ((0 : Int32), σ)))))
  else if (v7 &&& (63 : Int32)) = (29 : Int32) then
  ((zscr sL sx (i_5 + (1 : Int32))).bind fun v162 =>
  (zscr sL sx (i_5 + (2 : Int32))).bind fun v163 =>
  bnd2 (vc 0 c1_18 σ (f_X0_firstAt c1_18 v162 v163 σ)) fun v164 σ =>
  (zscr sL sx (i_5 + (1 : Int32))).bind fun v165 =>
  (zscr sL sx (i_5 + (2 : Int32))).bind fun v166 =>
  bnd2 (vc 9 c2_18 σ (f_X9_firstAt c2_18 v165 v166 σ)) fun v167 σ =>
  if v164 = v167 then
  (f_L_law_J1510_18 sL sx c0_18 c1_18 c2_18 i_5 σ)
  else
  (some (.inr (.inl ((0 : Int32), σ)))))
  else if (v7 &&& (63 : Int32)) = (30 : Int32) then
  ((zscr sL sx (i_5 + (1 : Int32))).bind fun v168 =>
  bnd2 (vc 0 c1_18 σ (f_X0_reach c1_18 v168 σ)) fun v169 σ =>
  (zscr sL sx (i_5 + (1 : Int32))).bind fun v170 =>
  bnd2 (vc 9 c2_18 σ (f_X9_reach c2_18 v170 σ)) fun v171 σ =>
  if v169 = v171 then
  (f_L_law_J1510_18 sL sx c0_18 c1_18 c2_18 i_5 σ)
  else
  (some (.inr (.inl ((0 : Int32), σ)))))
  else if (v7 &&& (63 : Int32)) = (31 : Int32) then
  ((zscr sL sx (i_5 + (1 : Int32))).bind fun v172 =>
  (zscr sL sx (i_5 + (2 : Int32))).bind fun v173 =>
  bnd2 (vc 0 c1_18 σ (f_X0_fewest c1_18 v172 v173 σ)) fun v174 σ =>
  (zscr sL sx (i_5 + (1 : Int32))).bind fun v175 =>
  (zscr sL sx (i_5 + (2 : Int32))).bind fun v176 =>
  bnd2 (vc 9 c2_18 σ (f_X9_fewest c2_18 v175 v176 σ)) fun v177 σ =>
  if v174 = v177 then
  (f_L_law_J1510_18 sL sx c0_18 c1_18 c2_18 i_5 σ)
  else
  (some (.inr (.inl ((0 : Int32), σ)))))
  else if (v7 &&& (63 : Int32)) = (32 : Int32) then
  (bnd2 (vc 0 c1_18 σ (f_X0_states c1_18 σ)) fun v178 σ =>
  bnd2 (vc 9 c2_18 σ (f_X9_states c2_18 σ)) fun v179 σ =>
  if v178 = v179 then
  (f_L_law_J1510_18 sL sx c0_18 c1_18 c2_18 i_5 σ)
  else
  (some (.inr (.inl ((0 : Int32), σ)))))
  else if (v7 &&& (63 : Int32)) = (33 : Int32) then
  ((zscr sL sx (i_5 + (1 : Int32))).bind fun v180 =>
  bnd2 (vc 0 c1_18 σ (f_X0_most c1_18 v180 σ)) fun v181 σ =>
  (zscr sL sx (i_5 + (1 : Int32))).bind fun v182 =>
  bnd2 (vc 9 c2_18 σ (f_X9_most c2_18 v182 σ)) fun v183 σ =>
  if v181 = v183 then
  (f_L_law_J1510_18 sL sx c0_18 c1_18 c2_18 i_5 σ)
  else
  (some (.inr (.inl ((0 : Int32), σ)))))
  else if (v7 &&& (63 : Int32)) = (34 : Int32) then
  (bnd2 (vc 0 c1_18 σ (f_X0_lost c1_18 σ)) fun v184 σ =>
  bnd2 (vc 9 c2_18 σ (f_X9_lost c2_18 σ)) fun v185 σ =>
  if v184 = v185 then
  (f_L_law_J1510_18 sL sx c0_18 c1_18 c2_18 i_5 σ)
  else
  (some (.inr (.inl ((0 : Int32), σ)))))
  else if (v7 &&& (63 : Int32)) = (35 : Int32) then
  (bnd2 (vc 0 c1_18 σ (f_X0_safe c1_18 σ)) fun v186 σ =>
  bnd2 (vc 9 c2_18 σ (f_X9_safe c2_18 σ)) fun v187 σ =>
  if v186 = v187 then
  (f_L_law_J1510_18 sL sx c0_18 c1_18 c2_18 i_5 σ)
  else
  (some (.inr (.inl ((0 : Int32), σ)))))
  else if (v7 &&& (63 : Int32)) = (36 : Int32) then
  (bnd2 (vc 0 c1_18 σ (f_X0_free c1_18 σ)) fun v188 σ =>
  bnd2 (vc 9 c2_18 σ (f_X9_free c2_18 σ)) fun v189 σ =>
  if v188 = v189 then
  (f_L_law_J1510_18 sL sx c0_18 c1_18 c2_18 i_5 σ)
  else
  (some (.inr (.inl ((0 : Int32), σ)))))
  else if (v7 &&& (63 : Int32)) = (37 : Int32) then
  (bnd2 (vc 0 c1_18 σ (f_X0_needed c1_18 σ)) fun v190 σ =>
  bnd2 (vc 9 c2_18 σ (f_X9_needed c2_18 σ)) fun v191 σ =>
  if v190 = v191 then
  (f_L_law_J1510_18 sL sx c0_18 c1_18 c2_18 i_5 σ)
  else
  (some (.inr (.inl ((0 : Int32), σ)))))
  else if (v7 &&& (63 : Int32)) = (38 : Int32) then
  ((zscr sL sx (i_5 + (1 : Int32))).bind fun v192 =>
  bnd2 (vc 0 c1_18 σ (f_X0_stone c1_18 v192 σ)) fun v193 σ =>
  (zscr sL sx (i_5 + (1 : Int32))).bind fun v194 =>
  bnd2 (vc 9 c2_18 σ (f_X9_stone c2_18 v194 σ)) fun v195 σ =>
  if v193 = v195 then
  (f_L_law_J1510_18 sL sx c0_18 c1_18 c2_18 i_5 σ)
  else
  (some (.inr (.inl ((0 : Int32), σ)))))
  else if (v7 &&& (63 : Int32)) = (39 : Int32) then
  ((zscr sL sx (i_5 + (1 : Int32))).bind fun v196 =>
  bnd2 (vc 0 c1_18 σ (f_X0_bestStone c1_18 v196 σ)) fun v197 σ =>
  (zscr sL sx (i_5 + (1 : Int32))).bind fun v198 =>
  bnd2 (vc 9 c2_18 σ (f_X9_bestStone c2_18 v198 σ)) fun v199 σ =>
  if v197 = v199 then
  (f_L_law_J1510_18 sL sx c0_18 c1_18 c2_18 i_5 σ)
  else
  (some (.inr (.inl ((0 : Int32), σ)))))
  else if (v7 &&& (63 : Int32)) = (40 : Int32) then
  ((zscr sL sx (i_5 + (1 : Int32))).bind fun v200 =>
  (zscr sL sx (i_5 + (2 : Int32))).bind fun v201 =>
  (zscr sL sx (i_5 + (3 : Int32))).bind fun v202 =>
  bnd2 (vc 0 c1_18 σ (f_X0_rope c1_18 v200 v201 v202 σ)) fun v203 σ =>
  (zscr sL sx (i_5 + (1 : Int32))).bind fun v204 =>
  (zscr sL sx (i_5 + (2 : Int32))).bind fun v205 =>
  (zscr sL sx (i_5 + (3 : Int32))).bind fun v206 =>
  bnd2 (vc 9 c2_18 σ (f_X9_rope c2_18 v204 v205 v206 σ)) fun v207 σ =>
  if v203 = v207 then
  (f_L_law_J1510_18 sL sx c0_18 c1_18 c2_18 i_5 σ)
  else
  (some (.inr (.inl ((0 : Int32), σ)))))
  else if (v7 &&& (63 : Int32)) = (41 : Int32) then
  ((zscr sL sx (i_5 + (1 : Int32))).bind fun v208 =>
  bnd2 (vc 0 c1_18 σ (f_X0_run c1_18 v208 σ)) fun v209 σ =>
  (zscr sL sx (i_5 + (1 : Int32))).bind fun v210 =>
  bnd2 (vc 9 c2_18 σ (f_X9_run c2_18 v210 σ)) fun v211 σ =>
  if v209 = v211 then
  (f_L_law_J1510_18 sL sx c0_18 c1_18 c2_18 i_5 σ)
  else
  (some (.inr (.inl ((0 : Int32), σ)))))
  else if (v7 &&& (63 : Int32)) = (42 : Int32) then
  ((zscr sL sx (i_5 + (1 : Int32))).bind fun v212 =>
  bnd2 (vc 0 c1_18 σ (f_X0_ran c1_18 v212 σ)) fun v213 σ =>
  (zscr sL sx (i_5 + (1 : Int32))).bind fun v214 =>
  bnd2 (vc 9 c2_18 σ (f_X9_ran c2_18 v214 σ)) fun v215 σ =>
  if v213 = v215 then
  (f_L_law_J1510_18 sL sx c0_18 c1_18 c2_18 i_5 σ)
  else
  (some (.inr (.inl ((0 : Int32), σ)))))
  else if (v7 &&& (63 : Int32)) = (43 : Int32) then
  ((zscr sL sx (i_5 + (1 : Int32))).bind fun v216 =>
  bnd2 (vc 0 c1_18 σ (f_X0_ranAt c1_18 v216 σ)) fun v217 σ =>
  (zscr sL sx (i_5 + (1 : Int32))).bind fun v218 =>
  bnd2 (vc 9 c2_18 σ (f_X9_ranAt c2_18 v218 σ)) fun v219 σ =>
  if v217 = v219 then
  (f_L_law_J1510_18 sL sx c0_18 c1_18 c2_18 i_5 σ)
  else
  (some (.inr (.inl ((0 : Int32), σ)))))
  else if (v7 &&& (63 : Int32)) = (44 : Int32) then
  ((zscr sL sx (i_5 + (1 : Int32))).bind fun v220 =>
  (zscr sL sx (i_5 + (2 : Int32))).bind fun v221 =>
  bnd2 (vc 0 c1_18 σ (f_X0_odds c1_18 v220 v221 σ)) fun v222 σ =>
  (zscr sL sx (i_5 + (1 : Int32))).bind fun v223 =>
  (zscr sL sx (i_5 + (2 : Int32))).bind fun v224 =>
  bnd2 (vc 9 c2_18 σ (f_X9_odds c2_18 v223 v224 σ)) fun v225 σ =>
  if v222 = v225 then
  (f_L_law_J1510_18 sL sx c0_18 c1_18 c2_18 i_5 σ)
  else
  (some (.inr (.inl ((0 : Int32), σ)))))
  else if (v7 &&& (63 : Int32)) = (45 : Int32) then
  (bnd2 (vc 0 c1_18 σ (f_X0_mark c1_18 σ)) fun v226 σ =>
  bnd2 (vc 9 c2_18 σ (f_X9_mark c2_18 σ)) fun v227 σ =>
  if v226 = v227 then
  (f_L_law_J1510_18 sL sx c0_18 c1_18 c2_18 i_5 σ)
  else
  (some (.inr (.inl ((0 : Int32), σ)))))
  else if (v7 &&& (63 : Int32)) = (46 : Int32) then
  (bnd2 (vc 0 c1_18 σ (f_X0_back c1_18 σ)) fun v228 σ =>
  bnd2 (vc 9 c2_18 σ (f_X9_back c2_18 σ)) fun v229 σ =>
  if v228 = v229 then
  (f_L_law_J1510_18 sL sx c0_18 c1_18 c2_18 i_5 σ)
  else
  (some (.inr (.inl ((0 : Int32), σ)))))
  else (f_L_law_J1510_18 sL sx c0_18 c1_18 c2_18 i_5 σ))
noncomputable def f_L_law (sL : Nat) (sx : Nat → Int32) (a0 : Nat) (σ : ZT) : Option (Int32 × ZT) :=
  bnd2 (nwO 0 28 σ) fun v1 σ =>
  (f_X0_init v1 σ).bind fun σ =>
  bnd2 (nwO 9 54 σ) fun v3 σ =>
  (f_X9_init v3 σ).bind fun σ =>
  (loopC (fun s : (Int32 × ZT) => f_L_law_L18 sL sx a0 v1 v3 s.1 s.2) ((0 : Int32), σ)).bind fun x => (match x with
  | .inl o => some o
  | .inr σ => some ((1 : Int32), σ))
set_option maxHeartbeats 4000000 in
theorem m_L_law {l : Launch} {G : ZG} {X : ZX} (hfl : l.flags = flags0) {sL : Nat} {sx : Nat → Int32} (a0 : Nat) (hS : zScr G X a0 sL sx) (C : ZC G RL "law" cL_law 4 (some .boolean) [] X 73) (σ : ZT) {out : (Int32 × ZT)} (hf : f_L_law sL sx a0 σ = some out) : ZW l G 4 X (ZQ G X (.returned (some (.int out.1))) out.2) σ 0 [(0, .ref a0)] [] := by
  unfold f_L_law at hf
  refine z_new (q := 3) C zk0 zty0 q177 q178 q144 dL_law_0 hf rfl fun v1 σ hf => ?_
  refine z_dup (q := 4) C dL_law_3 rfl rfl ?_
  refine z_callIv (q := 7) (As := []) C (fun o ho => m_X0_init _ _ ho) viL_9 pnX0 dL_law_4 rfl (by decide) (Nat.le_of_ble_eq_true rfl) hf rfl fun σ hf => ?_
  refine z_astore_n (q := 8) (i := 1) (lv' := [(1, .ref v1), (0, .ref a0)]) C dL_law_7 rfl (by decide) rfl rfl ?_
  refine z_new (q := 11) C zk9 zty9 q1581 q1582 q155 dL_law_8 hf rfl fun v3 σ hf => ?_
  refine z_dup (q := 12) C dL_law_11 rfl rfl ?_
  refine z_callIv (q := 15) (As := []) C (fun o ho => m_X9_init _ _ ho) viL_12 pnX9 dL_law_12 rfl (by decide) (Nat.le_of_ble_eq_true rfl) hf rfl fun σ hf => ?_
  refine z_astore_n (q := 16) (i := 2) (lv' := [(2, .ref v3), (1, .ref v1), (0, .ref a0)]) C dL_law_15 rfl (by decide) rfl rfl ?_
  refine z_iconst (q := 17) C (0 : Int32) dL_law_16 ki_0 rfl ?_
  refine z_istore_n (q := 18) (i := 3) (lv' := [(3, .int (0 : Int32)), (2, .ref v3), (1, .ref v1), (0, .ref a0)]) C dL_law_17 rfl (by decide) rfl rfl ?_
  refine z_lv [3, 2, 1, 0] rfl ?_
  obtain ⟨r1, hr1, hk1⟩ := Option.bind_eq_some_iff.mp hf
  refine loopC_ind (P := fun s => ZW l G 4 X (ZQ G X (.returned (some (.int out.1))) out.2) s.2 18 [(0, .ref a0), (1, .ref v1), (2, .ref v3), (3, .int s.1)] []) (fun s x1 hf hx1 => ?_) hr1
  obtain ⟨i_5, σ⟩ := s
  unfold f_L_law_L18 at hf
  try dsimp only at hf
  try dsimp only
  have j1510_1 : ∀ (i3_1510 : Int32) (σ : ZT), f_L_law_J1510_18 sL sx a0 v1 v3 i3_1510 σ = some x1 → ZW l G 4 X (ZQ G X (.returned (some (.int out.1))) out.2) σ 1510 [(0, .ref a0), (1, .ref v1), (2, .ref v3), (3, .int i3_1510)] [] := by
    intro i3_1510 σ hf
    unfold f_L_law_J1510_18 at hf
    refine z_iinc (q := 1513) (i := 3) (lv' := [(3, .int (i3_1510 + (6 : Int32))), (0, .ref a0), (1, .ref v1), (2, .ref v3)]) C 3 (i3_1510 + (6 : Int32)) dL_law_1510 rfl (kn_6 _) (by decide) rfl rfl ?_
    refine z_goto (q := 18) C dL_law_1513 (by decide) ?_
    refine z_lv [1, 2, 3, 0] rfl ?_
    have hc1 := zl_c hf hx1
    exact hc1
  refine z_iload_n (q := 19) (i := 3) C 3 dL_law_18 rfl rfl rfl ?_
  refine z_aload_n (q := 20) (i := 0) C 0 dL_law_19 rfl rfl rfl ?_
  refine z_slen (q := 21) C hS dL_law_20 hf rfl fun v6 hf => ?_
  refine z_bipush (q := 23) C (6 : Int32) dL_law_21 kb_6 rfl ?_
  refine z_isub (q := 24) C dL_law_23 rfl ?_
  refine z_icmpgt (q := 27) (tgt := 1516) C dL_law_24 (by decide) rfl hf (fun c24 hf => ?_) (fun c24 hf => ?_)
  · have e1 := zl_x hf hx1
    have hf := hk1
    rw [← e1] at hf
    try dsimp only at hf
    refine z_iconst (q := 1517) C (1 : Int32) dL_law_1516 ki_1 rfl ?_
    exact z_zreturn C rfl z_nb1 dL_law_1517 (Option.some.inj hf)
  · refine z_aload_n (q := 28) (i := 0) C 0 dL_law_27 rfl rfl rfl ?_
    refine z_iload_n (q := 29) (i := 3) C 3 dL_law_28 rfl rfl rfl ?_
    refine z_scr (q := 30) C hS dL_law_29 hf rfl fun v7 hf => ?_
    refine z_bipush (q := 32) C (63 : Int32) dL_law_30 kb_63 rfl ?_
    refine z_iand (q := 33) C dL_law_32 rfl ?_
    by_cases c33_0 : (v7 &&& (63 : Int32)) = (0 : Int32)
    · rw [if_pos c33_0] at hf
      refine z_tableIn (tgt := 236) C 0 dL_law_33 (by rw [c33_0]; rfl) (by decide) (by decide) rfl (by decide) ?_
      refine z_aload_n (q := 237) (i := 1) C 1 dL_law_236 rfl rfl rfl ?_
      refine z_callVi (q := 240) (As := []) C (fun o ho => m_X0_status _ _ ho) zk0 vvL_13 cdX0_status pnX0 dL_law_237 rfl (by decide) (Nat.le_of_ble_eq_true rfl) hf rfl fun v8 σ hf => ?_
      refine z_aload_n (q := 241) (i := 2) C 2 dL_law_240 rfl rfl rfl ?_
      refine z_callVi (q := 244) (As := []) C (fun o ho => m_X9_status _ _ ho) zk9 vvL_17 cdX9_status pnX9 dL_law_241 rfl (by decide) (Nat.le_of_ble_eq_true rfl) hf rfl fun v9 σ hf => ?_
      refine z_icmpeq (q := 247) (tgt := 1510) C dL_law_244 (by decide) rfl hf (fun c244 hf => ?_) (fun c244 hf => ?_)
      · exact j1510_1 i_5 σ hf
      · refine z_iconst (q := 248) C (0 : Int32) dL_law_247 ki_0 rfl ?_
        have e1 := zl_x hf hx1
        have hf := hk1
        rw [← e1] at hf
        try dsimp only at hf
        exact z_zreturn C rfl z_nb0 dL_law_248 (Option.some.inj hf)
    rw [if_neg c33_0] at hf
    by_cases c33_1 : (v7 &&& (63 : Int32)) = (1 : Int32)
    · rw [if_pos c33_1] at hf
      refine z_tableIn (tgt := 249) C 1 dL_law_33 (by rw [c33_1]; rfl) (by decide) (by decide) rfl (by decide) ?_
      refine z_aload_n (q := 250) (i := 1) C 1 dL_law_249 rfl rfl rfl ?_
      refine z_callVl (q := 253) (As := []) C (fun o ho => m_X0_top _ _ ho) zk0 vvL_18 cdX0_top pnX0 dL_law_250 rfl (by decide) (Nat.le_of_ble_eq_true rfl) hf rfl fun v10 σ hf => ?_
      refine z_aload_n (q := 254) (i := 2) C 2 dL_law_253 rfl rfl rfl ?_
      refine z_callVl (q := 257) (As := []) C (fun o ho => m_X9_top _ _ ho) zk9 vvL_22 cdX9_top pnX9 dL_law_254 rfl (by decide) (Nat.le_of_ble_eq_true rfl) hf rfl fun v11 σ hf => ?_
      refine z_lcmp (q := 258) C dL_law_257 rfl ?_
      refine z_ifeq (q := 261) (tgt := 1510) C dL_law_258 (by decide) rfl hf (fun c258 hf => ?_) (fun c258 hf => ?_)
      · exact j1510_1 i_5 σ hf
      · refine z_iconst (q := 262) C (0 : Int32) dL_law_261 ki_0 rfl ?_
        have e1 := zl_x hf hx1
        have hf := hk1
        rw [← e1] at hf
        try dsimp only at hf
        exact z_zreturn C rfl z_nb0 dL_law_262 (Option.some.inj hf)
    rw [if_neg c33_1] at hf
    by_cases c33_2 : (v7 &&& (63 : Int32)) = (2 : Int32)
    · rw [if_pos c33_2] at hf
      refine z_tableIn (tgt := 263) C 2 dL_law_33 (by rw [c33_2]; rfl) (by decide) (by decide) rfl (by decide) ?_
      refine z_aload_n (q := 264) (i := 1) C 1 dL_law_263 rfl rfl rfl ?_
      refine z_callVl (q := 267) (As := []) C (fun o ho => m_X0_bottom _ _ ho) zk0 vvL_23 cdX0_bottom pnX0 dL_law_264 rfl (by decide) (Nat.le_of_ble_eq_true rfl) hf rfl fun v12 σ hf => ?_
      refine z_aload_n (q := 268) (i := 2) C 2 dL_law_267 rfl rfl rfl ?_
      refine z_callVl (q := 271) (As := []) C (fun o ho => m_X9_bottom _ _ ho) zk9 vvL_26 cdX9_bottom pnX9 dL_law_268 rfl (by decide) (Nat.le_of_ble_eq_true rfl) hf rfl fun v13 σ hf => ?_
      refine z_lcmp (q := 272) C dL_law_271 rfl ?_
      refine z_ifeq (q := 275) (tgt := 1510) C dL_law_272 (by decide) rfl hf (fun c272 hf => ?_) (fun c272 hf => ?_)
      · exact j1510_1 i_5 σ hf
      · refine z_iconst (q := 276) C (0 : Int32) dL_law_275 ki_0 rfl ?_
        have e1 := zl_x hf hx1
        have hf := hk1
        rw [← e1] at hf
        try dsimp only at hf
        exact z_zreturn C rfl z_nb0 dL_law_276 (Option.some.inj hf)
    rw [if_neg c33_2] at hf
    by_cases c33_3 : (v7 &&& (63 : Int32)) = (3 : Int32)
    · rw [if_pos c33_3] at hf
      refine z_tableIn (tgt := 277) C 3 dL_law_33 (by rw [c33_3]; rfl) (by decide) (by decide) rfl (by decide) ?_
      refine z_aload_n (q := 278) (i := 1) C 1 dL_law_277 rfl rfl rfl ?_
      refine z_aload_n (q := 279) (i := 0) C 0 dL_law_278 rfl rfl rfl ?_
      refine z_iload_n (q := 280) (i := 3) C 3 dL_law_279 rfl rfl rfl ?_
      refine z_iconst (q := 281) C (1 : Int32) dL_law_280 ki_1 rfl ?_
      refine z_iadd (q := 282) C dL_law_281 rfl ?_
      refine z_scr (q := 283) C hS dL_law_282 hf rfl fun v14 hf => ?_
      refine z_aload_n (q := 284) (i := 0) C 0 dL_law_283 rfl rfl rfl ?_
      refine z_iload_n (q := 285) (i := 3) C 3 dL_law_284 rfl rfl rfl ?_
      refine z_iconst (q := 286) C (2 : Int32) dL_law_285 ki_2 rfl ?_
      refine z_iadd (q := 287) C dL_law_286 rfl ?_
      refine z_scr (q := 288) C hS dL_law_287 hf rfl fun v15 hf => ?_
      refine z_aload_n (q := 289) (i := 0) C 0 dL_law_288 rfl rfl rfl ?_
      refine z_iload_n (q := 290) (i := 3) C 3 dL_law_289 rfl rfl rfl ?_
      refine z_iconst (q := 291) C (3 : Int32) dL_law_290 ki_3 rfl ?_
      refine z_iadd (q := 292) C dL_law_291 rfl ?_
      refine z_scr (q := 293) C hS dL_law_292 hf rfl fun v16 hf => ?_
      refine z_callVi (q := 296) (As := [.int v14, .int v15, .int v16]) C (fun o ho => m_X0_tray hfl _ _ _ _ _ ho) zk0 vvL_27 cdX0_tray pnX0 dL_law_293 rfl (by decide) (Nat.le_of_ble_eq_true rfl) hf rfl fun v17 σ hf => ?_
      refine z_aload_n (q := 297) (i := 2) C 2 dL_law_296 rfl rfl rfl ?_
      refine z_aload_n (q := 298) (i := 0) C 0 dL_law_297 rfl rfl rfl ?_
      refine z_iload_n (q := 299) (i := 3) C 3 dL_law_298 rfl rfl rfl ?_
      refine z_iconst (q := 300) C (1 : Int32) dL_law_299 ki_1 rfl ?_
      refine z_iadd (q := 301) C dL_law_300 rfl ?_
      refine z_scr (q := 302) C hS dL_law_301 hf rfl fun v18 hf => ?_
      refine z_aload_n (q := 303) (i := 0) C 0 dL_law_302 rfl rfl rfl ?_
      refine z_iload_n (q := 304) (i := 3) C 3 dL_law_303 rfl rfl rfl ?_
      refine z_iconst (q := 305) C (2 : Int32) dL_law_304 ki_2 rfl ?_
      refine z_iadd (q := 306) C dL_law_305 rfl ?_
      refine z_scr (q := 307) C hS dL_law_306 hf rfl fun v19 hf => ?_
      refine z_aload_n (q := 308) (i := 0) C 0 dL_law_307 rfl rfl rfl ?_
      refine z_iload_n (q := 309) (i := 3) C 3 dL_law_308 rfl rfl rfl ?_
      refine z_iconst (q := 310) C (3 : Int32) dL_law_309 ki_3 rfl ?_
      refine z_iadd (q := 311) C dL_law_310 rfl ?_
      refine z_scr (q := 312) C hS dL_law_311 hf rfl fun v20 hf => ?_
      refine z_callVi (q := 315) (As := [.int v18, .int v19, .int v20]) C (fun o ho => m_X9_tray _ _ _ _ _ ho) zk9 vvL_31 cdX9_tray pnX9 dL_law_312 rfl (by decide) (Nat.le_of_ble_eq_true rfl) hf rfl fun v21 σ hf => ?_
      refine z_icmpeq (q := 318) (tgt := 1510) C dL_law_315 (by decide) rfl hf (fun c315 hf => ?_) (fun c315 hf => ?_)
      · exact j1510_1 i_5 σ hf
      · refine z_iconst (q := 319) C (0 : Int32) dL_law_318 ki_0 rfl ?_
        have e1 := zl_x hf hx1
        have hf := hk1
        rw [← e1] at hf
        try dsimp only at hf
        exact z_zreturn C rfl z_nb0 dL_law_319 (Option.some.inj hf)
    rw [if_neg c33_3] at hf
    by_cases c33_4 : (v7 &&& (63 : Int32)) = (4 : Int32)
    · rw [if_pos c33_4] at hf
      refine z_tableIn (tgt := 320) C 4 dL_law_33 (by rw [c33_4]; rfl) (by decide) (by decide) rfl (by decide) ?_
      refine z_aload_n (q := 321) (i := 1) C 1 dL_law_320 rfl rfl rfl ?_
      refine z_aload_n (q := 322) (i := 0) C 0 dL_law_321 rfl rfl rfl ?_
      refine z_iload_n (q := 323) (i := 3) C 3 dL_law_322 rfl rfl rfl ?_
      refine z_iconst (q := 324) C (1 : Int32) dL_law_323 ki_1 rfl ?_
      refine z_iadd (q := 325) C dL_law_324 rfl ?_
      refine z_scr (q := 326) C hS dL_law_325 hf rfl fun v22 hf => ?_
      refine z_aload_n (q := 327) (i := 0) C 0 dL_law_326 rfl rfl rfl ?_
      refine z_iload_n (q := 328) (i := 3) C 3 dL_law_327 rfl rfl rfl ?_
      refine z_iconst (q := 329) C (2 : Int32) dL_law_328 ki_2 rfl ?_
      refine z_iadd (q := 330) C dL_law_329 rfl ?_
      refine z_scr (q := 331) C hS dL_law_330 hf rfl fun v23 hf => ?_
      refine z_aload_n (q := 332) (i := 0) C 0 dL_law_331 rfl rfl rfl ?_
      refine z_iload_n (q := 333) (i := 3) C 3 dL_law_332 rfl rfl rfl ?_
      refine z_iconst (q := 334) C (3 : Int32) dL_law_333 ki_3 rfl ?_
      refine z_iadd (q := 335) C dL_law_334 rfl ?_
      refine z_scr (q := 336) C hS dL_law_335 hf rfl fun v24 hf => ?_
      refine z_i2l (q := 337) C dL_law_336 rfl ?_
      refine z_bipush (q := 339) C (32 : Int32) dL_law_337 kb_32 rfl ?_
      refine z_lshl (q := 340) C dL_law_339 rfl ?_
      refine z_aload_n (q := 341) (i := 0) C 0 dL_law_340 rfl rfl rfl ?_
      refine z_iload_n (q := 342) (i := 3) C 3 dL_law_341 rfl rfl rfl ?_
      refine z_iconst (q := 343) C (4 : Int32) dL_law_342 ki_4 rfl ?_
      refine z_iadd (q := 344) C dL_law_343 rfl ?_
      refine z_scr (q := 345) C hS dL_law_344 hf rfl fun v25 hf => ?_
      refine z_i2l (q := 346) C dL_law_345 rfl ?_
      refine z_ldc2 (q := 349) C q2287 dL_law_346 rfl ?_
      refine z_land (q := 350) C dL_law_349 rfl ?_
      refine z_lor (q := 351) C dL_law_350 rfl ?_
      refine z_callVi (q := 354) (As := [.int v22, .int v23, .long (((v24.toInt64) <<< ((32 : Int32).toInt64 &&& 63)) ||| ((v25.toInt64) &&& (4294967295 : Int64)))]) C (fun o ho => m_X0_write hfl _ _ _ _ _ ho) zk0 vvL_34 cdX0_write pnX0 dL_law_351 rfl (by decide) (Nat.le_of_ble_eq_true rfl) hf rfl fun v26 σ hf => ?_
      refine z_aload_n (q := 355) (i := 2) C 2 dL_law_354 rfl rfl rfl ?_
      refine z_aload_n (q := 356) (i := 0) C 0 dL_law_355 rfl rfl rfl ?_
      refine z_iload_n (q := 357) (i := 3) C 3 dL_law_356 rfl rfl rfl ?_
      refine z_iconst (q := 358) C (1 : Int32) dL_law_357 ki_1 rfl ?_
      refine z_iadd (q := 359) C dL_law_358 rfl ?_
      refine z_scr (q := 360) C hS dL_law_359 hf rfl fun v27 hf => ?_
      refine z_aload_n (q := 361) (i := 0) C 0 dL_law_360 rfl rfl rfl ?_
      refine z_iload_n (q := 362) (i := 3) C 3 dL_law_361 rfl rfl rfl ?_
      refine z_iconst (q := 363) C (2 : Int32) dL_law_362 ki_2 rfl ?_
      refine z_iadd (q := 364) C dL_law_363 rfl ?_
      refine z_scr (q := 365) C hS dL_law_364 hf rfl fun v28 hf => ?_
      refine z_aload_n (q := 366) (i := 0) C 0 dL_law_365 rfl rfl rfl ?_
      refine z_iload_n (q := 367) (i := 3) C 3 dL_law_366 rfl rfl rfl ?_
      refine z_iconst (q := 368) C (3 : Int32) dL_law_367 ki_3 rfl ?_
      refine z_iadd (q := 369) C dL_law_368 rfl ?_
      refine z_scr (q := 370) C hS dL_law_369 hf rfl fun v29 hf => ?_
      refine z_i2l (q := 371) C dL_law_370 rfl ?_
      refine z_bipush (q := 373) C (32 : Int32) dL_law_371 kb_32 rfl ?_
      refine z_lshl (q := 374) C dL_law_373 rfl ?_
      refine z_aload_n (q := 375) (i := 0) C 0 dL_law_374 rfl rfl rfl ?_
      refine z_iload_n (q := 376) (i := 3) C 3 dL_law_375 rfl rfl rfl ?_
      refine z_iconst (q := 377) C (4 : Int32) dL_law_376 ki_4 rfl ?_
      refine z_iadd (q := 378) C dL_law_377 rfl ?_
      refine z_scr (q := 379) C hS dL_law_378 hf rfl fun v30 hf => ?_
      refine z_i2l (q := 380) C dL_law_379 rfl ?_
      refine z_ldc2 (q := 383) C q2287 dL_law_380 rfl ?_
      refine z_land (q := 384) C dL_law_383 rfl ?_
      refine z_lor (q := 385) C dL_law_384 rfl ?_
      refine z_callVi (q := 388) (As := [.int v27, .int v28, .long (((v29.toInt64) <<< ((32 : Int32).toInt64 &&& 63)) ||| ((v30.toInt64) &&& (4294967295 : Int64)))]) C (fun o ho => m_X9_write _ _ _ _ _ ho) zk9 vvL_38 cdX9_write pnX9 dL_law_385 rfl (by decide) (Nat.le_of_ble_eq_true rfl) hf rfl fun v31 σ hf => ?_
      refine z_icmpeq (q := 391) (tgt := 1510) C dL_law_388 (by decide) rfl hf (fun c388 hf => ?_) (fun c388 hf => ?_)
      · exact j1510_1 i_5 σ hf
      · refine z_iconst (q := 392) C (0 : Int32) dL_law_391 ki_0 rfl ?_
        have e1 := zl_x hf hx1
        have hf := hk1
        rw [← e1] at hf
        try dsimp only at hf
        exact z_zreturn C rfl z_nb0 dL_law_392 (Option.some.inj hf)
    rw [if_neg c33_4] at hf
    by_cases c33_5 : (v7 &&& (63 : Int32)) = (5 : Int32)
    · rw [if_pos c33_5] at hf
      refine z_tableIn (tgt := 393) C 5 dL_law_33 (by rw [c33_5]; rfl) (by decide) (by decide) rfl (by decide) ?_
      refine z_aload_n (q := 394) (i := 1) C 1 dL_law_393 rfl rfl rfl ?_
      refine z_aload_n (q := 395) (i := 0) C 0 dL_law_394 rfl rfl rfl ?_
      refine z_iload_n (q := 396) (i := 3) C 3 dL_law_395 rfl rfl rfl ?_
      refine z_iconst (q := 397) C (1 : Int32) dL_law_396 ki_1 rfl ?_
      refine z_iadd (q := 398) C dL_law_397 rfl ?_
      refine z_scr (q := 399) C hS dL_law_398 hf rfl fun v32 hf => ?_
      refine z_aload_n (q := 400) (i := 0) C 0 dL_law_399 rfl rfl rfl ?_
      refine z_iload_n (q := 401) (i := 3) C 3 dL_law_400 rfl rfl rfl ?_
      refine z_iconst (q := 402) C (2 : Int32) dL_law_401 ki_2 rfl ?_
      refine z_iadd (q := 403) C dL_law_402 rfl ?_
      refine z_scr (q := 404) C hS dL_law_403 hf rfl fun v33 hf => ?_
      refine z_callVl (q := 407) (As := [.int v32, .int v33]) C (fun o ho => m_X0_read hfl _ _ _ _ ho) zk0 vvL_39 cdX0_read pnX0 dL_law_404 rfl (by decide) (Nat.le_of_ble_eq_true rfl) hf rfl fun v34 σ hf => ?_
      refine z_aload_n (q := 408) (i := 2) C 2 dL_law_407 rfl rfl rfl ?_
      refine z_aload_n (q := 409) (i := 0) C 0 dL_law_408 rfl rfl rfl ?_
      refine z_iload_n (q := 410) (i := 3) C 3 dL_law_409 rfl rfl rfl ?_
      refine z_iconst (q := 411) C (1 : Int32) dL_law_410 ki_1 rfl ?_
      refine z_iadd (q := 412) C dL_law_411 rfl ?_
      refine z_scr (q := 413) C hS dL_law_412 hf rfl fun v35 hf => ?_
      refine z_aload_n (q := 414) (i := 0) C 0 dL_law_413 rfl rfl rfl ?_
      refine z_iload_n (q := 415) (i := 3) C 3 dL_law_414 rfl rfl rfl ?_
      refine z_iconst (q := 416) C (2 : Int32) dL_law_415 ki_2 rfl ?_
      refine z_iadd (q := 417) C dL_law_416 rfl ?_
      refine z_scr (q := 418) C hS dL_law_417 hf rfl fun v36 hf => ?_
      refine z_callVl (q := 421) (As := [.int v35, .int v36]) C (fun o ho => m_X9_read _ _ _ _ ho) zk9 vvL_43 cdX9_read pnX9 dL_law_418 rfl (by decide) (Nat.le_of_ble_eq_true rfl) hf rfl fun v37 σ hf => ?_
      refine z_lcmp (q := 422) C dL_law_421 rfl ?_
      refine z_ifeq (q := 425) (tgt := 1510) C dL_law_422 (by decide) rfl hf (fun c422 hf => ?_) (fun c422 hf => ?_)
      · exact j1510_1 i_5 σ hf
      · refine z_iconst (q := 426) C (0 : Int32) dL_law_425 ki_0 rfl ?_
        have e1 := zl_x hf hx1
        have hf := hk1
        rw [← e1] at hf
        try dsimp only at hf
        exact z_zreturn C rfl z_nb0 dL_law_426 (Option.some.inj hf)
    rw [if_neg c33_5] at hf
    by_cases c33_6 : (v7 &&& (63 : Int32)) = (6 : Int32)
    · rw [if_pos c33_6] at hf
      refine z_tableIn (tgt := 427) C 6 dL_law_33 (by rw [c33_6]; rfl) (by decide) (by decide) rfl (by decide) ?_
      refine z_aload_n (q := 428) (i := 1) C 1 dL_law_427 rfl rfl rfl ?_
      refine z_aload_n (q := 429) (i := 0) C 0 dL_law_428 rfl rfl rfl ?_
      refine z_iload_n (q := 430) (i := 3) C 3 dL_law_429 rfl rfl rfl ?_
      refine z_iconst (q := 431) C (1 : Int32) dL_law_430 ki_1 rfl ?_
      refine z_iadd (q := 432) C dL_law_431 rfl ?_
      refine z_scr (q := 433) C hS dL_law_432 hf rfl fun v38 hf => ?_
      refine z_aload_n (q := 434) (i := 0) C 0 dL_law_433 rfl rfl rfl ?_
      refine z_iload_n (q := 435) (i := 3) C 3 dL_law_434 rfl rfl rfl ?_
      refine z_iconst (q := 436) C (2 : Int32) dL_law_435 ki_2 rfl ?_
      refine z_iadd (q := 437) C dL_law_436 rfl ?_
      refine z_scr (q := 438) C hS dL_law_437 hf rfl fun v39 hf => ?_
      refine z_aload_n (q := 439) (i := 0) C 0 dL_law_438 rfl rfl rfl ?_
      refine z_iload_n (q := 440) (i := 3) C 3 dL_law_439 rfl rfl rfl ?_
      refine z_iconst (q := 441) C (3 : Int32) dL_law_440 ki_3 rfl ?_
      refine z_iadd (q := 442) C dL_law_441 rfl ?_
      refine z_scr (q := 443) C hS dL_law_442 hf rfl fun v40 hf => ?_
      refine z_aload_n (q := 444) (i := 0) C 0 dL_law_443 rfl rfl rfl ?_
      refine z_iload_n (q := 445) (i := 3) C 3 dL_law_444 rfl rfl rfl ?_
      refine z_iconst (q := 446) C (4 : Int32) dL_law_445 ki_4 rfl ?_
      refine z_iadd (q := 447) C dL_law_446 rfl ?_
      refine z_scr (q := 448) C hS dL_law_447 hf rfl fun v41 hf => ?_
      refine z_aload_n (q := 449) (i := 0) C 0 dL_law_448 rfl rfl rfl ?_
      refine z_iload_n (q := 450) (i := 3) C 3 dL_law_449 rfl rfl rfl ?_
      refine z_iconst (q := 451) C (5 : Int32) dL_law_450 ki_5 rfl ?_
      refine z_iadd (q := 452) C dL_law_451 rfl ?_
      refine z_scr (q := 453) C hS dL_law_452 hf rfl fun v42 hf => ?_
      refine z_callVi (q := 456) (As := [.int v38, .int v39, .int v40, .int v41, .int v42]) C (fun o ho => m_X0_pour hfl _ _ _ _ _ _ _ ho) zk0 vvL_44 cdX0_pour pnX0 dL_law_453 rfl (by decide) (Nat.le_of_ble_eq_true rfl) hf rfl fun v43 σ hf => ?_
      refine z_aload_n (q := 457) (i := 2) C 2 dL_law_456 rfl rfl rfl ?_
      refine z_aload_n (q := 458) (i := 0) C 0 dL_law_457 rfl rfl rfl ?_
      refine z_iload_n (q := 459) (i := 3) C 3 dL_law_458 rfl rfl rfl ?_
      refine z_iconst (q := 460) C (1 : Int32) dL_law_459 ki_1 rfl ?_
      refine z_iadd (q := 461) C dL_law_460 rfl ?_
      refine z_scr (q := 462) C hS dL_law_461 hf rfl fun v44 hf => ?_
      refine z_aload_n (q := 463) (i := 0) C 0 dL_law_462 rfl rfl rfl ?_
      refine z_iload_n (q := 464) (i := 3) C 3 dL_law_463 rfl rfl rfl ?_
      refine z_iconst (q := 465) C (2 : Int32) dL_law_464 ki_2 rfl ?_
      refine z_iadd (q := 466) C dL_law_465 rfl ?_
      refine z_scr (q := 467) C hS dL_law_466 hf rfl fun v45 hf => ?_
      refine z_aload_n (q := 468) (i := 0) C 0 dL_law_467 rfl rfl rfl ?_
      refine z_iload_n (q := 469) (i := 3) C 3 dL_law_468 rfl rfl rfl ?_
      refine z_iconst (q := 470) C (3 : Int32) dL_law_469 ki_3 rfl ?_
      refine z_iadd (q := 471) C dL_law_470 rfl ?_
      refine z_scr (q := 472) C hS dL_law_471 hf rfl fun v46 hf => ?_
      refine z_aload_n (q := 473) (i := 0) C 0 dL_law_472 rfl rfl rfl ?_
      refine z_iload_n (q := 474) (i := 3) C 3 dL_law_473 rfl rfl rfl ?_
      refine z_iconst (q := 475) C (4 : Int32) dL_law_474 ki_4 rfl ?_
      refine z_iadd (q := 476) C dL_law_475 rfl ?_
      refine z_scr (q := 477) C hS dL_law_476 hf rfl fun v47 hf => ?_
      refine z_aload_n (q := 478) (i := 0) C 0 dL_law_477 rfl rfl rfl ?_
      refine z_iload_n (q := 479) (i := 3) C 3 dL_law_478 rfl rfl rfl ?_
      refine z_iconst (q := 480) C (5 : Int32) dL_law_479 ki_5 rfl ?_
      refine z_iadd (q := 481) C dL_law_480 rfl ?_
      refine z_scr (q := 482) C hS dL_law_481 hf rfl fun v48 hf => ?_
      refine z_callVi (q := 485) (As := [.int v44, .int v45, .int v46, .int v47, .int v48]) C (fun o ho => m_X9_pour _ _ _ _ _ _ _ ho) zk9 vvL_48 cdX9_pour pnX9 dL_law_482 rfl (by decide) (Nat.le_of_ble_eq_true rfl) hf rfl fun v49 σ hf => ?_
      refine z_icmpeq (q := 488) (tgt := 1510) C dL_law_485 (by decide) rfl hf (fun c485 hf => ?_) (fun c485 hf => ?_)
      · exact j1510_1 i_5 σ hf
      · refine z_iconst (q := 489) C (0 : Int32) dL_law_488 ki_0 rfl ?_
        have e1 := zl_x hf hx1
        have hf := hk1
        rw [← e1] at hf
        try dsimp only at hf
        exact z_zreturn C rfl z_nb0 dL_law_489 (Option.some.inj hf)
    rw [if_neg c33_6] at hf
    by_cases c33_7 : (v7 &&& (63 : Int32)) = (7 : Int32)
    · rw [if_pos c33_7] at hf
      refine z_tableIn (tgt := 490) C 7 dL_law_33 (by rw [c33_7]; rfl) (by decide) (by decide) rfl (by decide) ?_
      refine z_aload_n (q := 491) (i := 1) C 1 dL_law_490 rfl rfl rfl ?_
      refine z_aload_n (q := 492) (i := 0) C 0 dL_law_491 rfl rfl rfl ?_
      refine z_iload_n (q := 493) (i := 3) C 3 dL_law_492 rfl rfl rfl ?_
      refine z_iconst (q := 494) C (1 : Int32) dL_law_493 ki_1 rfl ?_
      refine z_iadd (q := 495) C dL_law_494 rfl ?_
      refine z_scr (q := 496) C hS dL_law_495 hf rfl fun v50 hf => ?_
      refine z_aload_n (q := 497) (i := 0) C 0 dL_law_496 rfl rfl rfl ?_
      refine z_iload_n (q := 498) (i := 3) C 3 dL_law_497 rfl rfl rfl ?_
      refine z_iconst (q := 499) C (2 : Int32) dL_law_498 ki_2 rfl ?_
      refine z_iadd (q := 500) C dL_law_499 rfl ?_
      refine z_scr (q := 501) C hS dL_law_500 hf rfl fun v51 hf => ?_
      refine z_aload_n (q := 502) (i := 0) C 0 dL_law_501 rfl rfl rfl ?_
      refine z_iload_n (q := 503) (i := 3) C 3 dL_law_502 rfl rfl rfl ?_
      refine z_iconst (q := 504) C (3 : Int32) dL_law_503 ki_3 rfl ?_
      refine z_iadd (q := 505) C dL_law_504 rfl ?_
      refine z_scr (q := 506) C hS dL_law_505 hf rfl fun v52 hf => ?_
      refine z_aload_n (q := 507) (i := 0) C 0 dL_law_506 rfl rfl rfl ?_
      refine z_iload_n (q := 508) (i := 3) C 3 dL_law_507 rfl rfl rfl ?_
      refine z_iconst (q := 509) C (4 : Int32) dL_law_508 ki_4 rfl ?_
      refine z_iadd (q := 510) C dL_law_509 rfl ?_
      refine z_scr (q := 511) C hS dL_law_510 hf rfl fun v53 hf => ?_
      refine z_aload_n (q := 512) (i := 0) C 0 dL_law_511 rfl rfl rfl ?_
      refine z_iload_n (q := 513) (i := 3) C 3 dL_law_512 rfl rfl rfl ?_
      refine z_iconst (q := 514) C (5 : Int32) dL_law_513 ki_5 rfl ?_
      refine z_iadd (q := 515) C dL_law_514 rfl ?_
      refine z_scr (q := 516) C hS dL_law_515 hf rfl fun v54 hf => ?_
      refine z_callVi (q := 519) (As := [.int v50, .int v51, .int v52, .int v53, .int v54]) C (fun o ho => m_X0_feed _ _ _ _ _ _ _ ho) zk0 vvL_49 cdX0_feed pnX0 dL_law_516 rfl (by decide) (Nat.le_of_ble_eq_true rfl) hf rfl fun v55 σ hf => ?_
      refine z_aload_n (q := 520) (i := 2) C 2 dL_law_519 rfl rfl rfl ?_
      refine z_aload_n (q := 521) (i := 0) C 0 dL_law_520 rfl rfl rfl ?_
      refine z_iload_n (q := 522) (i := 3) C 3 dL_law_521 rfl rfl rfl ?_
      refine z_iconst (q := 523) C (1 : Int32) dL_law_522 ki_1 rfl ?_
      refine z_iadd (q := 524) C dL_law_523 rfl ?_
      refine z_scr (q := 525) C hS dL_law_524 hf rfl fun v56 hf => ?_
      refine z_aload_n (q := 526) (i := 0) C 0 dL_law_525 rfl rfl rfl ?_
      refine z_iload_n (q := 527) (i := 3) C 3 dL_law_526 rfl rfl rfl ?_
      refine z_iconst (q := 528) C (2 : Int32) dL_law_527 ki_2 rfl ?_
      refine z_iadd (q := 529) C dL_law_528 rfl ?_
      refine z_scr (q := 530) C hS dL_law_529 hf rfl fun v57 hf => ?_
      refine z_aload_n (q := 531) (i := 0) C 0 dL_law_530 rfl rfl rfl ?_
      refine z_iload_n (q := 532) (i := 3) C 3 dL_law_531 rfl rfl rfl ?_
      refine z_iconst (q := 533) C (3 : Int32) dL_law_532 ki_3 rfl ?_
      refine z_iadd (q := 534) C dL_law_533 rfl ?_
      refine z_scr (q := 535) C hS dL_law_534 hf rfl fun v58 hf => ?_
      refine z_aload_n (q := 536) (i := 0) C 0 dL_law_535 rfl rfl rfl ?_
      refine z_iload_n (q := 537) (i := 3) C 3 dL_law_536 rfl rfl rfl ?_
      refine z_iconst (q := 538) C (4 : Int32) dL_law_537 ki_4 rfl ?_
      refine z_iadd (q := 539) C dL_law_538 rfl ?_
      refine z_scr (q := 540) C hS dL_law_539 hf rfl fun v59 hf => ?_
      refine z_aload_n (q := 541) (i := 0) C 0 dL_law_540 rfl rfl rfl ?_
      refine z_iload_n (q := 542) (i := 3) C 3 dL_law_541 rfl rfl rfl ?_
      refine z_iconst (q := 543) C (5 : Int32) dL_law_542 ki_5 rfl ?_
      refine z_iadd (q := 544) C dL_law_543 rfl ?_
      refine z_scr (q := 545) C hS dL_law_544 hf rfl fun v60 hf => ?_
      refine z_callVi (q := 548) (As := [.int v56, .int v57, .int v58, .int v59, .int v60]) C (fun o ho => m_X9_feed _ _ _ _ _ _ _ ho) zk9 vvL_53 cdX9_feed pnX9 dL_law_545 rfl (by decide) (Nat.le_of_ble_eq_true rfl) hf rfl fun v61 σ hf => ?_
      refine z_icmpeq (q := 551) (tgt := 1510) C dL_law_548 (by decide) rfl hf (fun c548 hf => ?_) (fun c548 hf => ?_)
      · exact j1510_1 i_5 σ hf
      · refine z_iconst (q := 552) C (0 : Int32) dL_law_551 ki_0 rfl ?_
        have e1 := zl_x hf hx1
        have hf := hk1
        rw [← e1] at hf
        try dsimp only at hf
        exact z_zreturn C rfl z_nb0 dL_law_552 (Option.some.inj hf)
    rw [if_neg c33_7] at hf
    by_cases c33_8 : (v7 &&& (63 : Int32)) = (8 : Int32)
    · rw [if_pos c33_8] at hf
      refine z_tableIn (tgt := 553) C 8 dL_law_33 (by rw [c33_8]; rfl) (by decide) (by decide) rfl (by decide) ?_
      refine z_aload_n (q := 554) (i := 1) C 1 dL_law_553 rfl rfl rfl ?_
      refine z_aload_n (q := 555) (i := 0) C 0 dL_law_554 rfl rfl rfl ?_
      refine z_iload_n (q := 556) (i := 3) C 3 dL_law_555 rfl rfl rfl ?_
      refine z_iconst (q := 557) C (1 : Int32) dL_law_556 ki_1 rfl ?_
      refine z_iadd (q := 558) C dL_law_557 rfl ?_
      refine z_scr (q := 559) C hS dL_law_558 hf rfl fun v62 hf => ?_
      refine z_callVi (q := 562) (As := [.int v62]) C (fun o ho => m_X0_town _ _ _ ho) zk0 vvL_54 cdX0_town pnX0 dL_law_559 rfl (by decide) (Nat.le_of_ble_eq_true rfl) hf rfl fun v63 σ hf => ?_
      refine z_aload_n (q := 563) (i := 2) C 2 dL_law_562 rfl rfl rfl ?_
      refine z_aload_n (q := 564) (i := 0) C 0 dL_law_563 rfl rfl rfl ?_
      refine z_iload_n (q := 565) (i := 3) C 3 dL_law_564 rfl rfl rfl ?_
      refine z_iconst (q := 566) C (1 : Int32) dL_law_565 ki_1 rfl ?_
      refine z_iadd (q := 567) C dL_law_566 rfl ?_
      refine z_scr (q := 568) C hS dL_law_567 hf rfl fun v64 hf => ?_
      refine z_callVi (q := 571) (As := [.int v64]) C (fun o ho => m_X9_town _ _ _ ho) zk9 vvL_58 cdX9_town pnX9 dL_law_568 rfl (by decide) (Nat.le_of_ble_eq_true rfl) hf rfl fun v65 σ hf => ?_
      refine z_icmpeq (q := 574) (tgt := 1510) C dL_law_571 (by decide) rfl hf (fun c571 hf => ?_) (fun c571 hf => ?_)
      · exact j1510_1 i_5 σ hf
      · refine z_iconst (q := 575) C (0 : Int32) dL_law_574 ki_0 rfl ?_
        have e1 := zl_x hf hx1
        have hf := hk1
        rw [← e1] at hf
        try dsimp only at hf
        exact z_zreturn C rfl z_nb0 dL_law_575 (Option.some.inj hf)
    rw [if_neg c33_8] at hf
    by_cases c33_9 : (v7 &&& (63 : Int32)) = (9 : Int32)
    · rw [if_pos c33_9] at hf
      refine z_tableIn (tgt := 576) C 9 dL_law_33 (by rw [c33_9]; rfl) (by decide) (by decide) rfl (by decide) ?_
      refine z_aload_n (q := 577) (i := 1) C 1 dL_law_576 rfl rfl rfl ?_
      refine z_aload_n (q := 578) (i := 0) C 0 dL_law_577 rfl rfl rfl ?_
      refine z_iload_n (q := 579) (i := 3) C 3 dL_law_578 rfl rfl rfl ?_
      refine z_iconst (q := 580) C (1 : Int32) dL_law_579 ki_1 rfl ?_
      refine z_iadd (q := 581) C dL_law_580 rfl ?_
      refine z_scr (q := 582) C hS dL_law_581 hf rfl fun v66 hf => ?_
      refine z_callVi (q := 585) (As := [.int v66]) C (fun o ho => m_X0_orders _ _ _ ho) zk0 vvL_59 cdX0_orders pnX0 dL_law_582 rfl (by decide) (Nat.le_of_ble_eq_true rfl) hf rfl fun v67 σ hf => ?_
      refine z_aload_n (q := 586) (i := 2) C 2 dL_law_585 rfl rfl rfl ?_
      refine z_aload_n (q := 587) (i := 0) C 0 dL_law_586 rfl rfl rfl ?_
      refine z_iload_n (q := 588) (i := 3) C 3 dL_law_587 rfl rfl rfl ?_
      refine z_iconst (q := 589) C (1 : Int32) dL_law_588 ki_1 rfl ?_
      refine z_iadd (q := 590) C dL_law_589 rfl ?_
      refine z_scr (q := 591) C hS dL_law_590 hf rfl fun v68 hf => ?_
      refine z_callVi (q := 594) (As := [.int v68]) C (fun o ho => m_X9_orders _ _ _ ho) zk9 vvL_62 cdX9_orders pnX9 dL_law_591 rfl (by decide) (Nat.le_of_ble_eq_true rfl) hf rfl fun v69 σ hf => ?_
      refine z_icmpeq (q := 597) (tgt := 1510) C dL_law_594 (by decide) rfl hf (fun c594 hf => ?_) (fun c594 hf => ?_)
      · exact j1510_1 i_5 σ hf
      · refine z_iconst (q := 598) C (0 : Int32) dL_law_597 ki_0 rfl ?_
        have e1 := zl_x hf hx1
        have hf := hk1
        rw [← e1] at hf
        try dsimp only at hf
        exact z_zreturn C rfl z_nb0 dL_law_598 (Option.some.inj hf)
    rw [if_neg c33_9] at hf
    by_cases c33_10 : (v7 &&& (63 : Int32)) = (10 : Int32)
    · rw [if_pos c33_10] at hf
      refine z_tableIn (tgt := 599) C 10 dL_law_33 (by rw [c33_10]; rfl) (by decide) (by decide) rfl (by decide) ?_
      refine z_aload_n (q := 600) (i := 1) C 1 dL_law_599 rfl rfl rfl ?_
      refine z_aload_n (q := 601) (i := 0) C 0 dL_law_600 rfl rfl rfl ?_
      refine z_iload_n (q := 602) (i := 3) C 3 dL_law_601 rfl rfl rfl ?_
      refine z_iconst (q := 603) C (1 : Int32) dL_law_602 ki_1 rfl ?_
      refine z_iadd (q := 604) C dL_law_603 rfl ?_
      refine z_scr (q := 605) C hS dL_law_604 hf rfl fun v70 hf => ?_
      refine z_callVi (q := 608) (As := [.int v70]) C (fun o ho => m_X0_fault _ _ _ ho) zk0 vvL_63 cdX0_fault pnX0 dL_law_605 rfl (by decide) (Nat.le_of_ble_eq_true rfl) hf rfl fun v71 σ hf => ?_
      refine z_aload_n (q := 609) (i := 2) C 2 dL_law_608 rfl rfl rfl ?_
      refine z_aload_n (q := 610) (i := 0) C 0 dL_law_609 rfl rfl rfl ?_
      refine z_iload_n (q := 611) (i := 3) C 3 dL_law_610 rfl rfl rfl ?_
      refine z_iconst (q := 612) C (1 : Int32) dL_law_611 ki_1 rfl ?_
      refine z_iadd (q := 613) C dL_law_612 rfl ?_
      refine z_scr (q := 614) C hS dL_law_613 hf rfl fun v72 hf => ?_
      refine z_callVi (q := 617) (As := [.int v72]) C (fun o ho => m_X9_fault _ _ _ ho) zk9 vvL_66 cdX9_fault pnX9 dL_law_614 rfl (by decide) (Nat.le_of_ble_eq_true rfl) hf rfl fun v73 σ hf => ?_
      refine z_icmpeq (q := 620) (tgt := 1510) C dL_law_617 (by decide) rfl hf (fun c617 hf => ?_) (fun c617 hf => ?_)
      · exact j1510_1 i_5 σ hf
      · refine z_iconst (q := 621) C (0 : Int32) dL_law_620 ki_0 rfl ?_
        have e1 := zl_x hf hx1
        have hf := hk1
        rw [← e1] at hf
        try dsimp only at hf
        exact z_zreturn C rfl z_nb0 dL_law_621 (Option.some.inj hf)
    rw [if_neg c33_10] at hf
    by_cases c33_11 : (v7 &&& (63 : Int32)) = (11 : Int32)
    · rw [if_pos c33_11] at hf
      refine z_tableIn (tgt := 622) C 11 dL_law_33 (by rw [c33_11]; rfl) (by decide) (by decide) rfl (by decide) ?_
      refine z_aload_n (q := 623) (i := 1) C 1 dL_law_622 rfl rfl rfl ?_
      refine z_aload_n (q := 624) (i := 0) C 0 dL_law_623 rfl rfl rfl ?_
      refine z_iload_n (q := 625) (i := 3) C 3 dL_law_624 rfl rfl rfl ?_
      refine z_iconst (q := 626) C (1 : Int32) dL_law_625 ki_1 rfl ?_
      refine z_iadd (q := 627) C dL_law_626 rfl ?_
      refine z_scr (q := 628) C hS dL_law_627 hf rfl fun v74 hf => ?_
      refine z_callVi (q := 631) (As := [.int v74]) C (fun o ho => m_X0_told _ _ _ ho) zk0 vvL_67 cdX0_told pnX0 dL_law_628 rfl (by decide) (Nat.le_of_ble_eq_true rfl) hf rfl fun v75 σ hf => ?_
      refine z_aload_n (q := 632) (i := 2) C 2 dL_law_631 rfl rfl rfl ?_
      refine z_aload_n (q := 633) (i := 0) C 0 dL_law_632 rfl rfl rfl ?_
      refine z_iload_n (q := 634) (i := 3) C 3 dL_law_633 rfl rfl rfl ?_
      refine z_iconst (q := 635) C (1 : Int32) dL_law_634 ki_1 rfl ?_
      refine z_iadd (q := 636) C dL_law_635 rfl ?_
      refine z_scr (q := 637) C hS dL_law_636 hf rfl fun v76 hf => ?_
      refine z_callVi (q := 640) (As := [.int v76]) C (fun o ho => m_X9_told _ _ _ ho) zk9 vvL_70 cdX9_told pnX9 dL_law_637 rfl (by decide) (Nat.le_of_ble_eq_true rfl) hf rfl fun v77 σ hf => ?_
      refine z_icmpeq (q := 643) (tgt := 1510) C dL_law_640 (by decide) rfl hf (fun c640 hf => ?_) (fun c640 hf => ?_)
      · exact j1510_1 i_5 σ hf
      · refine z_iconst (q := 644) C (0 : Int32) dL_law_643 ki_0 rfl ?_
        have e1 := zl_x hf hx1
        have hf := hk1
        rw [← e1] at hf
        try dsimp only at hf
        exact z_zreturn C rfl z_nb0 dL_law_644 (Option.some.inj hf)
    rw [if_neg c33_11] at hf
    by_cases c33_12 : (v7 &&& (63 : Int32)) = (12 : Int32)
    · rw [if_pos c33_12] at hf
      refine z_tableIn (tgt := 645) C 12 dL_law_33 (by rw [c33_12]; rfl) (by decide) (by decide) rfl (by decide) ?_
      refine z_aload_n (q := 646) (i := 1) C 1 dL_law_645 rfl rfl rfl ?_
      refine z_aload_n (q := 647) (i := 0) C 0 dL_law_646 rfl rfl rfl ?_
      refine z_iload_n (q := 648) (i := 3) C 3 dL_law_647 rfl rfl rfl ?_
      refine z_iconst (q := 649) C (1 : Int32) dL_law_648 ki_1 rfl ?_
      refine z_iadd (q := 650) C dL_law_649 rfl ?_
      refine z_scr (q := 651) C hS dL_law_650 hf rfl fun v78 hf => ?_
      refine z_aload_n (q := 652) (i := 0) C 0 dL_law_651 rfl rfl rfl ?_
      refine z_iload_n (q := 653) (i := 3) C 3 dL_law_652 rfl rfl rfl ?_
      refine z_iconst (q := 654) C (2 : Int32) dL_law_653 ki_2 rfl ?_
      refine z_iadd (q := 655) C dL_law_654 rfl ?_
      refine z_scr (q := 656) C hS dL_law_655 hf rfl fun v79 hf => ?_
      refine z_callVi (q := 659) (As := [.int v78, .int v79]) C (fun o ho => m_X0_bridge _ _ _ _ ho) zk0 vvL_71 cdX0_bridge pnX0 dL_law_656 rfl (by decide) (Nat.le_of_ble_eq_true rfl) hf rfl fun v80 σ hf => ?_
      refine z_aload_n (q := 660) (i := 2) C 2 dL_law_659 rfl rfl rfl ?_
      refine z_aload_n (q := 661) (i := 0) C 0 dL_law_660 rfl rfl rfl ?_
      refine z_iload_n (q := 662) (i := 3) C 3 dL_law_661 rfl rfl rfl ?_
      refine z_iconst (q := 663) C (1 : Int32) dL_law_662 ki_1 rfl ?_
      refine z_iadd (q := 664) C dL_law_663 rfl ?_
      refine z_scr (q := 665) C hS dL_law_664 hf rfl fun v81 hf => ?_
      refine z_aload_n (q := 666) (i := 0) C 0 dL_law_665 rfl rfl rfl ?_
      refine z_iload_n (q := 667) (i := 3) C 3 dL_law_666 rfl rfl rfl ?_
      refine z_iconst (q := 668) C (2 : Int32) dL_law_667 ki_2 rfl ?_
      refine z_iadd (q := 669) C dL_law_668 rfl ?_
      refine z_scr (q := 670) C hS dL_law_669 hf rfl fun v82 hf => ?_
      refine z_callVi (q := 673) (As := [.int v81, .int v82]) C (fun o ho => m_X9_bridge _ _ _ _ ho) zk9 vvL_75 cdX9_bridge pnX9 dL_law_670 rfl (by decide) (Nat.le_of_ble_eq_true rfl) hf rfl fun v83 σ hf => ?_
      refine z_icmpeq (q := 676) (tgt := 1510) C dL_law_673 (by decide) rfl hf (fun c673 hf => ?_) (fun c673 hf => ?_)
      · exact j1510_1 i_5 σ hf
      · refine z_iconst (q := 677) C (0 : Int32) dL_law_676 ki_0 rfl ?_
        have e1 := zl_x hf hx1
        have hf := hk1
        rw [← e1] at hf
        try dsimp only at hf
        exact z_zreturn C rfl z_nb0 dL_law_677 (Option.some.inj hf)
    rw [if_neg c33_12] at hf
    by_cases c33_13 : (v7 &&& (63 : Int32)) = (13 : Int32)
    · rw [if_pos c33_13] at hf
      refine z_tableIn (tgt := 678) C 13 dL_law_33 (by rw [c33_13]; rfl) (by decide) (by decide) rfl (by decide) ?_
      refine z_aload_n (q := 679) (i := 1) C 1 dL_law_678 rfl rfl rfl ?_
      refine z_aload_n (q := 680) (i := 0) C 0 dL_law_679 rfl rfl rfl ?_
      refine z_iload_n (q := 681) (i := 3) C 3 dL_law_680 rfl rfl rfl ?_
      refine z_iconst (q := 682) C (1 : Int32) dL_law_681 ki_1 rfl ?_
      refine z_iadd (q := 683) C dL_law_682 rfl ?_
      refine z_scr (q := 684) C hS dL_law_683 hf rfl fun v84 hf => ?_
      refine z_aload_n (q := 685) (i := 0) C 0 dL_law_684 rfl rfl rfl ?_
      refine z_iload_n (q := 686) (i := 3) C 3 dL_law_685 rfl rfl rfl ?_
      refine z_iconst (q := 687) C (2 : Int32) dL_law_686 ki_2 rfl ?_
      refine z_iadd (q := 688) C dL_law_687 rfl ?_
      refine z_scr (q := 689) C hS dL_law_688 hf rfl fun v85 hf => ?_
      refine z_callVi (q := 692) (As := [.int v84, .int v85]) C (fun o ho => m_X0_person _ _ _ _ ho) zk0 vvL_76 cdX0_person pnX0 dL_law_689 rfl (by decide) (Nat.le_of_ble_eq_true rfl) hf rfl fun v86 σ hf => ?_
      refine z_aload_n (q := 693) (i := 2) C 2 dL_law_692 rfl rfl rfl ?_
      refine z_aload_n (q := 694) (i := 0) C 0 dL_law_693 rfl rfl rfl ?_
      refine z_iload_n (q := 695) (i := 3) C 3 dL_law_694 rfl rfl rfl ?_
      refine z_iconst (q := 696) C (1 : Int32) dL_law_695 ki_1 rfl ?_
      refine z_iadd (q := 697) C dL_law_696 rfl ?_
      refine z_scr (q := 698) C hS dL_law_697 hf rfl fun v87 hf => ?_
      refine z_aload_n (q := 699) (i := 0) C 0 dL_law_698 rfl rfl rfl ?_
      refine z_iload_n (q := 700) (i := 3) C 3 dL_law_699 rfl rfl rfl ?_
      refine z_iconst (q := 701) C (2 : Int32) dL_law_700 ki_2 rfl ?_
      refine z_iadd (q := 702) C dL_law_701 rfl ?_
      refine z_scr (q := 703) C hS dL_law_702 hf rfl fun v88 hf => ?_
      refine z_callVi (q := 706) (As := [.int v87, .int v88]) C (fun o ho => m_X9_person _ _ _ _ ho) zk9 vvL_79 cdX9_person pnX9 dL_law_703 rfl (by decide) (Nat.le_of_ble_eq_true rfl) hf rfl fun v89 σ hf => ?_
      refine z_icmpeq (q := 709) (tgt := 1510) C dL_law_706 (by decide) rfl hf (fun c706 hf => ?_) (fun c706 hf => ?_)
      · exact j1510_1 i_5 σ hf
      · refine z_iconst (q := 710) C (0 : Int32) dL_law_709 ki_0 rfl ?_
        have e1 := zl_x hf hx1
        have hf := hk1
        rw [← e1] at hf
        try dsimp only at hf
        exact z_zreturn C rfl z_nb0 dL_law_710 (Option.some.inj hf)
    rw [if_neg c33_13] at hf
    by_cases c33_14 : (v7 &&& (63 : Int32)) = (14 : Int32)
    · rw [if_pos c33_14] at hf
      refine z_tableIn (tgt := 711) C 14 dL_law_33 (by rw [c33_14]; rfl) (by decide) (by decide) rfl (by decide) ?_
      refine z_aload_n (q := 712) (i := 1) C 1 dL_law_711 rfl rfl rfl ?_
      refine z_aload_n (q := 713) (i := 0) C 0 dL_law_712 rfl rfl rfl ?_
      refine z_iload_n (q := 714) (i := 3) C 3 dL_law_713 rfl rfl rfl ?_
      refine z_iconst (q := 715) C (1 : Int32) dL_law_714 ki_1 rfl ?_
      refine z_iadd (q := 716) C dL_law_715 rfl ?_
      refine z_scr (q := 717) C hS dL_law_716 hf rfl fun v90 hf => ?_
      refine z_callVi (q := 720) (As := [.int v90]) C (fun o ho => m_X0_stones _ _ _ ho) zk0 vvL_80 cdX0_stones pnX0 dL_law_717 rfl (by decide) (Nat.le_of_ble_eq_true rfl) hf rfl fun v91 σ hf => ?_
      refine z_aload_n (q := 721) (i := 2) C 2 dL_law_720 rfl rfl rfl ?_
      refine z_aload_n (q := 722) (i := 0) C 0 dL_law_721 rfl rfl rfl ?_
      refine z_iload_n (q := 723) (i := 3) C 3 dL_law_722 rfl rfl rfl ?_
      refine z_iconst (q := 724) C (1 : Int32) dL_law_723 ki_1 rfl ?_
      refine z_iadd (q := 725) C dL_law_724 rfl ?_
      refine z_scr (q := 726) C hS dL_law_725 hf rfl fun v92 hf => ?_
      refine z_callVi (q := 729) (As := [.int v92]) C (fun o ho => m_X9_stones _ _ _ ho) zk9 vvL_83 cdX9_stones pnX9 dL_law_726 rfl (by decide) (Nat.le_of_ble_eq_true rfl) hf rfl fun v93 σ hf => ?_
      refine z_icmpeq (q := 732) (tgt := 1510) C dL_law_729 (by decide) rfl hf (fun c729 hf => ?_) (fun c729 hf => ?_)
      · exact j1510_1 i_5 σ hf
      · refine z_iconst (q := 733) C (0 : Int32) dL_law_732 ki_0 rfl ?_
        have e1 := zl_x hf hx1
        have hf := hk1
        rw [← e1] at hf
        try dsimp only at hf
        exact z_zreturn C rfl z_nb0 dL_law_733 (Option.some.inj hf)
    rw [if_neg c33_14] at hf
    by_cases c33_15 : (v7 &&& (63 : Int32)) = (15 : Int32)
    · rw [if_pos c33_15] at hf
      refine z_tableIn (tgt := 734) C 15 dL_law_33 (by rw [c33_15]; rfl) (by decide) (by decide) rfl (by decide) ?_
      refine z_aload_n (q := 735) (i := 1) C 1 dL_law_734 rfl rfl rfl ?_
      refine z_aload_n (q := 736) (i := 0) C 0 dL_law_735 rfl rfl rfl ?_
      refine z_iload_n (q := 737) (i := 3) C 3 dL_law_736 rfl rfl rfl ?_
      refine z_iconst (q := 738) C (1 : Int32) dL_law_737 ki_1 rfl ?_
      refine z_iadd (q := 739) C dL_law_738 rfl ?_
      refine z_scr (q := 740) C hS dL_law_739 hf rfl fun v94 hf => ?_
      refine z_callVi (q := 743) (As := [.int v94]) C (fun o ho => m_X0_at _ _ _ ho) zk0 vvL_84 cdX0_at pnX0 dL_law_740 rfl (by decide) (Nat.le_of_ble_eq_true rfl) hf rfl fun v95 σ hf => ?_
      refine z_aload_n (q := 744) (i := 2) C 2 dL_law_743 rfl rfl rfl ?_
      refine z_aload_n (q := 745) (i := 0) C 0 dL_law_744 rfl rfl rfl ?_
      refine z_iload_n (q := 746) (i := 3) C 3 dL_law_745 rfl rfl rfl ?_
      refine z_iconst (q := 747) C (1 : Int32) dL_law_746 ki_1 rfl ?_
      refine z_iadd (q := 748) C dL_law_747 rfl ?_
      refine z_scr (q := 749) C hS dL_law_748 hf rfl fun v96 hf => ?_
      refine z_callVi (q := 752) (As := [.int v96]) C (fun o ho => m_X9_at _ _ _ ho) zk9 vvL_87 cdX9_at pnX9 dL_law_749 rfl (by decide) (Nat.le_of_ble_eq_true rfl) hf rfl fun v97 σ hf => ?_
      refine z_icmpeq (q := 755) (tgt := 1510) C dL_law_752 (by decide) rfl hf (fun c752 hf => ?_) (fun c752 hf => ?_)
      · exact j1510_1 i_5 σ hf
      · refine z_iconst (q := 756) C (0 : Int32) dL_law_755 ki_0 rfl ?_
        have e1 := zl_x hf hx1
        have hf := hk1
        rw [← e1] at hf
        try dsimp only at hf
        exact z_zreturn C rfl z_nb0 dL_law_756 (Option.some.inj hf)
    rw [if_neg c33_15] at hf
    by_cases c33_16 : (v7 &&& (63 : Int32)) = (16 : Int32)
    · rw [if_pos c33_16] at hf
      refine z_tableIn (tgt := 757) C 16 dL_law_33 (by rw [c33_16]; rfl) (by decide) (by decide) rfl (by decide) ?_
      refine z_aload_n (q := 758) (i := 1) C 1 dL_law_757 rfl rfl rfl ?_
      refine z_aload_n (q := 759) (i := 0) C 0 dL_law_758 rfl rfl rfl ?_
      refine z_iload_n (q := 760) (i := 3) C 3 dL_law_759 rfl rfl rfl ?_
      refine z_iconst (q := 761) C (1 : Int32) dL_law_760 ki_1 rfl ?_
      refine z_iadd (q := 762) C dL_law_761 rfl ?_
      refine z_scr (q := 763) C hS dL_law_762 hf rfl fun v98 hf => ?_
      refine z_callVi (q := 766) (As := [.int v98]) C (fun o ho => m_X0_carries _ _ _ ho) zk0 vvL_88 cdX0_carries pnX0 dL_law_763 rfl (by decide) (Nat.le_of_ble_eq_true rfl) hf rfl fun v99 σ hf => ?_
      refine z_aload_n (q := 767) (i := 2) C 2 dL_law_766 rfl rfl rfl ?_
      refine z_aload_n (q := 768) (i := 0) C 0 dL_law_767 rfl rfl rfl ?_
      refine z_iload_n (q := 769) (i := 3) C 3 dL_law_768 rfl rfl rfl ?_
      refine z_iconst (q := 770) C (1 : Int32) dL_law_769 ki_1 rfl ?_
      refine z_iadd (q := 771) C dL_law_770 rfl ?_
      refine z_scr (q := 772) C hS dL_law_771 hf rfl fun v100 hf => ?_
      refine z_callVi (q := 775) (As := [.int v100]) C (fun o ho => m_X9_carries _ _ _ ho) zk9 vvL_91 cdX9_carries pnX9 dL_law_772 rfl (by decide) (Nat.le_of_ble_eq_true rfl) hf rfl fun v101 σ hf => ?_
      refine z_icmpeq (q := 778) (tgt := 1510) C dL_law_775 (by decide) rfl hf (fun c775 hf => ?_) (fun c775 hf => ?_)
      · exact j1510_1 i_5 σ hf
      · refine z_iconst (q := 779) C (0 : Int32) dL_law_778 ki_0 rfl ?_
        have e1 := zl_x hf hx1
        have hf := hk1
        rw [← e1] at hf
        try dsimp only at hf
        exact z_zreturn C rfl z_nb0 dL_law_779 (Option.some.inj hf)
    rw [if_neg c33_16] at hf
    by_cases c33_17 : (v7 &&& (63 : Int32)) = (17 : Int32)
    · rw [if_pos c33_17] at hf
      refine z_tableIn (tgt := 780) C 17 dL_law_33 (by rw [c33_17]; rfl) (by decide) (by decide) rfl (by decide) ?_
      refine z_aload_n (q := 781) (i := 1) C 1 dL_law_780 rfl rfl rfl ?_
      refine z_aload_n (q := 782) (i := 0) C 0 dL_law_781 rfl rfl rfl ?_
      refine z_iload_n (q := 783) (i := 3) C 3 dL_law_782 rfl rfl rfl ?_
      refine z_iconst (q := 784) C (1 : Int32) dL_law_783 ki_1 rfl ?_
      refine z_iadd (q := 785) C dL_law_784 rfl ?_
      refine z_scr (q := 786) C hS dL_law_785 hf rfl fun v102 hf => ?_
      refine z_aload_n (q := 787) (i := 0) C 0 dL_law_786 rfl rfl rfl ?_
      refine z_iload_n (q := 788) (i := 3) C 3 dL_law_787 rfl rfl rfl ?_
      refine z_iconst (q := 789) C (2 : Int32) dL_law_788 ki_2 rfl ?_
      refine z_iadd (q := 790) C dL_law_789 rfl ?_
      refine z_scr (q := 791) C hS dL_law_790 hf rfl fun v103 hf => ?_
      refine z_callVi (q := 794) (As := [.int v102, .int v103]) C (fun o ho => m_X0_load _ _ _ _ ho) zk0 vvL_92 cdX0_load pnX0 dL_law_791 rfl (by decide) (Nat.le_of_ble_eq_true rfl) hf rfl fun v104 σ hf => ?_
      refine z_aload_n (q := 795) (i := 2) C 2 dL_law_794 rfl rfl rfl ?_
      refine z_aload_n (q := 796) (i := 0) C 0 dL_law_795 rfl rfl rfl ?_
      refine z_iload_n (q := 797) (i := 3) C 3 dL_law_796 rfl rfl rfl ?_
      refine z_iconst (q := 798) C (1 : Int32) dL_law_797 ki_1 rfl ?_
      refine z_iadd (q := 799) C dL_law_798 rfl ?_
      refine z_scr (q := 800) C hS dL_law_799 hf rfl fun v105 hf => ?_
      refine z_aload_n (q := 801) (i := 0) C 0 dL_law_800 rfl rfl rfl ?_
      refine z_iload_n (q := 802) (i := 3) C 3 dL_law_801 rfl rfl rfl ?_
      refine z_iconst (q := 803) C (2 : Int32) dL_law_802 ki_2 rfl ?_
      refine z_iadd (q := 804) C dL_law_803 rfl ?_
      refine z_scr (q := 805) C hS dL_law_804 hf rfl fun v106 hf => ?_
      refine z_callVi (q := 808) (As := [.int v105, .int v106]) C (fun o ho => m_X9_load _ _ _ _ ho) zk9 vvL_95 cdX9_load pnX9 dL_law_805 rfl (by decide) (Nat.le_of_ble_eq_true rfl) hf rfl fun v107 σ hf => ?_
      refine z_icmpeq (q := 811) (tgt := 1510) C dL_law_808 (by decide) rfl hf (fun c808 hf => ?_) (fun c808 hf => ?_)
      · exact j1510_1 i_5 σ hf
      · refine z_iconst (q := 812) C (0 : Int32) dL_law_811 ki_0 rfl ?_
        have e1 := zl_x hf hx1
        have hf := hk1
        rw [← e1] at hf
        try dsimp only at hf
        exact z_zreturn C rfl z_nb0 dL_law_812 (Option.some.inj hf)
    rw [if_neg c33_17] at hf
    by_cases c33_18 : (v7 &&& (63 : Int32)) = (18 : Int32)
    · rw [if_pos c33_18] at hf
      refine z_tableIn (tgt := 813) C 18 dL_law_33 (by rw [c33_18]; rfl) (by decide) (by decide) rfl (by decide) ?_
      refine z_aload_n (q := 814) (i := 1) C 1 dL_law_813 rfl rfl rfl ?_
      refine z_aload_n (q := 815) (i := 0) C 0 dL_law_814 rfl rfl rfl ?_
      refine z_iload_n (q := 816) (i := 3) C 3 dL_law_815 rfl rfl rfl ?_
      refine z_iconst (q := 817) C (1 : Int32) dL_law_816 ki_1 rfl ?_
      refine z_iadd (q := 818) C dL_law_817 rfl ?_
      refine z_scr (q := 819) C hS dL_law_818 hf rfl fun v108 hf => ?_
      refine z_callVi (q := 822) (As := [.int v108]) C (fun o ho => m_X0_weight _ _ _ ho) zk0 vvL_96 cdX0_weight pnX0 dL_law_819 rfl (by decide) (Nat.le_of_ble_eq_true rfl) hf rfl fun v109 σ hf => ?_
      refine z_aload_n (q := 823) (i := 2) C 2 dL_law_822 rfl rfl rfl ?_
      refine z_aload_n (q := 824) (i := 0) C 0 dL_law_823 rfl rfl rfl ?_
      refine z_iload_n (q := 825) (i := 3) C 3 dL_law_824 rfl rfl rfl ?_
      refine z_iconst (q := 826) C (1 : Int32) dL_law_825 ki_1 rfl ?_
      refine z_iadd (q := 827) C dL_law_826 rfl ?_
      refine z_scr (q := 828) C hS dL_law_827 hf rfl fun v110 hf => ?_
      refine z_callVi (q := 831) (As := [.int v110]) C (fun o ho => m_X9_weight _ _ _ ho) zk9 vvL_99 cdX9_weight pnX9 dL_law_828 rfl (by decide) (Nat.le_of_ble_eq_true rfl) hf rfl fun v111 σ hf => ?_
      refine z_icmpeq (q := 834) (tgt := 1510) C dL_law_831 (by decide) rfl hf (fun c831 hf => ?_) (fun c831 hf => ?_)
      · exact j1510_1 i_5 σ hf
      · refine z_iconst (q := 835) C (0 : Int32) dL_law_834 ki_0 rfl ?_
        have e1 := zl_x hf hx1
        have hf := hk1
        rw [← e1] at hf
        try dsimp only at hf
        exact z_zreturn C rfl z_nb0 dL_law_835 (Option.some.inj hf)
    rw [if_neg c33_18] at hf
    by_cases c33_19 : (v7 &&& (63 : Int32)) = (19 : Int32)
    · rw [if_pos c33_19] at hf
      refine z_tableIn (tgt := 836) C 19 dL_law_33 (by rw [c33_19]; rfl) (by decide) (by decide) rfl (by decide) ?_
      refine z_aload_n (q := 837) (i := 1) C 1 dL_law_836 rfl rfl rfl ?_
      refine z_aload_n (q := 838) (i := 0) C 0 dL_law_837 rfl rfl rfl ?_
      refine z_iload_n (q := 839) (i := 3) C 3 dL_law_838 rfl rfl rfl ?_
      refine z_iconst (q := 840) C (1 : Int32) dL_law_839 ki_1 rfl ?_
      refine z_iadd (q := 841) C dL_law_840 rfl ?_
      refine z_scr (q := 842) C hS dL_law_841 hf rfl fun v112 hf => ?_
      refine z_callVi (q := 845) (As := [.int v112]) C (fun o ho => m_X0_hangs _ _ _ ho) zk0 vvL_100 cdX0_hangs pnX0 dL_law_842 rfl (by decide) (Nat.le_of_ble_eq_true rfl) hf rfl fun v113 σ hf => ?_
      refine z_aload_n (q := 846) (i := 2) C 2 dL_law_845 rfl rfl rfl ?_
      refine z_aload_n (q := 847) (i := 0) C 0 dL_law_846 rfl rfl rfl ?_
      refine z_iload_n (q := 848) (i := 3) C 3 dL_law_847 rfl rfl rfl ?_
      refine z_iconst (q := 849) C (1 : Int32) dL_law_848 ki_1 rfl ?_
      refine z_iadd (q := 850) C dL_law_849 rfl ?_
      refine z_scr (q := 851) C hS dL_law_850 hf rfl fun v114 hf => ?_
      refine z_callVi (q := 854) (As := [.int v114]) C (fun o ho => m_X9_hangs _ _ _ ho) zk9 vvL_103 cdX9_hangs pnX9 dL_law_851 rfl (by decide) (Nat.le_of_ble_eq_true rfl) hf rfl fun v115 σ hf => ?_
      refine z_icmpeq (q := 857) (tgt := 1510) C dL_law_854 (by decide) rfl hf (fun c854 hf => ?_) (fun c854 hf => ?_)
      · exact j1510_1 i_5 σ hf
      · refine z_iconst (q := 858) C (0 : Int32) dL_law_857 ki_0 rfl ?_
        have e1 := zl_x hf hx1
        have hf := hk1
        rw [← e1] at hf
        try dsimp only at hf
        exact z_zreturn C rfl z_nb0 dL_law_858 (Option.some.inj hf)
    rw [if_neg c33_19] at hf
    by_cases c33_20 : (v7 &&& (63 : Int32)) = (20 : Int32)
    · rw [if_pos c33_20] at hf
      refine z_tableIn (tgt := 859) C 20 dL_law_33 (by rw [c33_20]; rfl) (by decide) (by decide) rfl (by decide) ?_
      refine z_aload_n (q := 860) (i := 1) C 1 dL_law_859 rfl rfl rfl ?_
      refine z_aload_n (q := 861) (i := 0) C 0 dL_law_860 rfl rfl rfl ?_
      refine z_iload_n (q := 862) (i := 3) C 3 dL_law_861 rfl rfl rfl ?_
      refine z_iconst (q := 863) C (1 : Int32) dL_law_862 ki_1 rfl ?_
      refine z_iadd (q := 864) C dL_law_863 rfl ?_
      refine z_scr (q := 865) C hS dL_law_864 hf rfl fun v116 hf => ?_
      refine z_aload_n (q := 866) (i := 0) C 0 dL_law_865 rfl rfl rfl ?_
      refine z_iload_n (q := 867) (i := 3) C 3 dL_law_866 rfl rfl rfl ?_
      refine z_iconst (q := 868) C (2 : Int32) dL_law_867 ki_2 rfl ?_
      refine z_iadd (q := 869) C dL_law_868 rfl ?_
      refine z_scr (q := 870) C hS dL_law_869 hf rfl fun v117 hf => ?_
      refine z_callVi (q := 873) (As := [.int v116, .int v117]) C (fun o ho => m_X0_put_2 _ _ _ _ ho) zk0 vvL_104 cdX0_put_2 pnX0 dL_law_870 rfl (by decide) (Nat.le_of_ble_eq_true rfl) hf rfl fun v118 σ hf => ?_
      refine z_aload_n (q := 874) (i := 2) C 2 dL_law_873 rfl rfl rfl ?_
      refine z_aload_n (q := 875) (i := 0) C 0 dL_law_874 rfl rfl rfl ?_
      refine z_iload_n (q := 876) (i := 3) C 3 dL_law_875 rfl rfl rfl ?_
      refine z_iconst (q := 877) C (1 : Int32) dL_law_876 ki_1 rfl ?_
      refine z_iadd (q := 878) C dL_law_877 rfl ?_
      refine z_scr (q := 879) C hS dL_law_878 hf rfl fun v119 hf => ?_
      refine z_aload_n (q := 880) (i := 0) C 0 dL_law_879 rfl rfl rfl ?_
      refine z_iload_n (q := 881) (i := 3) C 3 dL_law_880 rfl rfl rfl ?_
      refine z_iconst (q := 882) C (2 : Int32) dL_law_881 ki_2 rfl ?_
      refine z_iadd (q := 883) C dL_law_882 rfl ?_
      refine z_scr (q := 884) C hS dL_law_883 hf rfl fun v120 hf => ?_
      refine z_callVi (q := 887) (As := [.int v119, .int v120]) C (fun o ho => m_X9_put _ _ _ _ ho) zk9 vvL_108 cdX9_put pnX9 dL_law_884 rfl (by decide) (Nat.le_of_ble_eq_true rfl) hf rfl fun v121 σ hf => ?_
      refine z_icmpeq (q := 890) (tgt := 1510) C dL_law_887 (by decide) rfl hf (fun c887 hf => ?_) (fun c887 hf => ?_)
      · exact j1510_1 i_5 σ hf
      · refine z_iconst (q := 891) C (0 : Int32) dL_law_890 ki_0 rfl ?_
        have e1 := zl_x hf hx1
        have hf := hk1
        rw [← e1] at hf
        try dsimp only at hf
        exact z_zreturn C rfl z_nb0 dL_law_891 (Option.some.inj hf)
    rw [if_neg c33_20] at hf
    by_cases c33_21 : (v7 &&& (63 : Int32)) = (21 : Int32)
    · rw [if_pos c33_21] at hf
      refine z_tableIn (tgt := 892) C 21 dL_law_33 (by rw [c33_21]; rfl) (by decide) (by decide) rfl (by decide) ?_
      refine z_aload_n (q := 893) (i := 1) C 1 dL_law_892 rfl rfl rfl ?_
      refine z_aload_n (q := 894) (i := 0) C 0 dL_law_893 rfl rfl rfl ?_
      refine z_iload_n (q := 895) (i := 3) C 3 dL_law_894 rfl rfl rfl ?_
      refine z_iconst (q := 896) C (1 : Int32) dL_law_895 ki_1 rfl ?_
      refine z_iadd (q := 897) C dL_law_896 rfl ?_
      refine z_scr (q := 898) C hS dL_law_897 hf rfl fun v122 hf => ?_
      refine z_aload_n (q := 899) (i := 0) C 0 dL_law_898 rfl rfl rfl ?_
      refine z_iload_n (q := 900) (i := 3) C 3 dL_law_899 rfl rfl rfl ?_
      refine z_iconst (q := 901) C (2 : Int32) dL_law_900 ki_2 rfl ?_
      refine z_iadd (q := 902) C dL_law_901 rfl ?_
      refine z_scr (q := 903) C hS dL_law_902 hf rfl fun v123 hf => ?_
      refine z_callVi (q := 906) (As := [.int v122, .int v123]) C (fun o ho => m_X0_go _ _ _ _ ho) zk0 vvL_109 cdX0_go pnX0 dL_law_903 rfl (by decide) (Nat.le_of_ble_eq_true rfl) hf rfl fun v124 σ hf => ?_
      refine z_aload_n (q := 907) (i := 2) C 2 dL_law_906 rfl rfl rfl ?_
      refine z_aload_n (q := 908) (i := 0) C 0 dL_law_907 rfl rfl rfl ?_
      refine z_iload_n (q := 909) (i := 3) C 3 dL_law_908 rfl rfl rfl ?_
      refine z_iconst (q := 910) C (1 : Int32) dL_law_909 ki_1 rfl ?_
      refine z_iadd (q := 911) C dL_law_910 rfl ?_
      refine z_scr (q := 912) C hS dL_law_911 hf rfl fun v125 hf => ?_
      refine z_aload_n (q := 913) (i := 0) C 0 dL_law_912 rfl rfl rfl ?_
      refine z_iload_n (q := 914) (i := 3) C 3 dL_law_913 rfl rfl rfl ?_
      refine z_iconst (q := 915) C (2 : Int32) dL_law_914 ki_2 rfl ?_
      refine z_iadd (q := 916) C dL_law_915 rfl ?_
      refine z_scr (q := 917) C hS dL_law_916 hf rfl fun v126 hf => ?_
      refine z_callVi (q := 920) (As := [.int v125, .int v126]) C (fun o ho => m_X9_go _ _ _ _ ho) zk9 vvL_112 cdX9_go pnX9 dL_law_917 rfl (by decide) (Nat.le_of_ble_eq_true rfl) hf rfl fun v127 σ hf => ?_
      refine z_icmpeq (q := 923) (tgt := 1510) C dL_law_920 (by decide) rfl hf (fun c920 hf => ?_) (fun c920 hf => ?_)
      · exact j1510_1 i_5 σ hf
      · refine z_iconst (q := 924) C (0 : Int32) dL_law_923 ki_0 rfl ?_
        have e1 := zl_x hf hx1
        have hf := hk1
        rw [← e1] at hf
        try dsimp only at hf
        exact z_zreturn C rfl z_nb0 dL_law_924 (Option.some.inj hf)
    rw [if_neg c33_21] at hf
    by_cases c33_22 : (v7 &&& (63 : Int32)) = (22 : Int32)
    · rw [if_pos c33_22] at hf
      refine z_tableIn (tgt := 925) C 22 dL_law_33 (by rw [c33_22]; rfl) (by decide) (by decide) rfl (by decide) ?_
      refine z_aload_n (q := 926) (i := 1) C 1 dL_law_925 rfl rfl rfl ?_
      refine z_aload_n (q := 927) (i := 0) C 0 dL_law_926 rfl rfl rfl ?_
      refine z_iload_n (q := 928) (i := 3) C 3 dL_law_927 rfl rfl rfl ?_
      refine z_iconst (q := 929) C (1 : Int32) dL_law_928 ki_1 rfl ?_
      refine z_iadd (q := 930) C dL_law_929 rfl ?_
      refine z_scr (q := 931) C hS dL_law_930 hf rfl fun v128 hf => ?_
      refine z_aload_n (q := 932) (i := 0) C 0 dL_law_931 rfl rfl rfl ?_
      refine z_iload_n (q := 933) (i := 3) C 3 dL_law_932 rfl rfl rfl ?_
      refine z_iconst (q := 934) C (2 : Int32) dL_law_933 ki_2 rfl ?_
      refine z_iadd (q := 935) C dL_law_934 rfl ?_
      refine z_scr (q := 936) C hS dL_law_935 hf rfl fun v129 hf => ?_
      refine z_aload_n (q := 937) (i := 0) C 0 dL_law_936 rfl rfl rfl ?_
      refine z_iload_n (q := 938) (i := 3) C 3 dL_law_937 rfl rfl rfl ?_
      refine z_iconst (q := 939) C (3 : Int32) dL_law_938 ki_3 rfl ?_
      refine z_iadd (q := 940) C dL_law_939 rfl ?_
      refine z_scr (q := 941) C hS dL_law_940 hf rfl fun v130 hf => ?_
      refine z_callVi (q := 944) (As := [.int v128, .int v129, .int v130]) C (fun o ho => m_X0_both _ _ _ _ _ ho) zk0 vvL_113 cdX0_both pnX0 dL_law_941 rfl (by decide) (Nat.le_of_ble_eq_true rfl) hf rfl fun v131 σ hf => ?_
      refine z_aload_n (q := 945) (i := 2) C 2 dL_law_944 rfl rfl rfl ?_
      refine z_aload_n (q := 946) (i := 0) C 0 dL_law_945 rfl rfl rfl ?_
      refine z_iload_n (q := 947) (i := 3) C 3 dL_law_946 rfl rfl rfl ?_
      refine z_iconst (q := 948) C (1 : Int32) dL_law_947 ki_1 rfl ?_
      refine z_iadd (q := 949) C dL_law_948 rfl ?_
      refine z_scr (q := 950) C hS dL_law_949 hf rfl fun v132 hf => ?_
      refine z_aload_n (q := 951) (i := 0) C 0 dL_law_950 rfl rfl rfl ?_
      refine z_iload_n (q := 952) (i := 3) C 3 dL_law_951 rfl rfl rfl ?_
      refine z_iconst (q := 953) C (2 : Int32) dL_law_952 ki_2 rfl ?_
      refine z_iadd (q := 954) C dL_law_953 rfl ?_
      refine z_scr (q := 955) C hS dL_law_954 hf rfl fun v133 hf => ?_
      refine z_aload_n (q := 956) (i := 0) C 0 dL_law_955 rfl rfl rfl ?_
      refine z_iload_n (q := 957) (i := 3) C 3 dL_law_956 rfl rfl rfl ?_
      refine z_iconst (q := 958) C (3 : Int32) dL_law_957 ki_3 rfl ?_
      refine z_iadd (q := 959) C dL_law_958 rfl ?_
      refine z_scr (q := 960) C hS dL_law_959 hf rfl fun v134 hf => ?_
      refine z_callVi (q := 963) (As := [.int v132, .int v133, .int v134]) C (fun o ho => m_X9_both _ _ _ _ _ ho) zk9 vvL_116 cdX9_both pnX9 dL_law_960 rfl (by decide) (Nat.le_of_ble_eq_true rfl) hf rfl fun v135 σ hf => ?_
      refine z_icmpeq (q := 966) (tgt := 1510) C dL_law_963 (by decide) rfl hf (fun c963 hf => ?_) (fun c963 hf => ?_)
      · exact j1510_1 i_5 σ hf
      · refine z_iconst (q := 967) C (0 : Int32) dL_law_966 ki_0 rfl ?_
        have e1 := zl_x hf hx1
        have hf := hk1
        rw [← e1] at hf
        try dsimp only at hf
        exact z_zreturn C rfl z_nb0 dL_law_967 (Option.some.inj hf)
    rw [if_neg c33_22] at hf
    by_cases c33_23 : (v7 &&& (63 : Int32)) = (23 : Int32)
    · rw [if_pos c33_23] at hf
      refine z_tableIn (tgt := 968) C 23 dL_law_33 (by rw [c33_23]; rfl) (by decide) (by decide) rfl (by decide) ?_
      refine z_aload_n (q := 969) (i := 1) C 1 dL_law_968 rfl rfl rfl ?_
      refine z_aload_n (q := 970) (i := 0) C 0 dL_law_969 rfl rfl rfl ?_
      refine z_iload_n (q := 971) (i := 3) C 3 dL_law_970 rfl rfl rfl ?_
      refine z_iconst (q := 972) C (1 : Int32) dL_law_971 ki_1 rfl ?_
      refine z_iadd (q := 973) C dL_law_972 rfl ?_
      refine z_scr (q := 974) C hS dL_law_973 hf rfl fun v136 hf => ?_
      refine z_aload_n (q := 975) (i := 0) C 0 dL_law_974 rfl rfl rfl ?_
      refine z_iload_n (q := 976) (i := 3) C 3 dL_law_975 rfl rfl rfl ?_
      refine z_iconst (q := 977) C (2 : Int32) dL_law_976 ki_2 rfl ?_
      refine z_iadd (q := 978) C dL_law_977 rfl ?_
      refine z_scr (q := 979) C hS dL_law_978 hf rfl fun v137 hf => ?_
      refine z_aload_n (q := 980) (i := 0) C 0 dL_law_979 rfl rfl rfl ?_
      refine z_iload_n (q := 981) (i := 3) C 3 dL_law_980 rfl rfl rfl ?_
      refine z_iconst (q := 982) C (3 : Int32) dL_law_981 ki_3 rfl ?_
      refine z_iadd (q := 983) C dL_law_982 rfl ?_
      refine z_scr (q := 984) C hS dL_law_983 hf rfl fun v138 hf => ?_
      refine z_callVi (q := 987) (As := [.int v136, .int v137, .int v138]) C (fun o ho => m_X0_why _ _ _ _ _ ho) zk0 vvL_117 cdX0_why pnX0 dL_law_984 rfl (by decide) (Nat.le_of_ble_eq_true rfl) hf rfl fun v139 σ hf => ?_
      refine z_aload_n (q := 988) (i := 2) C 2 dL_law_987 rfl rfl rfl ?_
      refine z_aload_n (q := 989) (i := 0) C 0 dL_law_988 rfl rfl rfl ?_
      refine z_iload_n (q := 990) (i := 3) C 3 dL_law_989 rfl rfl rfl ?_
      refine z_iconst (q := 991) C (1 : Int32) dL_law_990 ki_1 rfl ?_
      refine z_iadd (q := 992) C dL_law_991 rfl ?_
      refine z_scr (q := 993) C hS dL_law_992 hf rfl fun v140 hf => ?_
      refine z_aload_n (q := 994) (i := 0) C 0 dL_law_993 rfl rfl rfl ?_
      refine z_iload_n (q := 995) (i := 3) C 3 dL_law_994 rfl rfl rfl ?_
      refine z_iconst (q := 996) C (2 : Int32) dL_law_995 ki_2 rfl ?_
      refine z_iadd (q := 997) C dL_law_996 rfl ?_
      refine z_scr (q := 998) C hS dL_law_997 hf rfl fun v141 hf => ?_
      refine z_aload_n (q := 999) (i := 0) C 0 dL_law_998 rfl rfl rfl ?_
      refine z_iload_n (q := 1000) (i := 3) C 3 dL_law_999 rfl rfl rfl ?_
      refine z_iconst (q := 1001) C (3 : Int32) dL_law_1000 ki_3 rfl ?_
      refine z_iadd (q := 1002) C dL_law_1001 rfl ?_
      refine z_scr (q := 1003) C hS dL_law_1002 hf rfl fun v142 hf => ?_
      refine z_callVi (q := 1006) (As := [.int v140, .int v141, .int v142]) C (fun o ho => m_X9_why _ _ _ _ _ ho) zk9 vvL_121 cdX9_why pnX9 dL_law_1003 rfl (by decide) (Nat.le_of_ble_eq_true rfl) hf rfl fun v143 σ hf => ?_
      refine z_icmpeq (q := 1009) (tgt := 1510) C dL_law_1006 (by decide) rfl hf (fun c1006 hf => ?_) (fun c1006 hf => ?_)
      · exact j1510_1 i_5 σ hf
      · refine z_iconst (q := 1010) C (0 : Int32) dL_law_1009 ki_0 rfl ?_
        have e1 := zl_x hf hx1
        have hf := hk1
        rw [← e1] at hf
        try dsimp only at hf
        exact z_zreturn C rfl z_nb0 dL_law_1010 (Option.some.inj hf)
    rw [if_neg c33_23] at hf
    by_cases c33_24 : (v7 &&& (63 : Int32)) = (24 : Int32)
    · rw [if_pos c33_24] at hf
      refine z_tableIn (tgt := 1011) C 24 dL_law_33 (by rw [c33_24]; rfl) (by decide) (by decide) rfl (by decide) ?_
      refine z_aload_n (q := 1012) (i := 1) C 1 dL_law_1011 rfl rfl rfl ?_
      refine z_aload_n (q := 1013) (i := 0) C 0 dL_law_1012 rfl rfl rfl ?_
      refine z_iload_n (q := 1014) (i := 3) C 3 dL_law_1013 rfl rfl rfl ?_
      refine z_iconst (q := 1015) C (1 : Int32) dL_law_1014 ki_1 rfl ?_
      refine z_iadd (q := 1016) C dL_law_1015 rfl ?_
      refine z_scr (q := 1017) C hS dL_law_1016 hf rfl fun v144 hf => ?_
      refine z_aload_n (q := 1018) (i := 0) C 0 dL_law_1017 rfl rfl rfl ?_
      refine z_iload_n (q := 1019) (i := 3) C 3 dL_law_1018 rfl rfl rfl ?_
      refine z_iconst (q := 1020) C (2 : Int32) dL_law_1019 ki_2 rfl ?_
      refine z_iadd (q := 1021) C dL_law_1020 rfl ?_
      refine z_scr (q := 1022) C hS dL_law_1021 hf rfl fun v145 hf => ?_
      refine z_callVi (q := 1025) (As := [.int v144, .int v145]) C (fun o ho => m_X0_lift _ _ _ _ ho) zk0 vvL_122 cdX0_lift pnX0 dL_law_1022 rfl (by decide) (Nat.le_of_ble_eq_true rfl) hf rfl fun v146 σ hf => ?_
      refine z_aload_n (q := 1026) (i := 2) C 2 dL_law_1025 rfl rfl rfl ?_
      refine z_aload_n (q := 1027) (i := 0) C 0 dL_law_1026 rfl rfl rfl ?_
      refine z_iload_n (q := 1028) (i := 3) C 3 dL_law_1027 rfl rfl rfl ?_
      refine z_iconst (q := 1029) C (1 : Int32) dL_law_1028 ki_1 rfl ?_
      refine z_iadd (q := 1030) C dL_law_1029 rfl ?_
      refine z_scr (q := 1031) C hS dL_law_1030 hf rfl fun v147 hf => ?_
      refine z_aload_n (q := 1032) (i := 0) C 0 dL_law_1031 rfl rfl rfl ?_
      refine z_iload_n (q := 1033) (i := 3) C 3 dL_law_1032 rfl rfl rfl ?_
      refine z_iconst (q := 1034) C (2 : Int32) dL_law_1033 ki_2 rfl ?_
      refine z_iadd (q := 1035) C dL_law_1034 rfl ?_
      refine z_scr (q := 1036) C hS dL_law_1035 hf rfl fun v148 hf => ?_
      refine z_callVi (q := 1039) (As := [.int v147, .int v148]) C (fun o ho => m_X9_lift _ _ _ _ ho) zk9 vvL_125 cdX9_lift pnX9 dL_law_1036 rfl (by decide) (Nat.le_of_ble_eq_true rfl) hf rfl fun v149 σ hf => ?_
      refine z_icmpeq (q := 1042) (tgt := 1510) C dL_law_1039 (by decide) rfl hf (fun c1039 hf => ?_) (fun c1039 hf => ?_)
      · exact j1510_1 i_5 σ hf
      · refine z_iconst (q := 1043) C (0 : Int32) dL_law_1042 ki_0 rfl ?_
        have e1 := zl_x hf hx1
        have hf := hk1
        rw [← e1] at hf
        try dsimp only at hf
        exact z_zreturn C rfl z_nb0 dL_law_1043 (Option.some.inj hf)
    rw [if_neg c33_24] at hf
    by_cases c33_25 : (v7 &&& (63 : Int32)) = (25 : Int32)
    · rw [if_pos c33_25] at hf
      refine z_tableIn (tgt := 1044) C 25 dL_law_33 (by rw [c33_25]; rfl) (by decide) (by decide) rfl (by decide) ?_
      refine z_aload_n (q := 1045) (i := 1) C 1 dL_law_1044 rfl rfl rfl ?_
      refine z_aload_n (q := 1046) (i := 0) C 0 dL_law_1045 rfl rfl rfl ?_
      refine z_iload_n (q := 1047) (i := 3) C 3 dL_law_1046 rfl rfl rfl ?_
      refine z_iconst (q := 1048) C (1 : Int32) dL_law_1047 ki_1 rfl ?_
      refine z_iadd (q := 1049) C dL_law_1048 rfl ?_
      refine z_scr (q := 1050) C hS dL_law_1049 hf rfl fun v150 hf => ?_
      refine z_callVi (q := 1053) (As := [.int v150]) C (fun o ho => m_X0_drop _ _ _ ho) zk0 vvL_126 cdX0_drop pnX0 dL_law_1050 rfl (by decide) (Nat.le_of_ble_eq_true rfl) hf rfl fun v151 σ hf => ?_
      refine z_aload_n (q := 1054) (i := 2) C 2 dL_law_1053 rfl rfl rfl ?_
      refine z_aload_n (q := 1055) (i := 0) C 0 dL_law_1054 rfl rfl rfl ?_
      refine z_iload_n (q := 1056) (i := 3) C 3 dL_law_1055 rfl rfl rfl ?_
      refine z_iconst (q := 1057) C (1 : Int32) dL_law_1056 ki_1 rfl ?_
      refine z_iadd (q := 1058) C dL_law_1057 rfl ?_
      refine z_scr (q := 1059) C hS dL_law_1058 hf rfl fun v152 hf => ?_
      refine z_callVi (q := 1062) (As := [.int v152]) C (fun o ho => m_X9_drop _ _ _ ho) zk9 vvL_130 cdX9_drop pnX9 dL_law_1059 rfl (by decide) (Nat.le_of_ble_eq_true rfl) hf rfl fun v153 σ hf => ?_
      refine z_icmpeq (q := 1065) (tgt := 1510) C dL_law_1062 (by decide) rfl hf (fun c1062 hf => ?_) (fun c1062 hf => ?_)
      · exact j1510_1 i_5 σ hf
      · refine z_iconst (q := 1066) C (0 : Int32) dL_law_1065 ki_0 rfl ?_
        have e1 := zl_x hf hx1
        have hf := hk1
        rw [← e1] at hf
        try dsimp only at hf
        exact z_zreturn C rfl z_nb0 dL_law_1066 (Option.some.inj hf)
    rw [if_neg c33_25] at hf
    by_cases c33_26 : (v7 &&& (63 : Int32)) = (26 : Int32)
    · rw [if_pos c33_26] at hf
      refine z_tableIn (tgt := 1067) C 26 dL_law_33 (by rw [c33_26]; rfl) (by decide) (by decide) rfl (by decide) ?_
      refine z_aload_n (q := 1068) (i := 1) C 1 dL_law_1067 rfl rfl rfl ?_
      refine z_callVi (q := 1071) (As := []) C (fun o ho => m_X0_begin _ _ ho) zk0 vvL_131 cdX0_begin pnX0 dL_law_1068 rfl (by decide) (Nat.le_of_ble_eq_true rfl) hf rfl fun v154 σ hf => ?_
      refine z_aload_n (q := 1072) (i := 2) C 2 dL_law_1071 rfl rfl rfl ?_
      refine z_callVi (q := 1075) (As := []) C (fun o ho => m_X9_begin _ _ ho) zk9 vvL_135 cdX9_begin pnX9 dL_law_1072 rfl (by decide) (Nat.le_of_ble_eq_true rfl) hf rfl fun v155 σ hf => ?_
      refine z_icmpeq (q := 1078) (tgt := 1510) C dL_law_1075 (by decide) rfl hf (fun c1075 hf => ?_) (fun c1075 hf => ?_)
      · exact j1510_1 i_5 σ hf
      · refine z_iconst (q := 1079) C (0 : Int32) dL_law_1078 ki_0 rfl ?_
        have e1 := zl_x hf hx1
        have hf := hk1
        rw [← e1] at hf
        try dsimp only at hf
        exact z_zreturn C rfl z_nb0 dL_law_1079 (Option.some.inj hf)
    rw [if_neg c33_26] at hf
    by_cases c33_27 : (v7 &&& (63 : Int32)) = (27 : Int32)
    · rw [if_pos c33_27] at hf
      refine z_tableIn (tgt := 1080) C 27 dL_law_33 (by rw [c33_27]; rfl) (by decide) (by decide) rfl (by decide) ?_
      refine z_aload_n (q := 1081) (i := 1) C 1 dL_law_1080 rfl rfl rfl ?_
      refine z_aload_n (q := 1082) (i := 0) C 0 dL_law_1081 rfl rfl rfl ?_
      refine z_iload_n (q := 1083) (i := 3) C 3 dL_law_1082 rfl rfl rfl ?_
      refine z_iconst (q := 1084) C (1 : Int32) dL_law_1083 ki_1 rfl ?_
      refine z_iadd (q := 1085) C dL_law_1084 rfl ?_
      refine z_scr (q := 1086) C hS dL_law_1085 hf rfl fun v156 hf => ?_
      refine z_callVi (q := 1089) (As := [.int v156]) C (fun o ho => m_X0_least _ _ _ ho) zk0 vvL_136 cdX0_least pnX0 dL_law_1086 rfl (by decide) (Nat.le_of_ble_eq_true rfl) hf rfl fun v157 σ hf => ?_
      refine z_aload_n (q := 1090) (i := 2) C 2 dL_law_1089 rfl rfl rfl ?_
      refine z_aload_n (q := 1091) (i := 0) C 0 dL_law_1090 rfl rfl rfl ?_
      refine z_iload_n (q := 1092) (i := 3) C 3 dL_law_1091 rfl rfl rfl ?_
      refine z_iconst (q := 1093) C (1 : Int32) dL_law_1092 ki_1 rfl ?_
      refine z_iadd (q := 1094) C dL_law_1093 rfl ?_
      refine z_scr (q := 1095) C hS dL_law_1094 hf rfl fun v158 hf => ?_
      refine z_callVi (q := 1098) (As := [.int v158]) C (fun o ho => m_X9_least _ _ _ ho) zk9 vvL_139 cdX9_least pnX9 dL_law_1095 rfl (by decide) (Nat.le_of_ble_eq_true rfl) hf rfl fun v159 σ hf => ?_
      refine z_icmpeq (q := 1101) (tgt := 1510) C dL_law_1098 (by decide) rfl hf (fun c1098 hf => ?_) (fun c1098 hf => ?_)
      · exact j1510_1 i_5 σ hf
      · refine z_iconst (q := 1102) C (0 : Int32) dL_law_1101 ki_0 rfl ?_
        have e1 := zl_x hf hx1
        have hf := hk1
        rw [← e1] at hf
        try dsimp only at hf
        exact z_zreturn C rfl z_nb0 dL_law_1102 (Option.some.inj hf)
    rw [if_neg c33_27] at hf
    by_cases c33_28 : (v7 &&& (63 : Int32)) = (28 : Int32)
    · rw [if_pos c33_28] at hf
      refine z_tableIn (tgt := 1103) C 28 dL_law_33 (by rw [c33_28]; rfl) (by decide) (by decide) rfl (by decide) ?_
      refine z_aload_n (q := 1104) (i := 1) C 1 dL_law_1103 rfl rfl rfl ?_
      refine z_callVi (q := 1107) (As := []) C (fun o ho => m_X0_first _ _ ho) zk0 vvL_140 cdX0_first pnX0 dL_law_1104 rfl (by decide) (Nat.le_of_ble_eq_true rfl) hf rfl fun v160 σ hf => ?_
      refine z_aload_n (q := 1108) (i := 2) C 2 dL_law_1107 rfl rfl rfl ?_
      refine z_callVi (q := 1111) (As := []) C (fun o ho => m_X9_first _ _ ho) zk9 vvL_143 cdX9_first pnX9 dL_law_1108 rfl (by decide) (Nat.le_of_ble_eq_true rfl) hf rfl fun v161 σ hf => ?_
      refine z_icmpeq (q := 1114) (tgt := 1510) C dL_law_1111 (by decide) rfl hf (fun c1111 hf => ?_) (fun c1111 hf => ?_)
      · exact j1510_1 i_5 σ hf
      · refine z_iconst (q := 1115) C (0 : Int32) dL_law_1114 ki_0 rfl ?_
        have e1 := zl_x hf hx1
        have hf := hk1
        rw [← e1] at hf
        try dsimp only at hf
        exact z_zreturn C rfl z_nb0 dL_law_1115 (Option.some.inj hf)
    rw [if_neg c33_28] at hf
    by_cases c33_29 : (v7 &&& (63 : Int32)) = (29 : Int32)
    · rw [if_pos c33_29] at hf
      refine z_tableIn (tgt := 1116) C 29 dL_law_33 (by rw [c33_29]; rfl) (by decide) (by decide) rfl (by decide) ?_
      refine z_aload_n (q := 1117) (i := 1) C 1 dL_law_1116 rfl rfl rfl ?_
      refine z_aload_n (q := 1118) (i := 0) C 0 dL_law_1117 rfl rfl rfl ?_
      refine z_iload_n (q := 1119) (i := 3) C 3 dL_law_1118 rfl rfl rfl ?_
      refine z_iconst (q := 1120) C (1 : Int32) dL_law_1119 ki_1 rfl ?_
      refine z_iadd (q := 1121) C dL_law_1120 rfl ?_
      refine z_scr (q := 1122) C hS dL_law_1121 hf rfl fun v162 hf => ?_
      refine z_aload_n (q := 1123) (i := 0) C 0 dL_law_1122 rfl rfl rfl ?_
      refine z_iload_n (q := 1124) (i := 3) C 3 dL_law_1123 rfl rfl rfl ?_
      refine z_iconst (q := 1125) C (2 : Int32) dL_law_1124 ki_2 rfl ?_
      refine z_iadd (q := 1126) C dL_law_1125 rfl ?_
      refine z_scr (q := 1127) C hS dL_law_1126 hf rfl fun v163 hf => ?_
      refine z_callVi (q := 1130) (As := [.int v162, .int v163]) C (fun o ho => m_X0_firstAt _ _ _ _ ho) zk0 vvL_144 cdX0_firstAt pnX0 dL_law_1127 rfl (by decide) (Nat.le_of_ble_eq_true rfl) hf rfl fun v164 σ hf => ?_
      refine z_aload_n (q := 1131) (i := 2) C 2 dL_law_1130 rfl rfl rfl ?_
      refine z_aload_n (q := 1132) (i := 0) C 0 dL_law_1131 rfl rfl rfl ?_
      refine z_iload_n (q := 1133) (i := 3) C 3 dL_law_1132 rfl rfl rfl ?_
      refine z_iconst (q := 1134) C (1 : Int32) dL_law_1133 ki_1 rfl ?_
      refine z_iadd (q := 1135) C dL_law_1134 rfl ?_
      refine z_scr (q := 1136) C hS dL_law_1135 hf rfl fun v165 hf => ?_
      refine z_aload_n (q := 1137) (i := 0) C 0 dL_law_1136 rfl rfl rfl ?_
      refine z_iload_n (q := 1138) (i := 3) C 3 dL_law_1137 rfl rfl rfl ?_
      refine z_iconst (q := 1139) C (2 : Int32) dL_law_1138 ki_2 rfl ?_
      refine z_iadd (q := 1140) C dL_law_1139 rfl ?_
      refine z_scr (q := 1141) C hS dL_law_1140 hf rfl fun v166 hf => ?_
      refine z_callVi (q := 1144) (As := [.int v165, .int v166]) C (fun o ho => m_X9_firstAt _ _ _ _ ho) zk9 vvL_147 cdX9_firstAt pnX9 dL_law_1141 rfl (by decide) (Nat.le_of_ble_eq_true rfl) hf rfl fun v167 σ hf => ?_
      refine z_icmpeq (q := 1147) (tgt := 1510) C dL_law_1144 (by decide) rfl hf (fun c1144 hf => ?_) (fun c1144 hf => ?_)
      · exact j1510_1 i_5 σ hf
      · refine z_iconst (q := 1148) C (0 : Int32) dL_law_1147 ki_0 rfl ?_
        have e1 := zl_x hf hx1
        have hf := hk1
        rw [← e1] at hf
        try dsimp only at hf
        exact z_zreturn C rfl z_nb0 dL_law_1148 (Option.some.inj hf)
    rw [if_neg c33_29] at hf
    by_cases c33_30 : (v7 &&& (63 : Int32)) = (30 : Int32)
    · rw [if_pos c33_30] at hf
      refine z_tableIn (tgt := 1149) C 30 dL_law_33 (by rw [c33_30]; rfl) (by decide) (by decide) rfl (by decide) ?_
      refine z_aload_n (q := 1150) (i := 1) C 1 dL_law_1149 rfl rfl rfl ?_
      refine z_aload_n (q := 1151) (i := 0) C 0 dL_law_1150 rfl rfl rfl ?_
      refine z_iload_n (q := 1152) (i := 3) C 3 dL_law_1151 rfl rfl rfl ?_
      refine z_iconst (q := 1153) C (1 : Int32) dL_law_1152 ki_1 rfl ?_
      refine z_iadd (q := 1154) C dL_law_1153 rfl ?_
      refine z_scr (q := 1155) C hS dL_law_1154 hf rfl fun v168 hf => ?_
      refine z_callVi (q := 1158) (As := [.int v168]) C (fun o ho => m_X0_reach _ _ _ ho) zk0 vvL_148 cdX0_reach pnX0 dL_law_1155 rfl (by decide) (Nat.le_of_ble_eq_true rfl) hf rfl fun v169 σ hf => ?_
      refine z_aload_n (q := 1159) (i := 2) C 2 dL_law_1158 rfl rfl rfl ?_
      refine z_aload_n (q := 1160) (i := 0) C 0 dL_law_1159 rfl rfl rfl ?_
      refine z_iload_n (q := 1161) (i := 3) C 3 dL_law_1160 rfl rfl rfl ?_
      refine z_iconst (q := 1162) C (1 : Int32) dL_law_1161 ki_1 rfl ?_
      refine z_iadd (q := 1163) C dL_law_1162 rfl ?_
      refine z_scr (q := 1164) C hS dL_law_1163 hf rfl fun v170 hf => ?_
      refine z_callVi (q := 1167) (As := [.int v170]) C (fun o ho => m_X9_reach _ _ _ ho) zk9 vvL_151 cdX9_reach pnX9 dL_law_1164 rfl (by decide) (Nat.le_of_ble_eq_true rfl) hf rfl fun v171 σ hf => ?_
      refine z_icmpeq (q := 1170) (tgt := 1510) C dL_law_1167 (by decide) rfl hf (fun c1167 hf => ?_) (fun c1167 hf => ?_)
      · exact j1510_1 i_5 σ hf
      · refine z_iconst (q := 1171) C (0 : Int32) dL_law_1170 ki_0 rfl ?_
        have e1 := zl_x hf hx1
        have hf := hk1
        rw [← e1] at hf
        try dsimp only at hf
        exact z_zreturn C rfl z_nb0 dL_law_1171 (Option.some.inj hf)
    rw [if_neg c33_30] at hf
    by_cases c33_31 : (v7 &&& (63 : Int32)) = (31 : Int32)
    · rw [if_pos c33_31] at hf
      refine z_tableIn (tgt := 1172) C 31 dL_law_33 (by rw [c33_31]; rfl) (by decide) (by decide) rfl (by decide) ?_
      refine z_aload_n (q := 1173) (i := 1) C 1 dL_law_1172 rfl rfl rfl ?_
      refine z_aload_n (q := 1174) (i := 0) C 0 dL_law_1173 rfl rfl rfl ?_
      refine z_iload_n (q := 1175) (i := 3) C 3 dL_law_1174 rfl rfl rfl ?_
      refine z_iconst (q := 1176) C (1 : Int32) dL_law_1175 ki_1 rfl ?_
      refine z_iadd (q := 1177) C dL_law_1176 rfl ?_
      refine z_scr (q := 1178) C hS dL_law_1177 hf rfl fun v172 hf => ?_
      refine z_aload_n (q := 1179) (i := 0) C 0 dL_law_1178 rfl rfl rfl ?_
      refine z_iload_n (q := 1180) (i := 3) C 3 dL_law_1179 rfl rfl rfl ?_
      refine z_iconst (q := 1181) C (2 : Int32) dL_law_1180 ki_2 rfl ?_
      refine z_iadd (q := 1182) C dL_law_1181 rfl ?_
      refine z_scr (q := 1183) C hS dL_law_1182 hf rfl fun v173 hf => ?_
      refine z_callVi (q := 1186) (As := [.int v172, .int v173]) C (fun o ho => m_X0_fewest _ _ _ _ ho) zk0 vvL_152 cdX0_fewest pnX0 dL_law_1183 rfl (by decide) (Nat.le_of_ble_eq_true rfl) hf rfl fun v174 σ hf => ?_
      refine z_aload_n (q := 1187) (i := 2) C 2 dL_law_1186 rfl rfl rfl ?_
      refine z_aload_n (q := 1188) (i := 0) C 0 dL_law_1187 rfl rfl rfl ?_
      refine z_iload_n (q := 1189) (i := 3) C 3 dL_law_1188 rfl rfl rfl ?_
      refine z_iconst (q := 1190) C (1 : Int32) dL_law_1189 ki_1 rfl ?_
      refine z_iadd (q := 1191) C dL_law_1190 rfl ?_
      refine z_scr (q := 1192) C hS dL_law_1191 hf rfl fun v175 hf => ?_
      refine z_aload_n (q := 1193) (i := 0) C 0 dL_law_1192 rfl rfl rfl ?_
      refine z_iload_n (q := 1194) (i := 3) C 3 dL_law_1193 rfl rfl rfl ?_
      refine z_iconst (q := 1195) C (2 : Int32) dL_law_1194 ki_2 rfl ?_
      refine z_iadd (q := 1196) C dL_law_1195 rfl ?_
      refine z_scr (q := 1197) C hS dL_law_1196 hf rfl fun v176 hf => ?_
      refine z_callVi (q := 1200) (As := [.int v175, .int v176]) C (fun o ho => m_X9_fewest _ _ _ _ ho) zk9 vvL_155 cdX9_fewest pnX9 dL_law_1197 rfl (by decide) (Nat.le_of_ble_eq_true rfl) hf rfl fun v177 σ hf => ?_
      refine z_icmpeq (q := 1203) (tgt := 1510) C dL_law_1200 (by decide) rfl hf (fun c1200 hf => ?_) (fun c1200 hf => ?_)
      · exact j1510_1 i_5 σ hf
      · refine z_iconst (q := 1204) C (0 : Int32) dL_law_1203 ki_0 rfl ?_
        have e1 := zl_x hf hx1
        have hf := hk1
        rw [← e1] at hf
        try dsimp only at hf
        exact z_zreturn C rfl z_nb0 dL_law_1204 (Option.some.inj hf)
    rw [if_neg c33_31] at hf
    by_cases c33_32 : (v7 &&& (63 : Int32)) = (32 : Int32)
    · rw [if_pos c33_32] at hf
      refine z_tableIn (tgt := 1205) C 32 dL_law_33 (by rw [c33_32]; rfl) (by decide) (by decide) rfl (by decide) ?_
      refine z_aload_n (q := 1206) (i := 1) C 1 dL_law_1205 rfl rfl rfl ?_
      refine z_callVi (q := 1209) (As := []) C (fun o ho => m_X0_states _ _ ho) zk0 vvL_156 cdX0_states pnX0 dL_law_1206 rfl (by decide) (Nat.le_of_ble_eq_true rfl) hf rfl fun v178 σ hf => ?_
      refine z_aload_n (q := 1210) (i := 2) C 2 dL_law_1209 rfl rfl rfl ?_
      refine z_callVi (q := 1213) (As := []) C (fun o ho => m_X9_states _ _ ho) zk9 vvL_159 cdX9_states pnX9 dL_law_1210 rfl (by decide) (Nat.le_of_ble_eq_true rfl) hf rfl fun v179 σ hf => ?_
      refine z_icmpeq (q := 1216) (tgt := 1510) C dL_law_1213 (by decide) rfl hf (fun c1213 hf => ?_) (fun c1213 hf => ?_)
      · exact j1510_1 i_5 σ hf
      · refine z_iconst (q := 1217) C (0 : Int32) dL_law_1216 ki_0 rfl ?_
        have e1 := zl_x hf hx1
        have hf := hk1
        rw [← e1] at hf
        try dsimp only at hf
        exact z_zreturn C rfl z_nb0 dL_law_1217 (Option.some.inj hf)
    rw [if_neg c33_32] at hf
    by_cases c33_33 : (v7 &&& (63 : Int32)) = (33 : Int32)
    · rw [if_pos c33_33] at hf
      refine z_tableIn (tgt := 1218) C 33 dL_law_33 (by rw [c33_33]; rfl) (by decide) (by decide) rfl (by decide) ?_
      refine z_aload_n (q := 1219) (i := 1) C 1 dL_law_1218 rfl rfl rfl ?_
      refine z_aload_n (q := 1220) (i := 0) C 0 dL_law_1219 rfl rfl rfl ?_
      refine z_iload_n (q := 1221) (i := 3) C 3 dL_law_1220 rfl rfl rfl ?_
      refine z_iconst (q := 1222) C (1 : Int32) dL_law_1221 ki_1 rfl ?_
      refine z_iadd (q := 1223) C dL_law_1222 rfl ?_
      refine z_scr (q := 1224) C hS dL_law_1223 hf rfl fun v180 hf => ?_
      refine z_callVi (q := 1227) (As := [.int v180]) C (fun o ho => m_X0_most _ _ _ ho) zk0 vvL_160 cdX0_most pnX0 dL_law_1224 rfl (by decide) (Nat.le_of_ble_eq_true rfl) hf rfl fun v181 σ hf => ?_
      refine z_aload_n (q := 1228) (i := 2) C 2 dL_law_1227 rfl rfl rfl ?_
      refine z_aload_n (q := 1229) (i := 0) C 0 dL_law_1228 rfl rfl rfl ?_
      refine z_iload_n (q := 1230) (i := 3) C 3 dL_law_1229 rfl rfl rfl ?_
      refine z_iconst (q := 1231) C (1 : Int32) dL_law_1230 ki_1 rfl ?_
      refine z_iadd (q := 1232) C dL_law_1231 rfl ?_
      refine z_scr (q := 1233) C hS dL_law_1232 hf rfl fun v182 hf => ?_
      refine z_callVi (q := 1236) (As := [.int v182]) C (fun o ho => m_X9_most _ _ _ ho) zk9 vvL_163 cdX9_most pnX9 dL_law_1233 rfl (by decide) (Nat.le_of_ble_eq_true rfl) hf rfl fun v183 σ hf => ?_
      refine z_icmpeq (q := 1239) (tgt := 1510) C dL_law_1236 (by decide) rfl hf (fun c1236 hf => ?_) (fun c1236 hf => ?_)
      · exact j1510_1 i_5 σ hf
      · refine z_iconst (q := 1240) C (0 : Int32) dL_law_1239 ki_0 rfl ?_
        have e1 := zl_x hf hx1
        have hf := hk1
        rw [← e1] at hf
        try dsimp only at hf
        exact z_zreturn C rfl z_nb0 dL_law_1240 (Option.some.inj hf)
    rw [if_neg c33_33] at hf
    by_cases c33_34 : (v7 &&& (63 : Int32)) = (34 : Int32)
    · rw [if_pos c33_34] at hf
      refine z_tableIn (tgt := 1241) C 34 dL_law_33 (by rw [c33_34]; rfl) (by decide) (by decide) rfl (by decide) ?_
      refine z_aload_n (q := 1242) (i := 1) C 1 dL_law_1241 rfl rfl rfl ?_
      refine z_callVi (q := 1245) (As := []) C (fun o ho => m_X0_lost _ _ ho) zk0 vvL_164 cdX0_lost pnX0 dL_law_1242 rfl (by decide) (Nat.le_of_ble_eq_true rfl) hf rfl fun v184 σ hf => ?_
      refine z_aload_n (q := 1246) (i := 2) C 2 dL_law_1245 rfl rfl rfl ?_
      refine z_callVi (q := 1249) (As := []) C (fun o ho => m_X9_lost _ _ ho) zk9 vvL_167 cdX9_lost pnX9 dL_law_1246 rfl (by decide) (Nat.le_of_ble_eq_true rfl) hf rfl fun v185 σ hf => ?_
      refine z_icmpeq (q := 1252) (tgt := 1510) C dL_law_1249 (by decide) rfl hf (fun c1249 hf => ?_) (fun c1249 hf => ?_)
      · exact j1510_1 i_5 σ hf
      · refine z_iconst (q := 1253) C (0 : Int32) dL_law_1252 ki_0 rfl ?_
        have e1 := zl_x hf hx1
        have hf := hk1
        rw [← e1] at hf
        try dsimp only at hf
        exact z_zreturn C rfl z_nb0 dL_law_1253 (Option.some.inj hf)
    rw [if_neg c33_34] at hf
    by_cases c33_35 : (v7 &&& (63 : Int32)) = (35 : Int32)
    · rw [if_pos c33_35] at hf
      refine z_tableIn (tgt := 1254) C 35 dL_law_33 (by rw [c33_35]; rfl) (by decide) (by decide) rfl (by decide) ?_
      refine z_aload_n (q := 1255) (i := 1) C 1 dL_law_1254 rfl rfl rfl ?_
      refine z_callVi (q := 1258) (As := []) C (fun o ho => m_X0_safe _ _ ho) zk0 vvL_168 cdX0_safe pnX0 dL_law_1255 rfl (by decide) (Nat.le_of_ble_eq_true rfl) hf rfl fun v186 σ hf => ?_
      refine z_aload_n (q := 1259) (i := 2) C 2 dL_law_1258 rfl rfl rfl ?_
      refine z_callVi (q := 1262) (As := []) C (fun o ho => m_X9_safe _ _ ho) zk9 vvL_171 cdX9_safe pnX9 dL_law_1259 rfl (by decide) (Nat.le_of_ble_eq_true rfl) hf rfl fun v187 σ hf => ?_
      refine z_icmpeq (q := 1265) (tgt := 1510) C dL_law_1262 (by decide) rfl hf (fun c1262 hf => ?_) (fun c1262 hf => ?_)
      · exact j1510_1 i_5 σ hf
      · refine z_iconst (q := 1266) C (0 : Int32) dL_law_1265 ki_0 rfl ?_
        have e1 := zl_x hf hx1
        have hf := hk1
        rw [← e1] at hf
        try dsimp only at hf
        exact z_zreturn C rfl z_nb0 dL_law_1266 (Option.some.inj hf)
    rw [if_neg c33_35] at hf
    by_cases c33_36 : (v7 &&& (63 : Int32)) = (36 : Int32)
    · rw [if_pos c33_36] at hf
      refine z_tableIn (tgt := 1267) C 36 dL_law_33 (by rw [c33_36]; rfl) (by decide) (by decide) rfl (by decide) ?_
      refine z_aload_n (q := 1268) (i := 1) C 1 dL_law_1267 rfl rfl rfl ?_
      refine z_callVi (q := 1271) (As := []) C (fun o ho => m_X0_free _ _ ho) zk0 vvL_172 cdX0_free pnX0 dL_law_1268 rfl (by decide) (Nat.le_of_ble_eq_true rfl) hf rfl fun v188 σ hf => ?_
      refine z_aload_n (q := 1272) (i := 2) C 2 dL_law_1271 rfl rfl rfl ?_
      refine z_callVi (q := 1275) (As := []) C (fun o ho => m_X9_free _ _ ho) zk9 vvL_175 cdX9_free pnX9 dL_law_1272 rfl (by decide) (Nat.le_of_ble_eq_true rfl) hf rfl fun v189 σ hf => ?_
      refine z_icmpeq (q := 1278) (tgt := 1510) C dL_law_1275 (by decide) rfl hf (fun c1275 hf => ?_) (fun c1275 hf => ?_)
      · exact j1510_1 i_5 σ hf
      · refine z_iconst (q := 1279) C (0 : Int32) dL_law_1278 ki_0 rfl ?_
        have e1 := zl_x hf hx1
        have hf := hk1
        rw [← e1] at hf
        try dsimp only at hf
        exact z_zreturn C rfl z_nb0 dL_law_1279 (Option.some.inj hf)
    rw [if_neg c33_36] at hf
    by_cases c33_37 : (v7 &&& (63 : Int32)) = (37 : Int32)
    · rw [if_pos c33_37] at hf
      refine z_tableIn (tgt := 1280) C 37 dL_law_33 (by rw [c33_37]; rfl) (by decide) (by decide) rfl (by decide) ?_
      refine z_aload_n (q := 1281) (i := 1) C 1 dL_law_1280 rfl rfl rfl ?_
      refine z_callVi (q := 1284) (As := []) C (fun o ho => m_X0_needed _ _ ho) zk0 vvL_176 cdX0_needed pnX0 dL_law_1281 rfl (by decide) (Nat.le_of_ble_eq_true rfl) hf rfl fun v190 σ hf => ?_
      refine z_aload_n (q := 1285) (i := 2) C 2 dL_law_1284 rfl rfl rfl ?_
      refine z_callVi (q := 1288) (As := []) C (fun o ho => m_X9_needed _ _ ho) zk9 vvL_179 cdX9_needed pnX9 dL_law_1285 rfl (by decide) (Nat.le_of_ble_eq_true rfl) hf rfl fun v191 σ hf => ?_
      refine z_icmpeq (q := 1291) (tgt := 1510) C dL_law_1288 (by decide) rfl hf (fun c1288 hf => ?_) (fun c1288 hf => ?_)
      · exact j1510_1 i_5 σ hf
      · refine z_iconst (q := 1292) C (0 : Int32) dL_law_1291 ki_0 rfl ?_
        have e1 := zl_x hf hx1
        have hf := hk1
        rw [← e1] at hf
        try dsimp only at hf
        exact z_zreturn C rfl z_nb0 dL_law_1292 (Option.some.inj hf)
    rw [if_neg c33_37] at hf
    by_cases c33_38 : (v7 &&& (63 : Int32)) = (38 : Int32)
    · rw [if_pos c33_38] at hf
      refine z_tableIn (tgt := 1293) C 38 dL_law_33 (by rw [c33_38]; rfl) (by decide) (by decide) rfl (by decide) ?_
      refine z_aload_n (q := 1294) (i := 1) C 1 dL_law_1293 rfl rfl rfl ?_
      refine z_aload_n (q := 1295) (i := 0) C 0 dL_law_1294 rfl rfl rfl ?_
      refine z_iload_n (q := 1296) (i := 3) C 3 dL_law_1295 rfl rfl rfl ?_
      refine z_iconst (q := 1297) C (1 : Int32) dL_law_1296 ki_1 rfl ?_
      refine z_iadd (q := 1298) C dL_law_1297 rfl ?_
      refine z_scr (q := 1299) C hS dL_law_1298 hf rfl fun v192 hf => ?_
      refine z_callVi (q := 1302) (As := [.int v192]) C (fun o ho => m_X0_stone _ _ _ ho) zk0 vvL_180 cdX0_stone pnX0 dL_law_1299 rfl (by decide) (Nat.le_of_ble_eq_true rfl) hf rfl fun v193 σ hf => ?_
      refine z_aload_n (q := 1303) (i := 2) C 2 dL_law_1302 rfl rfl rfl ?_
      refine z_aload_n (q := 1304) (i := 0) C 0 dL_law_1303 rfl rfl rfl ?_
      refine z_iload_n (q := 1305) (i := 3) C 3 dL_law_1304 rfl rfl rfl ?_
      refine z_iconst (q := 1306) C (1 : Int32) dL_law_1305 ki_1 rfl ?_
      refine z_iadd (q := 1307) C dL_law_1306 rfl ?_
      refine z_scr (q := 1308) C hS dL_law_1307 hf rfl fun v194 hf => ?_
      refine z_callVi (q := 1311) (As := [.int v194]) C (fun o ho => m_X9_stone _ _ _ ho) zk9 vvL_183 cdX9_stone pnX9 dL_law_1308 rfl (by decide) (Nat.le_of_ble_eq_true rfl) hf rfl fun v195 σ hf => ?_
      refine z_icmpeq (q := 1314) (tgt := 1510) C dL_law_1311 (by decide) rfl hf (fun c1311 hf => ?_) (fun c1311 hf => ?_)
      · exact j1510_1 i_5 σ hf
      · refine z_iconst (q := 1315) C (0 : Int32) dL_law_1314 ki_0 rfl ?_
        have e1 := zl_x hf hx1
        have hf := hk1
        rw [← e1] at hf
        try dsimp only at hf
        exact z_zreturn C rfl z_nb0 dL_law_1315 (Option.some.inj hf)
    rw [if_neg c33_38] at hf
    by_cases c33_39 : (v7 &&& (63 : Int32)) = (39 : Int32)
    · rw [if_pos c33_39] at hf
      refine z_tableIn (tgt := 1316) C 39 dL_law_33 (by rw [c33_39]; rfl) (by decide) (by decide) rfl (by decide) ?_
      refine z_aload_n (q := 1317) (i := 1) C 1 dL_law_1316 rfl rfl rfl ?_
      refine z_aload_n (q := 1318) (i := 0) C 0 dL_law_1317 rfl rfl rfl ?_
      refine z_iload_n (q := 1319) (i := 3) C 3 dL_law_1318 rfl rfl rfl ?_
      refine z_iconst (q := 1320) C (1 : Int32) dL_law_1319 ki_1 rfl ?_
      refine z_iadd (q := 1321) C dL_law_1320 rfl ?_
      refine z_scr (q := 1322) C hS dL_law_1321 hf rfl fun v196 hf => ?_
      refine z_callVi (q := 1325) (As := [.int v196]) C (fun o ho => m_X0_bestStone _ _ _ ho) zk0 vvL_184 cdX0_bestStone pnX0 dL_law_1322 rfl (by decide) (Nat.le_of_ble_eq_true rfl) hf rfl fun v197 σ hf => ?_
      refine z_aload_n (q := 1326) (i := 2) C 2 dL_law_1325 rfl rfl rfl ?_
      refine z_aload_n (q := 1327) (i := 0) C 0 dL_law_1326 rfl rfl rfl ?_
      refine z_iload_n (q := 1328) (i := 3) C 3 dL_law_1327 rfl rfl rfl ?_
      refine z_iconst (q := 1329) C (1 : Int32) dL_law_1328 ki_1 rfl ?_
      refine z_iadd (q := 1330) C dL_law_1329 rfl ?_
      refine z_scr (q := 1331) C hS dL_law_1330 hf rfl fun v198 hf => ?_
      refine z_callVi (q := 1334) (As := [.int v198]) C (fun o ho => m_X9_bestStone _ _ _ ho) zk9 vvL_187 cdX9_bestStone pnX9 dL_law_1331 rfl (by decide) (Nat.le_of_ble_eq_true rfl) hf rfl fun v199 σ hf => ?_
      refine z_icmpeq (q := 1337) (tgt := 1510) C dL_law_1334 (by decide) rfl hf (fun c1334 hf => ?_) (fun c1334 hf => ?_)
      · exact j1510_1 i_5 σ hf
      · refine z_iconst (q := 1338) C (0 : Int32) dL_law_1337 ki_0 rfl ?_
        have e1 := zl_x hf hx1
        have hf := hk1
        rw [← e1] at hf
        try dsimp only at hf
        exact z_zreturn C rfl z_nb0 dL_law_1338 (Option.some.inj hf)
    rw [if_neg c33_39] at hf
    by_cases c33_40 : (v7 &&& (63 : Int32)) = (40 : Int32)
    · rw [if_pos c33_40] at hf
      refine z_tableIn (tgt := 1339) C 40 dL_law_33 (by rw [c33_40]; rfl) (by decide) (by decide) rfl (by decide) ?_
      refine z_aload_n (q := 1340) (i := 1) C 1 dL_law_1339 rfl rfl rfl ?_
      refine z_aload_n (q := 1341) (i := 0) C 0 dL_law_1340 rfl rfl rfl ?_
      refine z_iload_n (q := 1342) (i := 3) C 3 dL_law_1341 rfl rfl rfl ?_
      refine z_iconst (q := 1343) C (1 : Int32) dL_law_1342 ki_1 rfl ?_
      refine z_iadd (q := 1344) C dL_law_1343 rfl ?_
      refine z_scr (q := 1345) C hS dL_law_1344 hf rfl fun v200 hf => ?_
      refine z_aload_n (q := 1346) (i := 0) C 0 dL_law_1345 rfl rfl rfl ?_
      refine z_iload_n (q := 1347) (i := 3) C 3 dL_law_1346 rfl rfl rfl ?_
      refine z_iconst (q := 1348) C (2 : Int32) dL_law_1347 ki_2 rfl ?_
      refine z_iadd (q := 1349) C dL_law_1348 rfl ?_
      refine z_scr (q := 1350) C hS dL_law_1349 hf rfl fun v201 hf => ?_
      refine z_aload_n (q := 1351) (i := 0) C 0 dL_law_1350 rfl rfl rfl ?_
      refine z_iload_n (q := 1352) (i := 3) C 3 dL_law_1351 rfl rfl rfl ?_
      refine z_iconst (q := 1353) C (3 : Int32) dL_law_1352 ki_3 rfl ?_
      refine z_iadd (q := 1354) C dL_law_1353 rfl ?_
      refine z_scr (q := 1355) C hS dL_law_1354 hf rfl fun v202 hf => ?_
      refine z_callVi (q := 1358) (As := [.int v200, .int v201, .int v202]) C (fun o ho => m_X0_rope _ _ _ _ _ ho) zk0 vvL_188 cdX0_rope pnX0 dL_law_1355 rfl (by decide) (Nat.le_of_ble_eq_true rfl) hf rfl fun v203 σ hf => ?_
      refine z_aload_n (q := 1359) (i := 2) C 2 dL_law_1358 rfl rfl rfl ?_
      refine z_aload_n (q := 1360) (i := 0) C 0 dL_law_1359 rfl rfl rfl ?_
      refine z_iload_n (q := 1361) (i := 3) C 3 dL_law_1360 rfl rfl rfl ?_
      refine z_iconst (q := 1362) C (1 : Int32) dL_law_1361 ki_1 rfl ?_
      refine z_iadd (q := 1363) C dL_law_1362 rfl ?_
      refine z_scr (q := 1364) C hS dL_law_1363 hf rfl fun v204 hf => ?_
      refine z_aload_n (q := 1365) (i := 0) C 0 dL_law_1364 rfl rfl rfl ?_
      refine z_iload_n (q := 1366) (i := 3) C 3 dL_law_1365 rfl rfl rfl ?_
      refine z_iconst (q := 1367) C (2 : Int32) dL_law_1366 ki_2 rfl ?_
      refine z_iadd (q := 1368) C dL_law_1367 rfl ?_
      refine z_scr (q := 1369) C hS dL_law_1368 hf rfl fun v205 hf => ?_
      refine z_aload_n (q := 1370) (i := 0) C 0 dL_law_1369 rfl rfl rfl ?_
      refine z_iload_n (q := 1371) (i := 3) C 3 dL_law_1370 rfl rfl rfl ?_
      refine z_iconst (q := 1372) C (3 : Int32) dL_law_1371 ki_3 rfl ?_
      refine z_iadd (q := 1373) C dL_law_1372 rfl ?_
      refine z_scr (q := 1374) C hS dL_law_1373 hf rfl fun v206 hf => ?_
      refine z_callVi (q := 1377) (As := [.int v204, .int v205, .int v206]) C (fun o ho => m_X9_rope _ _ _ _ _ ho) zk9 vvL_191 cdX9_rope pnX9 dL_law_1374 rfl (by decide) (Nat.le_of_ble_eq_true rfl) hf rfl fun v207 σ hf => ?_
      refine z_icmpeq (q := 1380) (tgt := 1510) C dL_law_1377 (by decide) rfl hf (fun c1377 hf => ?_) (fun c1377 hf => ?_)
      · exact j1510_1 i_5 σ hf
      · refine z_iconst (q := 1381) C (0 : Int32) dL_law_1380 ki_0 rfl ?_
        have e1 := zl_x hf hx1
        have hf := hk1
        rw [← e1] at hf
        try dsimp only at hf
        exact z_zreturn C rfl z_nb0 dL_law_1381 (Option.some.inj hf)
    rw [if_neg c33_40] at hf
    by_cases c33_41 : (v7 &&& (63 : Int32)) = (41 : Int32)
    · rw [if_pos c33_41] at hf
      refine z_tableIn (tgt := 1382) C 41 dL_law_33 (by rw [c33_41]; rfl) (by decide) (by decide) rfl (by decide) ?_
      refine z_aload_n (q := 1383) (i := 1) C 1 dL_law_1382 rfl rfl rfl ?_
      refine z_aload_n (q := 1384) (i := 0) C 0 dL_law_1383 rfl rfl rfl ?_
      refine z_iload_n (q := 1385) (i := 3) C 3 dL_law_1384 rfl rfl rfl ?_
      refine z_iconst (q := 1386) C (1 : Int32) dL_law_1385 ki_1 rfl ?_
      refine z_iadd (q := 1387) C dL_law_1386 rfl ?_
      refine z_scr (q := 1388) C hS dL_law_1387 hf rfl fun v208 hf => ?_
      refine z_callVi (q := 1391) (As := [.int v208]) C (fun o ho => m_X0_run _ _ _ ho) zk0 vvL_192 cdX0_run pnX0 dL_law_1388 rfl (by decide) (Nat.le_of_ble_eq_true rfl) hf rfl fun v209 σ hf => ?_
      refine z_aload_n (q := 1392) (i := 2) C 2 dL_law_1391 rfl rfl rfl ?_
      refine z_aload_n (q := 1393) (i := 0) C 0 dL_law_1392 rfl rfl rfl ?_
      refine z_iload_n (q := 1394) (i := 3) C 3 dL_law_1393 rfl rfl rfl ?_
      refine z_iconst (q := 1395) C (1 : Int32) dL_law_1394 ki_1 rfl ?_
      refine z_iadd (q := 1396) C dL_law_1395 rfl ?_
      refine z_scr (q := 1397) C hS dL_law_1396 hf rfl fun v210 hf => ?_
      refine z_callVi (q := 1400) (As := [.int v210]) C (fun o ho => m_X9_run _ _ _ ho) zk9 vvL_195 cdX9_run pnX9 dL_law_1397 rfl (by decide) (Nat.le_of_ble_eq_true rfl) hf rfl fun v211 σ hf => ?_
      refine z_icmpeq (q := 1403) (tgt := 1510) C dL_law_1400 (by decide) rfl hf (fun c1400 hf => ?_) (fun c1400 hf => ?_)
      · exact j1510_1 i_5 σ hf
      · refine z_iconst (q := 1404) C (0 : Int32) dL_law_1403 ki_0 rfl ?_
        have e1 := zl_x hf hx1
        have hf := hk1
        rw [← e1] at hf
        try dsimp only at hf
        exact z_zreturn C rfl z_nb0 dL_law_1404 (Option.some.inj hf)
    rw [if_neg c33_41] at hf
    by_cases c33_42 : (v7 &&& (63 : Int32)) = (42 : Int32)
    · rw [if_pos c33_42] at hf
      refine z_tableIn (tgt := 1405) C 42 dL_law_33 (by rw [c33_42]; rfl) (by decide) (by decide) rfl (by decide) ?_
      refine z_aload_n (q := 1406) (i := 1) C 1 dL_law_1405 rfl rfl rfl ?_
      refine z_aload_n (q := 1407) (i := 0) C 0 dL_law_1406 rfl rfl rfl ?_
      refine z_iload_n (q := 1408) (i := 3) C 3 dL_law_1407 rfl rfl rfl ?_
      refine z_iconst (q := 1409) C (1 : Int32) dL_law_1408 ki_1 rfl ?_
      refine z_iadd (q := 1410) C dL_law_1409 rfl ?_
      refine z_scr (q := 1411) C hS dL_law_1410 hf rfl fun v212 hf => ?_
      refine z_callVi (q := 1414) (As := [.int v212]) C (fun o ho => m_X0_ran _ _ _ ho) zk0 vvL_196 cdX0_ran pnX0 dL_law_1411 rfl (by decide) (Nat.le_of_ble_eq_true rfl) hf rfl fun v213 σ hf => ?_
      refine z_aload_n (q := 1415) (i := 2) C 2 dL_law_1414 rfl rfl rfl ?_
      refine z_aload_n (q := 1416) (i := 0) C 0 dL_law_1415 rfl rfl rfl ?_
      refine z_iload_n (q := 1417) (i := 3) C 3 dL_law_1416 rfl rfl rfl ?_
      refine z_iconst (q := 1418) C (1 : Int32) dL_law_1417 ki_1 rfl ?_
      refine z_iadd (q := 1419) C dL_law_1418 rfl ?_
      refine z_scr (q := 1420) C hS dL_law_1419 hf rfl fun v214 hf => ?_
      refine z_callVi (q := 1423) (As := [.int v214]) C (fun o ho => m_X9_ran _ _ _ ho) zk9 vvL_199 cdX9_ran pnX9 dL_law_1420 rfl (by decide) (Nat.le_of_ble_eq_true rfl) hf rfl fun v215 σ hf => ?_
      refine z_icmpeq (q := 1426) (tgt := 1510) C dL_law_1423 (by decide) rfl hf (fun c1423 hf => ?_) (fun c1423 hf => ?_)
      · exact j1510_1 i_5 σ hf
      · refine z_iconst (q := 1427) C (0 : Int32) dL_law_1426 ki_0 rfl ?_
        have e1 := zl_x hf hx1
        have hf := hk1
        rw [← e1] at hf
        try dsimp only at hf
        exact z_zreturn C rfl z_nb0 dL_law_1427 (Option.some.inj hf)
    rw [if_neg c33_42] at hf
    by_cases c33_43 : (v7 &&& (63 : Int32)) = (43 : Int32)
    · rw [if_pos c33_43] at hf
      refine z_tableIn (tgt := 1428) C 43 dL_law_33 (by rw [c33_43]; rfl) (by decide) (by decide) rfl (by decide) ?_
      refine z_aload_n (q := 1429) (i := 1) C 1 dL_law_1428 rfl rfl rfl ?_
      refine z_aload_n (q := 1430) (i := 0) C 0 dL_law_1429 rfl rfl rfl ?_
      refine z_iload_n (q := 1431) (i := 3) C 3 dL_law_1430 rfl rfl rfl ?_
      refine z_iconst (q := 1432) C (1 : Int32) dL_law_1431 ki_1 rfl ?_
      refine z_iadd (q := 1433) C dL_law_1432 rfl ?_
      refine z_scr (q := 1434) C hS dL_law_1433 hf rfl fun v216 hf => ?_
      refine z_callVi (q := 1437) (As := [.int v216]) C (fun o ho => m_X0_ranAt _ _ _ ho) zk0 vvL_200 cdX0_ranAt pnX0 dL_law_1434 rfl (by decide) (Nat.le_of_ble_eq_true rfl) hf rfl fun v217 σ hf => ?_
      refine z_aload_n (q := 1438) (i := 2) C 2 dL_law_1437 rfl rfl rfl ?_
      refine z_aload_n (q := 1439) (i := 0) C 0 dL_law_1438 rfl rfl rfl ?_
      refine z_iload_n (q := 1440) (i := 3) C 3 dL_law_1439 rfl rfl rfl ?_
      refine z_iconst (q := 1441) C (1 : Int32) dL_law_1440 ki_1 rfl ?_
      refine z_iadd (q := 1442) C dL_law_1441 rfl ?_
      refine z_scr (q := 1443) C hS dL_law_1442 hf rfl fun v218 hf => ?_
      refine z_callVi (q := 1446) (As := [.int v218]) C (fun o ho => m_X9_ranAt _ _ _ ho) zk9 vvL_203 cdX9_ranAt pnX9 dL_law_1443 rfl (by decide) (Nat.le_of_ble_eq_true rfl) hf rfl fun v219 σ hf => ?_
      refine z_icmpeq (q := 1449) (tgt := 1510) C dL_law_1446 (by decide) rfl hf (fun c1446 hf => ?_) (fun c1446 hf => ?_)
      · exact j1510_1 i_5 σ hf
      · refine z_iconst (q := 1450) C (0 : Int32) dL_law_1449 ki_0 rfl ?_
        have e1 := zl_x hf hx1
        have hf := hk1
        rw [← e1] at hf
        try dsimp only at hf
        exact z_zreturn C rfl z_nb0 dL_law_1450 (Option.some.inj hf)
    rw [if_neg c33_43] at hf
    by_cases c33_44 : (v7 &&& (63 : Int32)) = (44 : Int32)
    · rw [if_pos c33_44] at hf
      refine z_tableIn (tgt := 1451) C 44 dL_law_33 (by rw [c33_44]; rfl) (by decide) (by decide) rfl (by decide) ?_
      refine z_aload_n (q := 1452) (i := 1) C 1 dL_law_1451 rfl rfl rfl ?_
      refine z_aload_n (q := 1453) (i := 0) C 0 dL_law_1452 rfl rfl rfl ?_
      refine z_iload_n (q := 1454) (i := 3) C 3 dL_law_1453 rfl rfl rfl ?_
      refine z_iconst (q := 1455) C (1 : Int32) dL_law_1454 ki_1 rfl ?_
      refine z_iadd (q := 1456) C dL_law_1455 rfl ?_
      refine z_scr (q := 1457) C hS dL_law_1456 hf rfl fun v220 hf => ?_
      refine z_aload_n (q := 1458) (i := 0) C 0 dL_law_1457 rfl rfl rfl ?_
      refine z_iload_n (q := 1459) (i := 3) C 3 dL_law_1458 rfl rfl rfl ?_
      refine z_iconst (q := 1460) C (2 : Int32) dL_law_1459 ki_2 rfl ?_
      refine z_iadd (q := 1461) C dL_law_1460 rfl ?_
      refine z_scr (q := 1462) C hS dL_law_1461 hf rfl fun v221 hf => ?_
      refine z_callVi (q := 1465) (As := [.int v220, .int v221]) C (fun o ho => m_X0_odds _ _ _ _ ho) zk0 vvL_204 cdX0_odds pnX0 dL_law_1462 rfl (by decide) (Nat.le_of_ble_eq_true rfl) hf rfl fun v222 σ hf => ?_
      refine z_aload_n (q := 1466) (i := 2) C 2 dL_law_1465 rfl rfl rfl ?_
      refine z_aload_n (q := 1467) (i := 0) C 0 dL_law_1466 rfl rfl rfl ?_
      refine z_iload_n (q := 1468) (i := 3) C 3 dL_law_1467 rfl rfl rfl ?_
      refine z_iconst (q := 1469) C (1 : Int32) dL_law_1468 ki_1 rfl ?_
      refine z_iadd (q := 1470) C dL_law_1469 rfl ?_
      refine z_scr (q := 1471) C hS dL_law_1470 hf rfl fun v223 hf => ?_
      refine z_aload_n (q := 1472) (i := 0) C 0 dL_law_1471 rfl rfl rfl ?_
      refine z_iload_n (q := 1473) (i := 3) C 3 dL_law_1472 rfl rfl rfl ?_
      refine z_iconst (q := 1474) C (2 : Int32) dL_law_1473 ki_2 rfl ?_
      refine z_iadd (q := 1475) C dL_law_1474 rfl ?_
      refine z_scr (q := 1476) C hS dL_law_1475 hf rfl fun v224 hf => ?_
      refine z_callVi (q := 1479) (As := [.int v223, .int v224]) C (fun o ho => m_X9_odds _ _ _ _ ho) zk9 vvL_207 cdX9_odds pnX9 dL_law_1476 rfl (by decide) (Nat.le_of_ble_eq_true rfl) hf rfl fun v225 σ hf => ?_
      refine z_icmpeq (q := 1482) (tgt := 1510) C dL_law_1479 (by decide) rfl hf (fun c1479 hf => ?_) (fun c1479 hf => ?_)
      · exact j1510_1 i_5 σ hf
      · refine z_iconst (q := 1483) C (0 : Int32) dL_law_1482 ki_0 rfl ?_
        have e1 := zl_x hf hx1
        have hf := hk1
        rw [← e1] at hf
        try dsimp only at hf
        exact z_zreturn C rfl z_nb0 dL_law_1483 (Option.some.inj hf)
    rw [if_neg c33_44] at hf
    by_cases c33_45 : (v7 &&& (63 : Int32)) = (45 : Int32)
    · rw [if_pos c33_45] at hf
      refine z_tableIn (tgt := 1484) C 45 dL_law_33 (by rw [c33_45]; rfl) (by decide) (by decide) rfl (by decide) ?_
      refine z_aload_n (q := 1485) (i := 1) C 1 dL_law_1484 rfl rfl rfl ?_
      refine z_callVi (q := 1488) (As := []) C (fun o ho => m_X0_mark _ _ ho) zk0 vvL_208 cdX0_mark pnX0 dL_law_1485 rfl (by decide) (Nat.le_of_ble_eq_true rfl) hf rfl fun v226 σ hf => ?_
      refine z_aload_n (q := 1489) (i := 2) C 2 dL_law_1488 rfl rfl rfl ?_
      refine z_callVi (q := 1492) (As := []) C (fun o ho => m_X9_mark _ _ ho) zk9 vvL_211 cdX9_mark pnX9 dL_law_1489 rfl (by decide) (Nat.le_of_ble_eq_true rfl) hf rfl fun v227 σ hf => ?_
      refine z_icmpeq (q := 1495) (tgt := 1510) C dL_law_1492 (by decide) rfl hf (fun c1492 hf => ?_) (fun c1492 hf => ?_)
      · exact j1510_1 i_5 σ hf
      · refine z_iconst (q := 1496) C (0 : Int32) dL_law_1495 ki_0 rfl ?_
        have e1 := zl_x hf hx1
        have hf := hk1
        rw [← e1] at hf
        try dsimp only at hf
        exact z_zreturn C rfl z_nb0 dL_law_1496 (Option.some.inj hf)
    rw [if_neg c33_45] at hf
    by_cases c33_46 : (v7 &&& (63 : Int32)) = (46 : Int32)
    · rw [if_pos c33_46] at hf
      refine z_tableIn (tgt := 1497) C 46 dL_law_33 (by rw [c33_46]; rfl) (by decide) (by decide) rfl (by decide) ?_
      refine z_aload_n (q := 1498) (i := 1) C 1 dL_law_1497 rfl rfl rfl ?_
      refine z_callVi (q := 1501) (As := []) C (fun o ho => m_X0_back _ _ ho) zk0 vvL_212 cdX0_back pnX0 dL_law_1498 rfl (by decide) (Nat.le_of_ble_eq_true rfl) hf rfl fun v228 σ hf => ?_
      refine z_aload_n (q := 1502) (i := 2) C 2 dL_law_1501 rfl rfl rfl ?_
      refine z_callVi (q := 1505) (As := []) C (fun o ho => m_X9_back _ _ ho) zk9 vvL_215 cdX9_back pnX9 dL_law_1502 rfl (by decide) (Nat.le_of_ble_eq_true rfl) hf rfl fun v229 σ hf => ?_
      refine z_icmpeq (q := 1508) (tgt := 1510) C dL_law_1505 (by decide) rfl hf (fun c1505 hf => ?_) (fun c1505 hf => ?_)
      · exact j1510_1 i_5 σ hf
      · refine z_iconst (q := 1509) C (0 : Int32) dL_law_1508 ki_0 rfl ?_
        have e1 := zl_x hf hx1
        have hf := hk1
        rw [← e1] at hf
        try dsimp only at hf
        exact z_zreturn C rfl z_nb0 dL_law_1509 (Option.some.inj hf)
    rw [if_neg c33_46] at hf
    refine z_tableOut (tgt := 1510) C dL_law_33 (by have n0 := lv_neT c33_0 (a := 0) rfl; have n1 := lv_neT c33_1 (a := 1) rfl; have n2 := lv_neT c33_2 (a := 2) rfl; have n3 := lv_neT c33_3 (a := 3) rfl; have n4 := lv_neT c33_4 (a := 4) rfl; have n5 := lv_neT c33_5 (a := 5) rfl; have n6 := lv_neT c33_6 (a := 6) rfl; have n7 := lv_neT c33_7 (a := 7) rfl; have n8 := lv_neT c33_8 (a := 8) rfl; have n9 := lv_neT c33_9 (a := 9) rfl; have n10 := lv_neT c33_10 (a := 10) rfl; have n11 := lv_neT c33_11 (a := 11) rfl; have n12 := lv_neT c33_12 (a := 12) rfl; have n13 := lv_neT c33_13 (a := 13) rfl; have n14 := lv_neT c33_14 (a := 14) rfl; have n15 := lv_neT c33_15 (a := 15) rfl; have n16 := lv_neT c33_16 (a := 16) rfl; have n17 := lv_neT c33_17 (a := 17) rfl; have n18 := lv_neT c33_18 (a := 18) rfl; have n19 := lv_neT c33_19 (a := 19) rfl; have n20 := lv_neT c33_20 (a := 20) rfl; have n21 := lv_neT c33_21 (a := 21) rfl; have n22 := lv_neT c33_22 (a := 22) rfl; have n23 := lv_neT c33_23 (a := 23) rfl; have n24 := lv_neT c33_24 (a := 24) rfl; have n25 := lv_neT c33_25 (a := 25) rfl; have n26 := lv_neT c33_26 (a := 26) rfl; have n27 := lv_neT c33_27 (a := 27) rfl; have n28 := lv_neT c33_28 (a := 28) rfl; have n29 := lv_neT c33_29 (a := 29) rfl; have n30 := lv_neT c33_30 (a := 30) rfl; have n31 := lv_neT c33_31 (a := 31) rfl; have n32 := lv_neT c33_32 (a := 32) rfl; have n33 := lv_neT c33_33 (a := 33) rfl; have n34 := lv_neT c33_34 (a := 34) rfl; have n35 := lv_neT c33_35 (a := 35) rfl; have n36 := lv_neT c33_36 (a := 36) rfl; have n37 := lv_neT c33_37 (a := 37) rfl; have n38 := lv_neT c33_38 (a := 38) rfl; have n39 := lv_neT c33_39 (a := 39) rfl; have n40 := lv_neT c33_40 (a := 40) rfl; have n41 := lv_neT c33_41 (a := 41) rfl; have n42 := lv_neT c33_42 (a := 42) rfl; have n43 := lv_neT c33_43 (a := 43) rfl; have n44 := lv_neT c33_44 (a := 44) rfl; have n45 := lv_neT c33_45 (a := 45) rfl; have n46 := lv_neT c33_46 (a := 46) rfl; omega) (by decide) ?_
    exact j1510_1 i_5 σ hf

