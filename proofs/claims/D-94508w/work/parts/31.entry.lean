set_option maxRecDepth 100000
def zNar : List Cond := flatC (Cond.and given_1 narrow_1)
theorem zN_at {args : Array Value} {s : State} (hgv : (Cond.and given_1 narrow_1).before args s = true) {n : Nat} {w : Cond} (h : zNar[n]? = some w) : w.before args s = true := flat_of_before _ hgv _ (List.mem_of_getElem? h)
def zSp : List Nat := [330, 339, 349, 357, 363, 371, 380, 386, 395, 403, 412, 421, 431, 441, 447, 456, 467, 474, 482, 491, 497, 505, 513, 521, 529, 537, 546, 555, 563, 570, 578]
def zTm (i : Nat) : Term := .string (zSo.getD i "") (zSi.getD i 0)
def zVa (i : Nat) : Term := .field (zTm i) "java/lang/String" "value" "[B"
theorem zS1 : ∀ i, i < 31 → zNar[zSp.getD i 0]? = some (.exactly (zTm i) "java/lang/String") ∧ zNar[zSp.getD i 0 + 1]? = some (.eq (.field (zTm i) "java/lang/String" "coder" "B") (.int 0)) ∧ zNar[zSp.getD i 0 + 2]? = some (.arrayOf (zVa i) .byte) ∧ zNar[zSp.getD i 0 + 3]? = some (.eq (.length (zVa i)) (.int (Int32.ofNat (zSl.getD i 0)))) := by decide +kernel
theorem zS2 : ∀ i, i < 31 → ∀ j, j < zSl.getD i 0 → zNar[zSp.getD i 0 + 4 + j]? = some (.eq (.elem (zVa i) (.int (Int32.ofNat j))) (.int ((zSb.getD i []).getD j 0))) := by decide +kernel
theorem zS3 : ∀ i, i < 31 → zSl.getD i 0 < 200 := by decide
theorem zS4 : ∀ i, i < 31 → ∀ j, j < 31 → zSl.getD i 0 = zSl.getD j 0 → (∀ k, k < zSl.getD i 0 → (zSb.getD i []).getD k 0 = (zSb.getD j []).getD k 0) → i = j := by decide +kernel
theorem zS5 : ∀ i, i < 31 → Cond.stringRef (zSo.getD i "") (zSi.getD i 0) (zSx.getD i "") ∈ lw_tbl := by
  intro i hi
  by_cases h0 : i = 0
  · subst h0; exact q755
  by_cases h1 : i = 1
  · subst h1; exact q828
  by_cases h2 : i = 2
  · subst h2; exact q829
  by_cases h3 : i = 3
  · subst h3; exact q830
  by_cases h4 : i = 4
  · subst h4; exact q831
  by_cases h5 : i = 5
  · subst h5; exact q832
  by_cases h6 : i = 6
  · subst h6; exact q833
  by_cases h7 : i = 7
  · subst h7; exact q834
  by_cases h8 : i = 8
  · subst h8; exact q835
  by_cases h9 : i = 9
  · subst h9; exact q836
  by_cases h10 : i = 10
  · subst h10; exact q837
  by_cases h11 : i = 11
  · subst h11; exact q838
  by_cases h12 : i = 12
  · subst h12; exact q839
  by_cases h13 : i = 13
  · subst h13; exact q840
  by_cases h14 : i = 14
  · subst h14; exact q841
  by_cases h15 : i = 15
  · subst h15; exact q842
  by_cases h16 : i = 16
  · subst h16; exact q843
  by_cases h17 : i = 17
  · subst h17; exact q844
  by_cases h18 : i = 18
  · subst h18; exact q845
  by_cases h19 : i = 19
  · subst h19; exact q846
  by_cases h20 : i = 20
  · subst h20; exact q847
  by_cases h21 : i = 21
  · subst h21; exact q848
  by_cases h22 : i = 22
  · subst h22; exact q849
  by_cases h23 : i = 23
  · subst h23; exact q850
  by_cases h24 : i = 24
  · subst h24; exact q851
  by_cases h25 : i = 25
  · subst h25; exact q852
  by_cases h26 : i = 26
  · subst h26; exact q853
  by_cases h27 : i = 27
  · subst h27; exact q854
  by_cases h28 : i = 28
  · subst h28; exact q855
  by_cases h29 : i = 29
  · subst h29; exact q856
  by_cases h30 : i = 30
  · subst h30; exact q1838
  omega
theorem zSone {args : Array Value} {s : State} {A : Nat → Prop} (hgv : (Cond.and given_1 narrow_1).before args s = true) (hA : ∀ a : Nat, a < s.heap.size → ¬ A a) (i : Nat) : ∃ q : Nat × Nat, i < 31 → vk_S 1 [zSl.getD i 0] [zSb.getD i []] (fun _ => q.1) (fun _ => q.2) A s s.heap ∧ (zTm i).eval args s none [] s = some (.ref q.1) := by
  by_cases hi : i < 31
  · obtain ⟨h1, h2, h3, h4⟩ := zS1 i hi
    obtain ⟨adK, adV, hS, he⟩ := vk_Sof (args := args) (s := s) (N := 1) (tm := fun _ => zTm i) (len := [zSl.getD i 0]) (byt := [zSb.getD i []]) (A := A)
      (fun k hk => by obtain rfl : k = 0 := by omega
                      exact Nat.lt_trans (zS3 i hi) (by decide))
      (fun _ _ => zN_at hgv h1) (fun _ _ => zN_at hgv h2) (fun _ _ => zN_at hgv h3)
      (fun k hk => by obtain rfl : k = 0 := by omega
                      exact zN_at hgv h4)
      (fun k hk j hj => by obtain rfl : k = 0 := by omega
                           exact zN_at hgv (zS2 i hi j hj))
      (fun a b ha hb hne => absurd (by omega) hne) hA
    refine ⟨(adK 0, adV 0), fun _ => ⟨⟨fun k hk => ?_, fun a b ha hb _ => by omega⟩, he 0 (by omega)⟩⟩
    obtain rfl : k = 0 := by omega
    exact hS.1 0 (by omega)
  · exact ⟨(0, 0), fun h => absurd h hi⟩
theorem zSall {args : Array Value} {s : State} {A : Nat → Prop} (hgv : (Cond.and given_1 narrow_1).before args s = true) (hA : ∀ a : Nat, a < s.heap.size → ¬ A a) : ∃ adK adV : Nat → Nat, vk_S 31 zSl zSb adK adV A s s.heap ∧ ∀ i, i < 31 → (zTm i).eval args s none [] s = some (.ref (adK i)) := by
  obtain ⟨ad, had⟩ := Classical.axiomOfChoice (fun i => zSone (args := args) (s := s) (A := A) hgv hA i)
  refine ⟨fun i => (ad i).1, fun i => (ad i).2, ⟨fun i hi => (had i hi).1.1 0 (by omega), fun i j hi hj e => ?_⟩, fun i hi => (had i hi).2⟩
  obtain ⟨-, -, ⟨cf, k, fi, f, cell, a1, a2, a3, a4, a5, a6⟩, ⟨cl, b1, b2, b3, b4, b5, b6, b7⟩⟩ := (had i hi).1.1 0 (by omega)
  obtain ⟨-, -, ⟨cf', k', fi', f', cell', c1, c2, c3, c4, c5, c6⟩, ⟨cl', d1, d2, d3, d4, d5, d6, d7⟩⟩ := (had j hj).1.1 0 (by omega)
  cases a1.symm.trans c1
  have e' : (ad i).1 = (ad j).1 := e
  rw [e'] at a3
  cases a3.symm.trans c3
  have e2 := a5.symm.trans c5
  have e3 : (ad i).2 = (ad j).2 := by injection e2 with e2; injection e2
  rw [e3] at b1
  cases b1.symm.trans d1
  have e4 := b5.symm.trans d5
  have z1 := zS3 i hi
  have z2 := zS3 j hj
  have e5 : zSl.getD i 0 = zSl.getD j 0 := by
    have e6 : Int32.ofNat (zSl.getD i 0) = Int32.ofNat (zSl.getD j 0) := e4
    have e7 := congrArg Int32.toInt e6
    rw [Int32.toInt_ofNat_of_lt (by omega), Int32.toInt_ofNat_of_lt (by omega)] at e7
    exact Int.ofNat.inj e7
  refine zS4 i hi j hj e5 fun k hk => ?_
  have f1 := b6 k hk
  have f2 := d6 k (by show k < zSl.getD j 0; omega)
  have f3 := f1.symm.trans f2
  have f4 : Value.int ((zSb.getD i []).getD k 0) = Value.int ((zSb.getD j []).getD k 0) := Option.some.inj f3
  injection f4
theorem zall {w : Cond} (h : w ∈ lw_all) : w ∈ lw_tbl := (List.mem_filter.mp h).1
theorem zKc {args : Array Value} {s : State} (hts : ∀ w ∈ lw_tbl, w.before args s = true) : ∀ c : Nat, ∃ D : ClassId × (Nat → Nat), ∀ q : vw_C, zCl[c]? = some q → u_Kn s q.1 q.2.1 q.2.2 D.1 D.2 := by
  have hta : ∀ w ∈ lw_all, w.before args s = true := fun w h => hts w (zall h)
  have one : ∀ {C : String} {T : u_T} {N n : Nat}, (∀ w ∈ u_ws C T N, w ∈ lw_all) → (Cond.instantiable C n).before args s = true → ∃ D : ClassId × (Nat → Nat), u_Kn s C T N D.1 D.2 := by
    intro C T N n h1 h2
    obtain ⟨cC, iS, h⟩ := u_known hta h1 h2
    exact ⟨(cC, iS), h⟩
  intro c
  by_cases h0 : c = 0
  · subst h0
    obtain ⟨D, hD⟩ := one in_X0 (hts _ (zall q178))
    exact ⟨D, fun q hq => by cases hq; exact hD⟩
  by_cases h1 : c = 1
  · subst h1
    obtain ⟨D, hD⟩ := one in_X1 (hts _ (zall q187))
    exact ⟨D, fun q hq => by cases hq; exact hD⟩
  by_cases h2 : c = 2
  · subst h2
    obtain ⟨D, hD⟩ := one in_X2 (hts _ (zall q197))
    exact ⟨D, fun q hq => by cases hq; exact hD⟩
  by_cases h3 : c = 3
  · subst h3
    obtain ⟨D, hD⟩ := one in_X3 (hts _ (zall q268))
    exact ⟨D, fun q hq => by cases hq; exact hD⟩
  by_cases h4 : c = 4
  · subst h4
    obtain ⟨D, hD⟩ := one in_X4 (hts _ (zall q287))
    exact ⟨D, fun q hq => by cases hq; exact hD⟩
  by_cases h5 : c = 5
  · subst h5
    obtain ⟨D, hD⟩ := one in_X5 (hts _ (zall q293))
    exact ⟨D, fun q hq => by cases hq; exact hD⟩
  by_cases h6 : c = 6
  · subst h6
    obtain ⟨D, hD⟩ := one in_X6 (hts _ (zall q299))
    exact ⟨D, fun q hq => by cases hq; exact hD⟩
  by_cases h7 : c = 7
  · subst h7
    obtain ⟨D, hD⟩ := one in_X7 (hts _ (zall q405))
    exact ⟨D, fun q hq => by cases hq; exact hD⟩
  by_cases h8 : c = 8
  · subst h8
    obtain ⟨D, hD⟩ := one in_X8 (hts _ (zall q435))
    exact ⟨D, fun q hq => by cases hq; exact hD⟩
  by_cases h9 : c = 9
  · subst h9
    obtain ⟨D, hD⟩ := one in_X9 (hts _ (zall q1582))
    exact ⟨D, fun q hq => by cases hq; exact hD⟩
  by_cases h10 : c = 10
  · subst h10
    obtain ⟨D, hD⟩ := one in_X10 (hts _ (zall q711))
    exact ⟨D, fun q hq => by cases hq; exact hD⟩
  by_cases h11 : c = 11
  · subst h11
    obtain ⟨D, hD⟩ := one in_X11 (hts _ (zall q901))
    exact ⟨D, fun q hq => by cases hq; exact hD⟩
  by_cases h12 : c = 12
  · subst h12
    obtain ⟨D, hD⟩ := one in_X12 (hts _ (zall q970))
    exact ⟨D, fun q hq => by cases hq; exact hD⟩
  by_cases h13 : c = 13
  · subst h13
    obtain ⟨D, hD⟩ := one in_X13 (hts _ (zall q1010))
    exact ⟨D, fun q hq => by cases hq; exact hD⟩
  by_cases h14 : c = 14
  · subst h14
    obtain ⟨D, hD⟩ := one (T := TZ0) (N := 0) (fun w h => by simp [u_ws] at h) (hts _ (zall q1166))
    exact ⟨D, fun q hq => by cases hq; exact hD⟩
  by_cases h15 : c = 15
  · subst h15
    obtain ⟨D, hD⟩ := one (T := TZ0) (N := 0) (fun w h => by simp [u_ws] at h) (hts _ (zall q1166))
    exact ⟨D, fun q hq => by cases hq; exact hD⟩
  by_cases h16 : c = 16
  · subst h16
    obtain ⟨D, hD⟩ := one in_X16 (hts _ (zall q1050))
    exact ⟨D, fun q hq => by cases hq; exact hD⟩
  by_cases h17 : c = 17
  · subst h17
    obtain ⟨D, hD⟩ := one in_X17 (hts _ (zall q1098))
    exact ⟨D, fun q hq => by cases hq; exact hD⟩
  by_cases h18 : c = 18
  · subst h18
    obtain ⟨D, hD⟩ := one in_X18 (hts _ (zall q1136))
    exact ⟨D, fun q hq => by cases hq; exact hD⟩
  by_cases h19 : c = 19
  · subst h19
    obtain ⟨D, hD⟩ := one (T := TZ0) (N := 0) (fun w h => by simp [u_ws] at h) (hts _ (zall q1166))
    exact ⟨D, fun q hq => by cases hq; exact hD⟩
  exact ⟨(0, fun _ => 0), fun q hq => by
    have : c < 20 := (List.getElem?_eq_some_iff.mp hq).1
    omega⟩
theorem zKa {args : Array Value} {s : State} (hts : ∀ w ∈ lw_tbl, w.before args s = true) : ∀ j : Nat, ∃ cA : ClassId, j < 11 → ArrOfT s cA (zAty j) ∧ va_RA s cA (zAty j) := by
  intro j
  by_cases h0 : j = 0
  · subst h0
    obtain ⟨c, k, comp, e1, e2, e3⟩ := Cond.arrayClass_spec (hts _ (zall q367))
    exact ⟨c, fun _ => ⟨fun n z => ⟨fun k h => (by cases h), k, e2, comp, e3⟩, e1⟩⟩
  by_cases h1 : j = 1
  · subst h1
    obtain ⟨c, k, comp, e1, e2, e3⟩ := Cond.arrayClass_spec (hts _ (zall q366))
    exact ⟨c, fun _ => ⟨fun n z => ⟨fun k h => (by cases h), k, e2, comp, e3⟩, e1⟩⟩
  by_cases h2 : j = 2
  · subst h2
    obtain ⟨c, k, comp, e1, e2, e3⟩ := Cond.arrayClass_spec (hts _ (zall q266))
    exact ⟨c, fun _ => ⟨fun n z => ⟨fun k h => (by cases h), k, e2, comp, e3⟩, e1⟩⟩
  by_cases h3 : j = 3
  · subst h3
    obtain ⟨c, k, comp, e1, e2, e3⟩ := Cond.arrayClass_spec (hts _ (zall q634))
    exact ⟨c, fun _ => ⟨fun n z => ⟨fun k h => (by cases h), k, e2, comp, e3⟩, e1⟩⟩
  by_cases h4 : j = 4
  · subst h4
    obtain ⟨c, k, comp, e1, e2, e3⟩ := Cond.arrayClass_spec (hts _ (zall q486))
    exact ⟨c, fun _ => ⟨fun n z => ⟨fun k h => (by cases h), k, e2, comp, e3⟩, e1⟩⟩
  by_cases h5 : j = 5
  · subst h5
    obtain ⟨comp, c, k, e1, e2, e3, e4, e5⟩ := Cond.arrayOver_spec (hts _ q186)
    exact ⟨c, fun _ => ⟨fun n z => ⟨fun k h => (by cases h), k, e3, comp, e4⟩, k, comp, e3, e4, e1, e5⟩⟩
  by_cases h6 : j = 6
  · subst h6
    obtain ⟨comp, c, k, e1, e2, e3, e4, e5⟩ := Cond.arrayOver_spec (hts _ q305)
    exact ⟨c, fun _ => ⟨fun n z => ⟨fun k h => (by cases h), k, e3, comp, e4⟩, k, comp, e3, e4, e1, e5⟩⟩
  by_cases h7 : j = 7
  · subst h7
    obtain ⟨comp, c, k, e1, e2, e3, e4, e5⟩ := Cond.arrayOver_spec (hts _ q307)
    exact ⟨c, fun _ => ⟨fun n z => ⟨fun k h => (by cases h), k, e3, comp, e4⟩, k, comp, e3, e4, e1, e5⟩⟩
  by_cases h8 : j = 8
  · subst h8
    obtain ⟨comp, c, k, e1, e2, e3, e4, e5⟩ := Cond.arrayOver_spec (hts _ q309)
    exact ⟨c, fun _ => ⟨fun n z => ⟨fun k h => (by cases h), k, e3, comp, e4⟩, k, comp, e3, e4, e1, e5⟩⟩
  by_cases h9 : j = 9
  · subst h9
    obtain ⟨comp, c, k, e1, e2, e3, e4, e5⟩ := Cond.arrayOver_spec (hts _ q403)
    exact ⟨c, fun _ => ⟨fun n z => ⟨fun k h => (by cases h), k, e3, comp, e4⟩, k, comp, e3, e4, e1, e5⟩⟩
  by_cases h10 : j = 10
  · subst h10
    obtain ⟨comp, c, k, e1, e2, e3, e4, e5⟩ := Cond.arrayOver_spec (hts _ q1062)
    exact ⟨c, fun _ => ⟨fun n z => ⟨fun k h => (by cases h), k, e3, comp, e4⟩, k, comp, e3, e4, e1, e5⟩⟩
  exact ⟨0, fun h => absurd h (by omega)⟩
def zNp : List Nat := [14, 52, 71, 161, 193, 136, 200, 133, 166, 132, 165, 197]
theorem zN1 : ∀ i, i < 12 → ∀ q, zNcs[i]? = some q → zNar[zNp.getD i 0]? = some (.not (.castable q.1 q.2)) := by
  intro i hi q hq
  by_cases h0 : i = 0
  · subst h0; cases hq; decide +kernel
  by_cases h1 : i = 1
  · subst h1; cases hq; decide +kernel
  by_cases h2 : i = 2
  · subst h2; cases hq; decide +kernel
  by_cases h3 : i = 3
  · subst h3; cases hq; decide +kernel
  by_cases h4 : i = 4
  · subst h4; cases hq; decide +kernel
  by_cases h5 : i = 5
  · subst h5; cases hq; decide +kernel
  by_cases h6 : i = 6
  · subst h6; cases hq; decide +kernel
  by_cases h7 : i = 7
  · subst h7; cases hq; decide +kernel
  by_cases h8 : i = 8
  · subst h8; cases hq; decide +kernel
  by_cases h9 : i = 9
  · subst h9; cases hq; decide +kernel
  by_cases h10 : i = 10
  · subst h10; cases hq; decide +kernel
  by_cases h11 : i = 11
  · subst h11; cases hq; decide +kernel
  omega
theorem zNcs_len : zNcs.length = 12 := by decide
/-- the fixed things at the law's entry -/
theorem zKK {args : Array Value} {s : State} (hts : ∀ w ∈ lw_tbl, w.before args s = true) (hgv : (Cond.and given_1 narrow_1).before args s = true) : ∃ G : ZG, KK G s ∧ gb G = s.heap.size ∧ gH G = s.heap := by
  obtain ⟨D, hD⟩ := Classical.axiomOfChoice (zKc hts)
  obtain ⟨cA, hcA⟩ := Classical.axiomOfChoice (zKa hts)
  have hA : ∀ a : Nat, a < s.heap.size → ¬ (fun q => s.heap.size ≤ q) a := fun a h1 h2 => absurd h1 (Nat.not_lt.mpr h2)
  obtain ⟨adK, adV, hS, hE⟩ := zSall (A := fun q => s.heap.size ≤ q) hgv hA
  have ls : ∀ {C n d : String}, Cond.laysStatic C n d ∈ lw_tbl → zLs C n d (fun q => s.heap.size ≤ q) s s.heap := by
    intro C n d h
    obtain ⟨c, k, i, f, a, cell, hc, hf, hst, hsta, hcell, hiss, hcls, hlt, hty⟩ := Cond.laysStatic_spec (hts _ h)
    exact ⟨c, k, i, f, a, cell, hc, hf, hst, hsta, hcell, hiss, hcls, hlt, hty, hA a (Array.getElem?_eq_some_iff.mp hcell).1⟩
  refine ⟨((fun c => (D c).1, fun c => (D c).2), cA, s.heap.size, s.heap, adK, adV), ⟨fun w hw a => word_at (args := args) (State.WarmedH.refl s) (good_of_word (List.mem_filter.mp hw).2) (hts w (zall hw)), ⟨fun c q hq => hD c q hq, fun k q hk => ?_⟩, fun w hw => ?_, ⟨fun C hC => ?_, fun q hq => ?_⟩, fun i hi => vk_R.of (hts _ (zS5 i hi)) (hE i hi), hS, va_Zof (hts _ q769) (hts _ (zall q158)) (va_eqt (zN_at hgv (n := 6) (by decide +kernel))) hA, va_Zqof (hts _ q221) (hts _ (zall q146)) (zN_at hgv (n := 4) (by decide +kernel)) hA, va_Zqof (hts _ q223) (hts _ (zall q146)) (zN_at hgv (n := 5) (by decide +kernel)) hA, va_Zqof (hts _ q785) (hts _ (zall q164)) (zN_at hgv (n := 7) (by decide +kernel)) hA, ls q221, ls q223⟩, rfl, rfl⟩
  · have hlt : k < 11 := by
      have := (List.getElem?_eq_some_iff.mp hk).1
      simpa [zTys] using this
    rw [zTys_at hlt] at hk
    cases hk
    exact hcA k hlt
  · have g := (List.mem_filter.mp hw).2
    have h := hts w (List.mem_filter.mp hw).1
    cases w <;> first | exact va_Nw.of rfl h | (simp [isNw] at g)
  · simp only [zAo, List.mem_cons, List.not_mem_nil, or_false] at hC
    rcases hC with rfl | rfl | rfl | rfl | rfl | rfl
    · exact va_AO.of (hts _ q186)
    · exact va_AO.of (hts _ q305)
    · exact va_AO.of (hts _ q307)
    · exact va_AO.of (hts _ q309)
    · exact va_AO.of (hts _ q403)
    · exact va_AO.of (hts _ q1062)
  · obtain ⟨i, hi, hq'⟩ := List.mem_iff_getElem.mp hq
    have hi' : i < 12 := by rw [← zNcs_len]; exact hi
    exact va_Nc.of (zN_at hgv (zN1 i hi' q (by rw [← hq']; exact List.getElem?_eq_getElem hi)))

