set_option maxRecDepth 100000
/-! ===== both sides: one move from a state, whatever the arrays hold ===== -/
def CY (x : Nat) (σ : ZT) (t : Nat) (T : Nat → Int32) (τ : ZT) : Prop := FX x σ τ ∧ zR τ 500 (x + 25) = some t ∧ MLc (x + 20) τ (mvs T)
def CM (m : Nat) (σ τ : ZT) : Prop := FR m 933 938 9 17 σ τ ∧ ML m τ (mvs (zAI σ (m + 1)))
section
variable {x m t : Nat} {σ τ : ZT} {T : Nat → Int32} {B P O : Nat → Nat}
theorem CX.cy {s : Bf} (h : CX x σ t T s τ) : CY x σ t T τ := ⟨h.1, h.2.1, h.2.2.1⟩
theorem CY.cn (h : CY x σ t T τ) (y : St) : CY x σ t T (CN (x + 32) (x + 33) τ y) :=
  ⟨h.1.trans (FX.cn y), h.2.1, h.2.2.of rfl (fun k a b => CN_ne _ (by omega) (by omega))⟩
theorem CY.ai (h : CY x σ t T τ) {k : Nat} (hk : 34 ≤ k ∧ k ≤ 37) (i : Nat) (v : Int32) : CY x σ t T (sAI τ (x + k) i v) := by
  refine ⟨h.1.trans (FX.ai (by omega) _ _), h.2.1, h.2.2.of rfl (fun j a b => ?_)⟩
  rw [sAI_r, zAIr_ne _ (by omega)]
theorem CY.air (h : CY x σ t T τ) {k : Nat} (hk : 34 ≤ k ∧ k ≤ 37) (r : Nat → Int32) : CY x σ t T (sAIr τ (x + k) r) := by
  refine ⟨h.1.trans (FX.air (by omega) _), h.2.1, h.2.2.of rfl (fun j a b => ?_)⟩
  rw [zAIr_ne _ (by omega)]
theorem CY.tt (h : CY x σ t T τ) (hc : HC x σ t T B P O) : HC x τ t T B P O ∧ cOt x τ = cOt x σ := by
  refine ⟨hc.fx h.1, ?_⟩
  have e : ∀ f, f = 503 ∨ f = 504 ∨ f = 505 → zI τ f (x + 25) = zI σ f (x + 25) := fun f hf => h.1.2.2.2.2.2.2.2.1 f _ (by omega) (by omega)
  unfold cOt
  rw [e 503 (by omega), e 504 (by omega), e 505 (by omega)]
theorem cy_be (hC : CY x σ t T τ) (h : HC x σ t T B P O) (hT : TW T) {c : Nat} (hV : VM T c) : ∃ y, f_X5_be_2 (x + 25) (nI (psi T c)) τ = some (CN (x + 32) (x + 33) τ y) ∧ Agr T y (dec T c) := by
  obtain ⟨H1, o1⟩ := hC.tt h
  have hpl := psi_lt hT hV
  have hbe := p_beN (H1.sp hC.2.1) hT (c := psi T c) (by omega)
  exact ⟨_, hbe, (openK_agr T _ _).trans (hV.1.deK hT)⟩
theorem cy_done (hC : CY x σ t T τ) (h : HC x σ t T B P O) (hT : TW T) {c : Nat} (hV : VM T c) : ∃ y, f_X5_be_2 (x + 25) (nI (psi T c)) τ = some (CN (x + 32) (x + 33) τ y) ∧ f_X5_isDone (x + 25) (CN (x + 32) (x + 33) τ y) = some (bI (dn T c), CN (x + 32) (x + 33) τ y) := by
  obtain ⟨y, h1, h2⟩ := cy_be hC h hT hV
  refine ⟨y, h1, ?_⟩
  have hC2 := hC.cn y
  obtain ⟨H2, o2⟩ := hC2.tt h
  have hd := p_isDone (H2.sp hC2.2.1) hT
  rw [CN_1, h2.done] at hd
  exact hd
/-- the component: a state's number put into the Spot, the move j done, the new number -/
theorem cy_mv (hC : CY x σ t T τ) (h : HC x σ t T B P O) (hT : TW T) (hl : (mvs T).length ≤ 92) {c j : Nat} {v : Mv} (hV : VM T c) (hj : (mvs T)[j]? = some v) :
    ∃ y, f_X5_be_2 (x + 25) (nI (psi T c)) τ = some (CN (x + 32) (x + 33) τ y) ∧
      ((gM T (cOt x σ) v c = none ∧ f_X7_does (x + 20) (x + 25) (nI j) (CN (x + 32) (x + 33) τ y) = some (nI 0, CN (x + 32) (x + 33) τ y)) ∨
       ∃ c' r, gM T (cOt x σ) v c = some c' ∧ VM T c' ∧ f_X7_does (x + 20) (x + 25) (nI j) (CN (x + 32) (x + 33) τ y) = some (nI 1, CN (x + 32) (x + 33) τ r) ∧ f_X5_number (x + 25) (CN (x + 32) (x + 33) τ r) = some (nI (psi T c'), CN (x + 32) (x + 33) τ r)) := by
  obtain ⟨y, hbe, hag⟩ := cy_be hC h hT hV
  refine ⟨y, hbe, ?_⟩
  have hC2 := hC.cn y
  obtain ⟨H2, o2⟩ := hC2.tt h
  have sp2 := H2.sp hC2.2.1
  have hy : SV T y := hV.1.agr hag.symm
  have e1 : zAI (CN (x + 32) (x + 33) τ y) (x + 32) = y.1 := CN_1 y
  have e2 : zAI (CN (x + 32) (x + 33) τ y) (x + 33) = y.2 := CN_2 (by omega) y
  have hdo := p_does (mo := x + 20) sp2 H2.mo hT (by rw [e1, e2]; exact hy) hC2.2.2 hl hj
  rw [e1, e2, show (zI (CN (x + 32) (x + 33) τ y) 503 (x + 25), zI (CN (x + 32) (x + 33) τ y) 504 (x + 25), zI (CN (x + 32) (x + 33) τ y) 505 (x + 25)) = cOt x σ from o2] at hdo
  have hvW := mvs_W (List.mem_of_getElem? hj)
  rcases hag.mv (cOt x σ) hvW.1 with ⟨m1, m2⟩ | ⟨r1, r2, m1, m2, m3⟩
  · left
    refine ⟨by unfold gM; rw [m2]; rfl, ?_⟩
    rw [m1] at hdo
    exact hdo
  · right
    have hr1 : SV T r1 := hy.mv hT hvW.1 m1
    have hr2 : SV T r2 := hV.1.mv hT hvW.1 m2
    rw [m1] at hdo
    have hdo' : f_X7_does (x + 20) (x + 25) (nI j) (CN (x + 32) (x + 33) τ y) = some (nI 1, CN (x + 32) (x + 33) τ r1) := by
      have e3 : CN (x + 32) (x + 33) (CN (x + 32) (x + 33) τ y) r1 = CN (x + 32) (x + 33) τ r1 := CN_CN (by omega) _ _
      rw [← e3]
      exact hdo
    have hps : enK T (r1.1, r1.2) = psi T (enc T r2) := by
      unfold psi
      rw [(hr2.dec hT).enK']
      exact m3.enK'
    have hC3 := hC.cn r1
    obtain ⟨H3, o3⟩ := hC3.tt h
    have sp3 := H3.sp hC3.2.1
    have f1 : zAI (CN (x + 32) (x + 33) τ r1) (x + 32) = r1.1 := CN_1 r1
    have f2 : zAI (CN (x + 32) (x + 33) τ r1) (x + 33) = r1.2 := CN_2 (by omega) r1
    have hnum := p_number sp3 hT (by rw [f1]; exact fun p hp => (hr1.1 p hp).1) (by rw [f2]; exact fun p hp => (hr1.2.1 p hp).1)
    rw [f1, f2, hps] at hnum
    exact ⟨enc T r2, r1, by unfold gM; rw [m2]; rfl, (VM_enc hT hr2).1, hdo', hnum⟩
theorem CY.len (h : CY x σ t T τ) : zI τ 704 (x + 20) = nI (mvs T).length := h.2.2.1
theorem CY.ci (h : CY x σ t T τ) (hc : HC x σ t T B P O) : CInv x τ := (h.tt hc).1.1
/-! the model -/
theorem CR.cm {c0 : Nat} {s : Bf} (h : CR m σ c0 s τ) : CM m σ τ := ⟨h.1.mono (by omega) (by omega) (by omega) (by omega), h.2.1⟩
theorem CM.NL (h : CM m σ τ) (y : St) : CM m σ (NL m τ y) := ⟨h.1.trans (FR.NL (by omega) (by omega) y), h.2.of rfl (fun k a b => NL_ne _ (by omega) (by omega))⟩
theorem CM.ai (h : CM m σ τ) {k : Nat} (hk : 15 ≤ k ∧ k ≤ 17) (i : Nat) (v : Int32) : CM m σ (sAI τ (m + k) i v) := by
  refine ⟨h.1.trans (FR.sAI (by omega) (by omega) _ _), h.2.of rfl (fun j a b => ?_)⟩
  rw [sAI_r, zAIr_ne _ (by omega)]
theorem CM.tt (h : CM m σ τ) (hm : MInv m σ) : MInv m τ ∧ zAI τ (m + 1) = zAI σ (m + 1) ∧ mOt m τ = mOt m σ := by
  refine ⟨h.1.inv hm, h.1.ai (by omega), ?_⟩
  unfold mOt
  rw [h.1.i (by omega), h.1.i (by omega), h.1.i (by omega)]
theorem cm_mv (hC : CM m σ τ) (h : MInv m σ) (hT : TW (zAI σ (m + 1))) (hl : (mvs (zAI σ (m + 1))).length ≤ 92) {c j : Nat} {v : Mv} (hV : VM (zAI σ (m + 1)) c) (hj : (mvs (zAI σ (m + 1)))[j]? = some v) :
    ∃ y, f_X9_moved m (nI c) (nI j) τ = some (oI (gM (zAI σ (m + 1)) (mOt m σ) v c), NL m τ y) := by
  obtain ⟨i1, i2, i3⟩ := hC.tt h
  have hjl := (List.getElem?_eq_some_iff.mp hj).1
  have hcl := VM_lt hT hV
  have hvW := mvs_W (List.mem_of_getElem? hj)
  obtain ⟨y, hmv⟩ := q_moved (c := c) (k := j) (v := v) i1 (by rw [i2]; exact hT) (by omega) (by omega) (by rw [i2]; exact hvW.1) hvW.2 (hC.2.2 j v hj) (by rw [i2]; exact hV.1)
  rw [i2, i3] at hmv
  exact ⟨y, hmv⟩
theorem cm_done (hC : CM m σ τ) (h : MInv m σ) (hT : TW (zAI σ (m + 1))) {c : Nat} (hV : VM (zAI σ (m + 1)) c) : ∃ y, f_X9_isDoneAt m (nI c) τ = some (bI (dn (zAI σ (m + 1)) c), NL m τ y) := by
  obtain ⟨i1, i2, i3⟩ := hC.tt h
  have hcl := VM_lt hT hV
  obtain ⟨y, hd⟩ := q_isDoneAt i1 (by rw [i2]; exact hT) (c := c) (by omega)
  rw [i2] at hd
  exact ⟨y, hd⟩
theorem gM_mem {w : Ot} {j : Nat} {v : Mv} (hj : (mvs T)[j]? = some v) : gM T w v ∈ msM T w := List.mem_map.mpr ⟨v, List.mem_of_getElem? hj, rfl⟩
theorem CM.len (h : CM m σ τ) : zI τ 933 m = nI (mvs (zAI σ (m + 1))).length := h.2.1
theorem bI_n0 (b : Bool) : (bI b = nI 0) = (b = false) := by
  cases b
  · simp [bI]
  · simp [bI]; decide
theorem bI_01 (b : Bool) : bI b = 0 ∨ bI b = 1 := by
  cases b
  · exact Or.inl rfl
  · exact Or.inr rfl
end
/-! ===== which states are good still: one reckoning for both sides ===== -/
def glA (ms : Ms) (G : Nat → Bool) (c : Nat) : Bool := ms.any fun f => match f c with
  | none => false
  | some c' => G c'
def grA (ms : Ms) (s : Bool × (Nat → Bool)) (c : Nat) : Bool × (Nat → Bool) := if s.2 c = true then s else if glA ms s.2 c = true then (true, upB s.2 c true) else s
def grnd (ms : Ms) (L : List Nat) (G : Nat → Bool) : Bool × (Nat → Bool) := L.reverse.foldl (grA ms) (false, G)
noncomputable def gbody (ms : Ms) (L : List Nat) (s : Bool × (Nat → Bool)) : Option ((Bool × (Nat → Bool)) ⊕ (Nat → Bool)) := if s.1 = true then some (.inl (grnd ms L s.2)) else some (.inr s.2)
noncomputable def gfix (ms : Ms) (L : List Nat) (s : Bool × (Nat → Bool)) : Option (Nat → Bool) := loopC (gbody ms L) s
theorem gfix_t (ms : Ms) (L : List Nat) (G : Nat → Bool) : gfix ms L (true, G) = gfix ms L (grnd ms L G) := by
  unfold gfix
  rw [loopC_step]
  rfl
theorem gfix_f (ms : Ms) (L : List Nat) (G : Nat → Bool) : gfix ms L (false, G) = some G := by
  unfold gfix
  rw [loopC_step]
  rfl
def gmu (L : List Nat) (G : Nat → Bool) : Nat := sumF (fun c => if G c = true then 0 else 1) L
theorem grnd_mu (ms : Ms) (L : List Nat) (G : Nat → Bool) : gmu L (grnd ms L G).2 ≤ gmu L G ∧ ((grnd ms L G).1 = true → gmu L (grnd ms L G).2 < gmu L G) := by
  have key : ∀ (l : List Nat), (∀ c, c ∈ l → c ∈ L) → ∀ b G, gmu L (l.foldl (grA ms) (b, G)).2 ≤ gmu L G ∧ (b = false → (l.foldl (grA ms) (b, G)).1 = true → gmu L (l.foldl (grA ms) (b, G)).2 < gmu L G) := by
    intro l
    induction l with
    | nil => intro _ b G; exact ⟨Nat.le_refl _, fun h1 h2 => by rw [h1] at h2; cases h2⟩
    | cons c l ih =>
      intro hl b G
      rw [List.foldl_cons]
      have hl' : ∀ c, c ∈ l → c ∈ L := fun y hy => hl y (List.mem_cons_of_mem _ hy)
      have hs : grA ms (b, G) c = (b, G) ∨ (grA ms (b, G) c = (true, upB G c true) ∧ G c = false) := by
        unfold grA
        by_cases e1 : G c = true
        · left; exact if_pos e1
        · have e1' : ¬ (b, G).2 c = true := e1
          rw [if_neg e1']
          by_cases e2 : glA ms G c = true
          · right
            refine ⟨if_pos e2, by simpa using e1⟩
          · left; exact if_neg e2
      rcases hs with e | ⟨e, e0⟩
      · rw [e]; exact ih hl' b G
      · rw [e]
        have h1 := (ih hl' true (upB G c true)).1
        have h2 : gmu L (upB G c true) < gmu L G := sumF_lt (fun y _ => by
          show (if upB G c true y = true then 0 else 1) ≤ (if G y = true then 0 else 1)
          by_cases ey : y = c
          · rw [ey, upB_at]; simp
          · rw [upB_ne ey]; exact Nat.le_refl _) (hl c List.mem_cons_self) (by
          show (if upB G c true c = true then 0 else 1) < (if G c = true then 0 else 1)
          rw [upB_at, e0]; simp)
        exact ⟨by omega, fun _ _ => by omega⟩
  have := key L.reverse (fun c hc => List.mem_reverse.mp hc) false G
  exact ⟨this.1, this.2 rfl⟩
