set_option maxRecDepth 100000
section
variable {σ : ZT} {mo t : Nat} {T : Nat → Int32} {B P O : Nat → Nat}
def LyC (mo : Nat) (σ : ZT) (N : Nat) (τ : ZT) (L : List Mv) : Prop := FR mo 704 704 1 4 σ τ ∧ MLc mo τ L ∧ L.length ≤ N
theorem LyC.add (h : MoI mo σ) {N : Nat} {τ : ZT} {L : List Mv} (hP : LyC mo σ N τ L) (hB : N < 120) (v : Mv) : ∃ τ', f_X7_add mo (nI v.1) (nI v.2.1) (oI v.2.2.1) (oI v.2.2.2) τ = some τ' ∧ LyC mo σ (N + 1) τ' (L ++ [v]) := by
  obtain ⟨h1, h2, h3⟩ := hP
  obtain ⟨τ', g1, g2, g3⟩ := p_add (h1.moi h) h2 (by omega) v
  exact ⟨τ', g1, h1.trans g2, g3, by rw [List.length_append]; simpa using h3⟩
theorem LyC.tt (h : MoI mo σ) (g : TR σ t T B P O) (ht : ¬ (mo + 1 ≤ t + 2 ∧ t + 2 ≤ mo + 4)) {N : Nat} {τ : ZT} {L : List Mv} (hP : LyC mo σ N τ L) : MoI mo τ ∧ TR τ t T B P O := ⟨hP.1.moi h, hP.1.tr (by omega) ht g⟩
theorem p_tell1 (h : MoI mo σ) (g : TR σ t T B P O) (ht : ¬ (mo + 1 ≤ t + 2 ∧ t + 2 ≤ mo + 4)) (hT : TW T) {p N : Nat} (hB : N + fn T 1 < 100) {τ : ZT} {L : List Mv} (hP : LyC mo σ N τ L) : ∃ τ', loopC (fun s : (Int32 × ZT) => f_X7_tell_L17 mo t (nI p) s.1 s.2) (nI 0, τ) = some τ' ∧ LyC mo σ (N + fn T 1) τ' (L ++ gGo (fn T 1) p) := by
  have h1 := hT.1 1 (by decide)
  refine loop_list (P := fun k τ L => LyC mo σ (N + k) τ L) (g := fun b => [(0, p, none, some b)]) (n := fn T 1) (fun k hk τ L hP => ?_) (fun τ L hP => ?_) _ 0 (by omega) τ L hP
  · obtain ⟨i1, i2⟩ := hP.tt h g ht
    obtain ⟨τ', g1, g2⟩ := hP.add h (by omega) (0, p, none, some k)
    refine ⟨τ', ?_, g2⟩
    have g1' : f_X7_add mo (nI 0) (nI p) mI (nI k) τ = some τ' := g1
    unfold f_X7_tell_L17
    simp (disch := first | exact i1 | exact i2 | omega) [ti1 i2, movc, lI, mI_eq, nI_add, pk_mul, nlt, nle, neq, nI_mI, mI_nI, nltm, mltn, nsub, zremN, zdivN, h1, g1', hk]
  · obtain ⟨i1, i2⟩ := hP.tt h g ht
    unfold f_X7_tell_L17
    simp (disch := first | exact i1 | omega) [ti1 i2, lI, mI_eq, nI_add, pk_mul, nlt, nle, neq, nI_mI, mI_nI, nltm, mltn, nsub, zremN, zdivN, h1]
theorem p_tell2 (h : MoI mo σ) (g : TR σ t T B P O) (ht : ¬ (mo + 1 ≤ t + 2 ∧ t + 2 ≤ mo + 4)) (hT : TW T) {p q N : Nat} (hB : N + fn T 1 < 100) {τ : ZT} {L : List Mv} (hP : LyC mo σ N τ L) : ∃ τ', loopC (fun s : (Int32 × ZT) => f_X7_tell_L70 mo t (nI p) (nI q) s.1 s.2) (nI 0, τ) = some τ' ∧ LyC mo σ (N + fn T 1) τ' (L ++ gBo1 (fn T 1) p q) := by
  have h1 := hT.1 1 (by decide)
  refine loop_list (P := fun k τ L => LyC mo σ (N + k) τ L) (g := fun b => [(1, p, some q, some b)]) (n := fn T 1) (fun k hk τ L hP => ?_) (fun τ L hP => ?_) _ 0 (by omega) τ L hP
  · obtain ⟨i1, i2⟩ := hP.tt h g ht
    obtain ⟨τ', g1, g2⟩ := hP.add h (by omega) (1, p, some q, some k)
    refine ⟨τ', ?_, g2⟩
    have g1' : f_X7_add mo (nI 1) (nI p) (nI q) (nI k) τ = some τ' := g1
    unfold f_X7_tell_L70
    simp (disch := first | exact i1 | omega) [ti1 i2, movc, lI, mI_eq, nI_add, pk_mul, nlt, nle, neq, nI_mI, mI_nI, nltm, mltn, nsub, zremN, zdivN, h1, g1', hk]
  · obtain ⟨i1, i2⟩ := hP.tt h g ht
    unfold f_X7_tell_L70
    simp (disch := first | exact i1 | omega) [ti1 i2, lI, mI_eq, nI_add, pk_mul, nlt, nle, neq, nI_mI, mI_nI, nltm, mltn, nsub, zremN, zdivN, h1]
theorem p_tell3 (h : MoI mo σ) (g : TR σ t T B P O) (ht : ¬ (mo + 1 ≤ t + 2 ∧ t + 2 ≤ mo + 4)) (hT : TW T) {p N : Nat} (hB : N + fn T 3 < 100) {τ : ZT} {L : List Mv} (hP : LyC mo σ N τ L) : ∃ τ', loopC (fun s : (Int32 × ZT) => f_X7_tell_L118 mo t (nI p) s.1 s.2) (nI 0, τ) = some τ' ∧ LyC mo σ (N + fn T 3) τ' (L ++ gLi (fn T 3) p) := by
  have h1 := hT.1 3 (by decide)
  refine loop_list (P := fun k τ L => LyC mo σ (N + k) τ L) (g := fun b => [(2, p, none, some b)]) (n := fn T 3) (fun k hk τ L hP => ?_) (fun τ L hP => ?_) _ 0 (by omega) τ L hP
  · obtain ⟨i1, i2⟩ := hP.tt h g ht
    obtain ⟨τ', g1, g2⟩ := hP.add h (by omega) (2, p, none, some k)
    refine ⟨τ', ?_, g2⟩
    have g1' : f_X7_add mo (nI 2) (nI p) mI (nI k) τ = some τ' := g1
    unfold f_X7_tell_L118
    simp (disch := first | exact i1 | omega) [ti3 i2, movc, lI, mI_eq, nI_add, pk_mul, nlt, nle, neq, nI_mI, mI_nI, nltm, mltn, nsub, zremN, zdivN, h1, g1', hk]
  · obtain ⟨i1, i2⟩ := hP.tt h g ht
    unfold f_X7_tell_L118
    simp (disch := first | exact i1 | omega) [ti3 i2, lI, mI_eq, nI_add, pk_mul, nlt, nle, neq, nI_mI, mI_nI, nltm, mltn, nsub, zremN, zdivN, h1]
theorem p_tell (h : MoI mo σ) (g : TR σ t T B P O) (ht : ¬ (mo + 1 ≤ t + 2 ∧ t + 2 ≤ mo + 4)) (hT : TW T) : ∃ τ, f_X7_tell mo t σ = some τ ∧ FR mo 704 704 1 4 σ τ ∧ MLc mo τ (mvs T) ∧ (mvs T).length ≤ 92 := by
  have h2 := hT.1 2 (by decide)
  have n1 := hT.2.2.1
  have n2 := hT.2.2.2.1
  have n3 := hT.2.2.2.2.1
  have hP0 : LyC mo σ 0 (sI σ 704 mo (nI 0)) [] := ⟨FR.sI (by decide) (by decide) _, ⟨by rw [r_II, if_pos ⟨rfl, rfl⟩]; rfl, fun k v hk => by simp at hk⟩, Nat.le_refl _⟩
  obtain ⟨τ1, a1, P1⟩ := loop_list (body := fun s : (Int32 × ZT) => f_X7_tell_L7 mo t s.1 s.2) (P := fun k τ L => LyC mo σ (8 * k) τ L) (g := gGo (fn T 1)) (n := fn T 2) (fun k hk τ L hP => by
    obtain ⟨i1, i2⟩ := hP.tt h g ht
    obtain ⟨τ', g1, g2⟩ := p_tell1 (p := k) h g ht hT (by omega) hP
    refine ⟨τ', ?_, g2.1, g2.2.1, by have := g2.2.2; omega⟩
    unfold f_X7_tell_L7
    simp (disch := omega) [lI, mI_eq, nI_add, pk_mul, nlt, nle, neq, nI_mI, mI_nI, nltm, mltn, nsub, zremN, zdivN, ti2 i2, h2, hk, g1]) (fun τ L hP => by
    obtain ⟨i1, i2⟩ := hP.tt h g ht
    unfold f_X7_tell_L7
    simp (disch := omega) [lI, mI_eq, nI_add, pk_mul, nlt, nle, neq, nI_mI, mI_nI, nltm, mltn, nsub, zremN, zdivN, ti2 i2, h2]) (fn T 2) 0 (by omega) _ _ hP0
  obtain ⟨τ2, a2, P2⟩ := loop_list (body := fun s : (Int32 × ZT) => f_X7_tell_L47 mo t s.1 s.2) (P := fun k τ L => LyC mo σ (32 + (8 * ((fn T 2 * k - (k * (k + 1)) / 2)))) τ L) (g := gBo (fn T 1) (fn T 2)) (n := fn T 2) (fun k hk τ L hP => by
    obtain ⟨i1, i2⟩ := hP.tt h g ht
    have key : 32 + 8 * (fn T 2 * k - k * (k + 1) / 2) + 8 * (fn T 2 - (k + 1)) ≤ 32 + 8 * (fn T 2 * (k + 1) - (k + 1) * (k + 1 + 1) / 2) ∧ 32 + 8 * (fn T 2 * k - k * (k + 1) / 2) + 8 * (fn T 2 - (k + 1)) ≤ 80 := by
      have hk4 : k = 0 ∨ k = 1 ∨ k = 2 ∨ k = 3 := by omega
      rcases le4 n2 with e | e | e | e | e <;> rcases hk4 with rfl | rfl | rfl | rfl <;> rw [e] at hk ⊢ <;> first | omega | decide
    obtain ⟨τ', g1, g2⟩ := loop_list (body := fun s : (Int32 × ZT) => f_X7_tell_L59 mo t (nI k) s.1 s.2) (P := fun q τ L => LyC mo σ (32 + 8 * (fn T 2 * k - k * (k + 1) / 2) + 8 * (q - (k + 1))) τ L ∧ k + 1 ≤ q) (g := fun q => gBo1 (fn T 1) k q) (n := fn T 2) (fun q hq τ L hP => by
      obtain ⟨hP, hkq⟩ := hP
      obtain ⟨i1, i2⟩ := hP.tt h g ht
      obtain ⟨τ', g1, g2⟩ := p_tell2 (p := k) (q := q) h g ht hT (by omega) hP
      refine ⟨τ', ?_, ⟨g2.1, g2.2.1, by have := g2.2.2; omega⟩, by omega⟩
      unfold f_X7_tell_L59
      simp (disch := omega) [lI, mI_eq, nI_add, pk_mul, nlt, nle, neq, nI_mI, mI_nI, nltm, mltn, nsub, zremN, zdivN, ti2 i2, h2, hq, g1]) (fun τ L hP => by
      obtain ⟨i1, i2⟩ := hP.1.tt h g ht
      unfold f_X7_tell_L59
      simp (disch := omega) [lI, mI_eq, nI_add, pk_mul, nlt, nle, neq, nI_mI, mI_nI, nltm, mltn, nsub, zremN, zdivN, ti2 i2, h2]) (fn T 2 - (k + 1)) (k + 1) (by omega) τ L ⟨by rw [Nat.sub_self]; exact hP, Nat.le_refl _⟩
    refine ⟨τ', ?_, g2.1.1, g2.1.2.1, Nat.le_trans g2.1.2.2 key.1⟩
    unfold f_X7_tell_L47
    simp (disch := omega) [lI, mI_eq, nI_add, pk_mul, nlt, nle, neq, nI_mI, mI_nI, nltm, mltn, nsub, zremN, zdivN, ti2 i2, h2, hk, g1]) (fun τ L hP => by
    obtain ⟨i1, i2⟩ := hP.tt h g ht
    unfold f_X7_tell_L47
    simp (disch := omega) [lI, mI_eq, nI_add, pk_mul, nlt, nle, neq, nI_mI, mI_nI, nltm, mltn, nsub, zremN, zdivN, ti2 i2, h2]) (fn T 2) 0 (by omega) τ1 _ ⟨P1.1, P1.2.1, by have := P1.2.2; omega⟩
  have P2l : (List.flatMap (gGo (fn T 1)) (List.range' 0 (fn T 2)) ++ List.flatMap (gBo (fn T 1) (fn T 2)) (List.range' 0 (fn T 2))).length ≤ 80 := by
    refine Nat.le_trans P2.2.2 ?_
    rcases le4 n2 with e | e | e | e | e <;> rw [e] <;> decide
  obtain ⟨τ3, a3, P3⟩ := loop_list (body := fun s : (Int32 × ZT) => f_X7_tell_L108 mo t s.1 s.2) (P := fun k τ L => LyC mo σ (80 + 2 * k) τ L) (g := gLi (fn T 3)) (n := fn T 2) (fun k hk τ L hP => by
    obtain ⟨i1, i2⟩ := hP.tt h g ht
    obtain ⟨τ', g1, g2⟩ := p_tell3 (p := k) h g ht hT (by omega) hP
    refine ⟨τ', ?_, g2.1, g2.2.1, by have := g2.2.2; omega⟩
    unfold f_X7_tell_L108
    simp (disch := omega) [lI, mI_eq, nI_add, pk_mul, nlt, nle, neq, nI_mI, mI_nI, nltm, mltn, nsub, zremN, zdivN, ti2 i2, h2, hk, g1]) (fun τ L hP => by
    obtain ⟨i1, i2⟩ := hP.tt h g ht
    unfold f_X7_tell_L108
    simp (disch := omega) [lI, mI_eq, nI_add, pk_mul, nlt, nle, neq, nI_mI, mI_nI, nltm, mltn, nsub, zremN, zdivN, ti2 i2, h2]) (fn T 2) 0 (by omega) τ2 _ ⟨P2.1, P2.2.1, P2l⟩
  obtain ⟨τ4, a4, P4⟩ := loop_list (body := fun s : (Int32 × ZT) => f_X7_tell_L148 mo t s.1 s.2) (P := fun k τ L => LyC mo σ (88 + k) τ L) (g := gDr) (n := fn T 2) (fun k hk τ L hP => by
    obtain ⟨τ', g1, g2⟩ := hP.add h (by omega) (3, k, none, none)
    obtain ⟨i1, i2⟩ := hP.tt h g ht
    have g1' : f_X7_add mo (nI 3) (nI k) mI mI τ = some τ' := g1
    refine ⟨τ', ?_, g2⟩
    unfold f_X7_tell_L148
    simp (disch := first | exact i1 | omega) [movc, lI, mI_eq, nI_add, pk_mul, nlt, nle, neq, nI_mI, mI_nI, nltm, mltn, nsub, zremN, zdivN, ti2 i2, h2, hk, g1']) (fun τ L hP => by
    obtain ⟨i1, i2⟩ := hP.tt h g ht
    unfold f_X7_tell_L148
    simp (disch := omega) [lI, mI_eq, nI_add, pk_mul, nlt, nle, neq, nI_mI, mI_nI, nltm, mltn, nsub, zremN, zdivN, ti2 i2, h2]) (fn T 2) 0 (by omega) τ3 _ ⟨P3.1, P3.2.1, by have := P3.2.2; omega⟩
  refine ⟨τ4, ?_, P4.1, P4.2.1, Nat.le_trans (show (mvs T).length ≤ _ from P4.2.2) (by omega)⟩
  unfold f_X7_tell
  simp (disch := first | exact h | omega) only [mopI, lI, mI_eq, nI_add, pk_mul, nlt, nle, neq, nI_mI, mI_nI, nltm, mltn, nsub, zremN, zdivN, bind_s, a1, a2, a3, a4]
theorem MLc.len {L : List Mv} (h : MLc mo σ L) : zI σ 704 mo = nI L.length := h.1
/-- the moves of the list, done -/
theorem p_does {s a1 a2 : Nat} (h : SP σ s a1 a2 t T B P O) (hm : MoI mo σ) (hT : TW T) (hS : SV T (zAI σ a1, zAI σ a2)) {k : Nat} {v : Mv} (hL : MLc mo σ (mvs T)) (hl : (mvs T).length ≤ 92) (hk : (mvs T)[k]? = some v) :
    f_X7_does mo s (nI k) σ = match sMv T (zI σ 503 s, zI σ 504 s, zI σ 505 s) v (zAI σ a1, zAI σ a2) with
      | none => some (nI 0, σ)
      | some x => some (nI 1, CN a1 a2 σ x) := by
  have hkl : k < 120 := by
    have := (List.getElem?_eq_some_iff.mp hk).1
    omega
  obtain ⟨e1, e2, e3, e4⟩ := hL.2 k v hk
  have hmem := List.mem_of_getElem? hk
  have hW := mvs_W hmem
  have h01 : (v.1 = 0 → v.2.2.1 = none) ∧ (v.1 = 1 → ∃ q, v.2.2.1 = some q) := by
    unfold mvs at hmem
    simp only [List.mem_append, List.mem_flatMap, List.mem_range'] at hmem
    rcases hmem with ((⟨p, -, h3⟩ | ⟨p, -, h3⟩) | ⟨p, -, h3⟩) | ⟨p, -, h3⟩
    · obtain ⟨b, hb, rfl⟩ := mem_go h3
      exact ⟨fun _ => rfl, fun h => by cases h⟩
    · obtain ⟨q, b, -, -, -, rfl⟩ := mem_bo h3
      exact ⟨fun h => (by cases h), fun _ => ⟨q, rfl⟩⟩
    · obtain ⟨b, hb, rfl⟩ := mem_li h3
      exact ⟨fun h => (by cases h), fun h => (by cases h)⟩
    · simp [gDr] at h3
      subst h3
      exact ⟨fun h => (by cases h), fun h => (by cases h)⟩
  have hmv := p_moves h hT hS hW.1 hW.2 h01.1 h01.2
  unfold f_X7_does
  simp (disch := first | exact hm | omega) only [mo700, mo701, mo702, mo703, mol1, mol2, mol3, mol4, bind_s, e1, e2, e3, e4, pvc h, hmv]
  cases sMv T (zI σ 503 s, zI σ 504 s, zI σ 505 s) v (zAI σ a1, zAI σ a2) <;> rfl
end
