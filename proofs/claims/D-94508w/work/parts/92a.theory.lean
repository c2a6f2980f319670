set_option maxRecDepth 100000
/-! ===== more of searches, in plain Lean ===== -/
/-- a loop by a ghost state and a measure of it -/
theorem loop_gh {S R G : Type} {body : S → Option (S ⊕ R)} (I : G → S → Prop) (μ : G → Nat) (Q : R → Prop) (hb : ∀ g s, I g s → ∃ y, body s = some y ∧ match y with | .inl s' => ∃ g', I g' s' ∧ μ g' < μ g | .inr r => Q r) : ∀ g s, I g s → ∃ r, loopC body s = some r ∧ Q r := by
  have key : ∀ n g s, μ g < n → I g s → ∃ r, loopC body s = some r ∧ Q r := by
    intro n
    induction n with
    | zero => intro g s h; omega
    | succ n ih =>
      intro g s hn hI
      obtain ⟨y, hy, hm⟩ := hb g s hI
      rw [loopC_step, hy]
      cases y with
      | inl s' =>
        obtain ⟨g', h1, h2⟩ := hm
        exact ih g' s' (by omega) h1
      | inr r => exact ⟨r, rfl, hm⟩
  intro g s h
  exact key (μ g + 1) g s (by omega) h
/-- the number ahead of j -/
def dI (j : Nat) : Int32 := nI j - nI 1
theorem dI_0 : dI 0 = mI := by decide
theorem dI_s (j : Nat) : dI (j + 1) = nI j := by
  unfold dI
  rw [nsub (by omega)]
  rfl
theorem n_dn (j : Nat) : nI j + mI = dI j := nI_dn j
/-- from the last to the first, gathering -/
theorem loop_downG {α β : Type} {body : (Int32 × Int32 × ZT) → Option ((Int32 × Int32 × ZT) ⊕ (Int32 × ZT))} {L : List α} {f : β → α → β} (acc : β → Int32) {P : β → ZT → Prop} (hs : ∀ j v, L[j]? = some v → ∀ b τ, P b τ → ∃ τ', body (acc b, nI j, τ) = some (.inl (acc (f b v), dI j, τ')) ∧ P (f b v) τ') (he : ∀ b τ, P b τ → body (acc b, mI, τ) = some (.inr (acc b, τ))) : ∀ b τ, P b τ → ∃ τ', loopC body (acc b, dI L.length, τ) = some (acc (L.reverse.foldl f b), τ') ∧ P (L.reverse.foldl f b) τ' := by
  have key : ∀ n, n ≤ L.length → ∀ b τ, P b τ → ∃ τ', loopC body (acc b, dI n, τ) = some (acc ((L.take n).reverse.foldl f b), τ') ∧ P ((L.take n).reverse.foldl f b) τ' := by
    intro n
    induction n with
    | zero =>
      intro _ b τ hP
      refine ⟨τ, ?_, hP⟩
      rw [loopC_step, dI_0, he b τ hP]
      rfl
    | succ n ih =>
      intro hn b τ hP
      have hlt : n < L.length := by omega
      obtain ⟨τ1, h1, h2⟩ := hs n L[n] (List.getElem?_eq_getElem hlt) b τ hP
      obtain ⟨τ2, h3, h4⟩ := ih (by omega) _ τ1 h2
      have e : (L.take (n + 1)).reverse.foldl f b = (L.take n).reverse.foldl f (f b L[n]) := by
        rw [List.take_succ_eq_append_getElem hlt, List.reverse_append]
        rfl
      rw [e]
      refine ⟨τ2, ?_, h4⟩
      rw [loopC_step, dI_s, h1]
      exact h3
  intro b τ hP
  have := key L.length (Nat.le_refl _) b τ hP
  rw [List.take_length] at this
  exact this
/-- from the last to the first, by what holds behind -/
theorem loop_downI {α : Type} {body : (Int32 × ZT) → Option ((Int32 × ZT) ⊕ ZT)} {L : List α} {P : Nat → ZT → Prop} (hs : ∀ j v, L[j]? = some v → ∀ τ, P (j + 1) τ → ∃ τ', body (nI j, τ) = some (.inl (dI j, τ')) ∧ P j τ') (he : ∀ τ, P 0 τ → body (mI, τ) = some (.inr τ)) : ∀ τ, P L.length τ → ∃ τ', loopC body (dI L.length, τ) = some τ' ∧ P 0 τ' := by
  have key : ∀ n, n ≤ L.length → ∀ τ, P n τ → ∃ τ', loopC body (dI n, τ) = some τ' ∧ P 0 τ' := by
    intro n
    induction n with
    | zero =>
      intro _ τ hP
      refine ⟨τ, ?_, hP⟩
      rw [loopC_step, dI_0, he τ hP]
      rfl
    | succ n ih =>
      intro hn τ hP
      have hlt : n < L.length := by omega
      obtain ⟨τ1, h1, h2⟩ := hs n L[n] (List.getElem?_eq_getElem hlt) τ hP
      obtain ⟨τ2, h3, h4⟩ := ih (by omega) τ1 h2
      refine ⟨τ2, ?_, h4⟩
      rw [loopC_step, dI_s, h1]
      exact h3
  exact key L.length (Nat.le_refl _)
/-- over a list, gathering something that is shown as a number -/
theorem loop_foldG {α β : Type} {body : (Int32 × Int32 × ZT) → Option ((Int32 × Int32 × ZT) ⊕ (Int32 × ZT))} {L : List α} {f : β → α → β} (acc : β → Int32) {P : β → ZT → Prop} (hs : ∀ j v, L[j]? = some v → ∀ b τ, P b τ → ∃ τ', body (acc b, nI j, τ) = some (.inl (acc (f b v), nI (j + 1), τ')) ∧ P (f b v) τ') (he : ∀ b τ, P b τ → body (acc b, nI L.length, τ) = some (.inr (acc b, τ))) : ∀ b τ, P b τ → ∃ τ', loopC body (acc b, nI 0, τ) = some (acc (L.foldl f b), τ') ∧ P (L.foldl f b) τ' := by
  have key : ∀ (r l : List α), l ++ r = L → ∀ b τ, P b τ → ∃ τ', loopC body (acc b, nI l.length, τ) = some (acc (r.foldl f b), τ') ∧ P (r.foldl f b) τ' := by
    intro r
    induction r with
    | nil =>
      intro l hl b τ hP
      rw [List.append_nil] at hl
      subst hl
      refine ⟨τ, ?_, hP⟩
      rw [loopC_step, he b τ hP]
      rfl
    | cons v r ih =>
      intro l hl b τ hP
      obtain ⟨τ1, h1, h2⟩ := hs l.length v (by rw [← hl]; simp) b τ hP
      obtain ⟨τ2, h3, h4⟩ := ih (l ++ [v]) (by rw [← hl]; simp) _ τ1 h2
      refine ⟨τ2, ?_, h4⟩
      rw [loopC_step, h1]
      rw [List.length_append] at h3
      exact h3
  exact key L [] rfl
/-- over a list, by what holds so far -/
theorem loop_upI {α : Type} {body : (Int32 × ZT) → Option ((Int32 × ZT) ⊕ ZT)} {L : List α} {P : Nat → ZT → Prop} (hs : ∀ j v, L[j]? = some v → ∀ τ, P j τ → ∃ τ', body (nI j, τ) = some (.inl (nI (j + 1), τ')) ∧ P (j + 1) τ') (he : ∀ τ, P L.length τ → body (nI L.length, τ) = some (.inr τ)) : ∀ τ, P 0 τ → ∃ τ', loopC body (nI 0, τ) = some τ' ∧ P L.length τ' := by
  have key : ∀ d j, j + d = L.length → ∀ τ, P j τ → ∃ τ', loopC body (nI j, τ) = some τ' ∧ P L.length τ' := by
    intro d
    induction d with
    | zero =>
      intro j hj τ hP
      have hj : j = L.length := by omega
      subst hj
      refine ⟨τ, ?_, hP⟩
      rw [loopC_step, he τ hP]
      rfl
    | succ d ih =>
      intro j hj τ hP
      have hlt : j < L.length := by omega
      obtain ⟨τ1, h1, h2⟩ := hs j L[j] (List.getElem?_eq_getElem hlt) τ hP
      obtain ⟨τ2, h3, h4⟩ := ih (j + 1) (by omega) τ1 h2
      refine ⟨τ2, ?_, h4⟩
      rw [loopC_step, h1]
      exact h3
  exact key L.length 0 (by omega)
/-! ===== sums and counts over a list ===== -/
def sumF (g : Nat → Nat) : List Nat → Nat
  | [] => 0
  | c :: l => g c + sumF g l
theorem sumF_le {g g' : Nat → Nat} : ∀ {L : List Nat}, (∀ c, c ∈ L → g' c ≤ g c) → sumF g' L ≤ sumF g L := by
  intro L
  induction L with
  | nil => intro _; exact Nat.le_refl _
  | cons a l ih =>
    intro h
    have h1 := h a List.mem_cons_self
    have h2 := ih (fun c hc => h c (List.mem_cons_of_mem _ hc))
    show g' a + sumF g' l ≤ g a + sumF g l
    omega
theorem sumF_lt {g g' : Nat → Nat} : ∀ {L : List Nat}, (∀ c, c ∈ L → g' c ≤ g c) → ∀ {c}, c ∈ L → g' c < g c → sumF g' L < sumF g L := by
  intro L
  induction L with
  | nil => intro _ c hc; cases hc
  | cons a l ih =>
    intro h c hc hlt
    have h1 := h a List.mem_cons_self
    have h2 := sumF_le (fun c hc => h c (List.mem_cons_of_mem _ hc))
    show g' a + sumF g' l < g a + sumF g l
    rcases List.mem_cons.mp hc with e | hm
    · subst e; omega
    · have h3 := ih (fun c hc => h c (List.mem_cons_of_mem _ hc)) hm hlt
      omega
theorem sumF_len {g : Nat → Nat} : ∀ {L : List Nat}, (∀ c, c ∈ L → g c ≤ 1) → sumF g L ≤ L.length := by
  intro L
  induction L with
  | nil => intro _; exact Nat.le_refl _
  | cons a l ih =>
    intro h
    have h1 := h a List.mem_cons_self
    have h2 := ih (fun c hc => h c (List.mem_cons_of_mem _ hc))
    show g a + sumF g l ≤ l.length + 1
    omega
/-- how many of a list are known -/
def knw (F : Nat → Option Nat) (L : List Nat) : Nat := sumF (fun c => if F c = none then 0 else 1) L
theorem knw_len (F : Nat → Option Nat) (L : List Nat) : knw F L ≤ L.length := sumF_len fun c _ => by
  show (if F c = none then 0 else 1) ≤ 1
  split <;> omega
theorem knw_le {F F' : Nat → Option Nat} {L : List Nat} (h : ∀ c, F c ≠ none → F' c ≠ none) : knw F L ≤ knw F' L := sumF_le fun c _ => by
  show (if F c = none then 0 else 1) ≤ (if F' c = none then 0 else 1)
  by_cases e : F c = none
  · rw [if_pos e]; omega
  · rw [if_neg e, if_neg (h c e)]; omega
theorem knw_lt {F F' : Nat → Option Nat} {L : List Nat} (h : ∀ c, F c ≠ none → F' c ≠ none) {c : Nat} (hc : c ∈ L) (h1 : F c = none) (h2 : F' c ≠ none) : knw F L < knw F' L := sumF_lt (fun c _ => by
  show (if F c = none then 0 else 1) ≤ (if F' c = none then 0 else 1)
  by_cases e : F c = none
  · rw [if_pos e]; omega
  · rw [if_neg e, if_neg (h c e)]; omega) hc (by
  show (if F c = none then 0 else 1) < (if F' c = none then 0 else 1)
  rw [if_pos h1, if_neg h2]; omega)
def upO (F : Nat → Option Nat) (c : Nat) (v : Option Nat) : Nat → Option Nat := fun y => if y = c then v else F y
def upB (G : Nat → Bool) (c : Nat) (v : Bool) : Nat → Bool := fun y => if y = c then v else G y
theorem upO_at (F : Nat → Option Nat) (c : Nat) (v : Option Nat) : upO F c v c = v := if_pos rfl
theorem upO_ne {F : Nat → Option Nat} {c y : Nat} {v : Option Nat} (h : y ≠ c) : upO F c v y = F y := if_neg h
theorem upB_at (F : Nat → Bool) (c : Nat) (v : Bool) : upB F c v c = v := if_pos rfl
theorem upB_ne {F : Nat → Bool} {c y : Nat} {v : Bool} (h : y ≠ c) : upB F c v y = F y := if_neg h
/-! ===== what is come to is closed under moves; chains of moves; the order of the queue ===== -/
section
variable {V : Nat → Prop} {N : Nat} {ms : Ms} {s : Bf}
theorem Cl.sub {l : Ms} (h : Cl V N ms) (hl : ∀ f, f ∈ l → f ∈ ms) : Cl V N l := fun f hf c c' hc e => h f (hl f hf) c c' hc e
theorem seeA_mem (h : BI V N s) (d c : Nat) : c ∈ (seeA d s c).2 := by
  unfold seeA
  by_cases e : s.1 c = none
  · rw [if_pos e]; simp
  · rw [if_neg e]; exact (h.2.1 c).mp e
theorem Ext.mem {s s' : Bf} (h : Ext s s') {c : Nat} (hc : c ∈ s.2) : c ∈ s'.2 := by
  obtain ⟨⟨l, hl⟩, -⟩ := h
  rw [hl]
  exact List.mem_append_left _ hc
theorem expA_mem (hm : Cl V N ms) {c d : Nat} (hV : V c) (h : BI V N s) (hd : d ≤ s.2.length) {f : Nat → Option Nat} (hf : f ∈ ms) {c' : Nat} (e : f c = some c') : c' ∈ (expA ms c d s).2 := by
  have key : ∀ (l : Ms), (∀ f, f ∈ l → f ∈ ms) → ∀ s, BI V N s → d ≤ s.2.length → f ∈ l → c' ∈ (l.foldl (stepA c d) s).2 := by
    intro l
    induction l with
    | nil => intro _ s _ _ hf; cases hf
    | cons g t ih =>
      intro hl s h hd hf
      rw [List.foldl_cons]
      have hs : BI V N (stepA c d s g) ∧ Ext s (stepA c d s g) := by
        unfold stepA
        cases hg : g c with
        | none => exact ⟨h, Ext.refl s⟩
        | some c' => exact h.see hd (hm g (hl g List.mem_cons_self) c c' hV hg)
      have hlen : s.2.length ≤ (stepA c d s g).2.length := by
        obtain ⟨l', hl'⟩ := hs.2.1
        rw [hl', List.length_append]
        omega
      rcases List.mem_cons.mp hf with ef | hf
      · subst ef
        have h1 : c' ∈ (stepA c d s f).2 := by
          unfold stepA
          rw [e]
          exact seeA_mem h d c'
        exact (BI.exp (hm.sub (fun g hg => hl g (List.mem_cons_of_mem _ hg))) hV hs.1 (by omega)).2.mem h1
      · exact ih (fun g hg => hl g (List.mem_cons_of_mem _ hg)) _ hs.1 (by omega) hf
  exact key ms (fun _ h => h) s h hd hf
theorem Ext.get {s s' : Bf} (h : Ext s s') {i c : Nat} (hi : s.2[i]? = some c) : s'.2[i]? = some c := by
  obtain ⟨⟨l, hl⟩, -⟩ := h
  rw [hl, List.getElem?_append_left (List.getElem?_eq_some_iff.mp hi).1]
  exact hi
theorem Ext.back {s s' : Bf} (h : Ext s s') {i c : Nat} (hi : s'.2[i]? = some c) (hl : i < s.2.length) : s.2[i]? = some c := by
  obtain ⟨⟨l, hl'⟩, -⟩ := h
  rwa [hl', List.getElem?_append_left hl] at hi
/-- what a state in the queue that was gone through leads to is in the queue -/
theorem bfs_closed (hm : Cl V N ms) {c0 : Nat} (hc : V c0 ∧ c0 < N) {k K i c : Nat} (hk : ∀ j, j < k → j < (bfsK ms (b0 c0) j).2.length) (hkK : k ≤ K) (hi : i < k) (hci : (bfsK ms (b0 c0) K).2[i]? = some c) {f : Nat → Option Nat} (hf : f ∈ ms) {c' : Nat} (e : f c = some c') : c' ∈ (bfsK ms (b0 c0) (i + 1)).2 ∧ (bfsK ms (b0 c0) i).2[i]? = some c := by
  have h1 : (bfsK ms (b0 c0) i).2[i]? = some c := (bfsK_ext hm hc i K (by omega)).back hci (hk i hi)
  have hB := (bfsK_inv hm hc i).1
  have hmem := List.mem_of_getElem? h1
  rw [bfsK_succ h1]
  obtain ⟨d, hd⟩ := Option.ne_none_iff_exists'.mp ((hB.2.1 c).mpr hmem)
  have hdA : dA (bfsK ms (b0 c0) i) c + 1 ≤ (bfsK ms (b0 c0) i).2.length := by
    unfold dA
    rw [hd]
    exact hB.2.2.2 c d hd
  exact ⟨expA_mem hm (hB.2.2.1 c hmem).1 hB hdA hf e, h1⟩
theorem BE.closed (hm : Cl V N ms) {c0 K : Nat} (hc : V c0 ∧ c0 < N) (hK : BE ms c0 K) {c : Nat} (hcm : c ∈ (bfsK ms (b0 c0) K).2) {f : Nat → Option Nat} (hf : f ∈ ms) {c' : Nat} (e : f c = some c') : c' ∈ (bfsK ms (b0 c0) K).2 := by
  obtain ⟨i, hi⟩ := List.mem_iff_getElem?.mp hcm
  have hlt := (List.getElem?_eq_some_iff.mp hi).1
  rw [hK.1] at hlt
  exact (bfsK_ext hm hc (i + 1) K (by omega)).mem (bfs_closed hm hc hK.2 (Nat.le_refl _) hlt hi hf e).1
theorem BE.start (hm : Cl V N ms) {c0 : Nat} (hc : V c0 ∧ c0 < N) (K : Nat) : (bfsK ms (b0 c0) K).2[0]? = some c0 ∧ (bfsK ms (b0 c0) K).1 c0 = some 0 := by
  have h := bfsK_ext hm hc 0 K (Nat.zero_le _)
  refine ⟨h.get rfl, h.2 c0 0 ?_⟩
  show (if c0 = c0 then some 0 else none) = some 0
  rw [if_pos rfl]
/-- a chain of n moves from c0 -/
def pk (ms : Ms) (c0 : Nat) : Nat → Nat → Prop
  | 0, c => c = c0
  | n + 1, c => ∃ c' f, pk ms c0 n c' ∧ f ∈ ms ∧ f c' = some c
/-- a chain of n moves to what is done -/
def lp (ms : Ms) (D : Nat → Bool) : Nat → Nat → Prop
  | 0, c => D c = true
  | n + 1, c => ∃ f c', f ∈ ms ∧ f c = some c' ∧ lp ms D n c'
theorem pk_lp {c0 : Nat} {D : Nat → Bool} : ∀ {e d c : Nat}, pk ms c0 d c → lp ms D e c → ∃ z, pk ms c0 (d + e) z ∧ D z = true := by
  intro e
  induction e with
  | zero => intro d c h1 h2; exact ⟨c, h1, h2⟩
  | succ e ih =>
    intro d c h1 h2
    obtain ⟨f, c', hf, hc, hl⟩ := h2
    obtain ⟨z, hz, hD⟩ := ih (d := d + 1) (c := c') ⟨c, f, h1, hf, hc⟩ hl
    rw [show d + 1 + e = d + (e + 1) by omega] at hz
    exact ⟨z, hz, hD⟩
/-- the queue goes by distance, no distance is above D, each is a chain's length -/
def BO (ms : Ms) (c0 : Nat) (s : Bf) (D : Nat) : Prop := (∀ i j a b da db : Nat, i ≤ j → s.2[i]? = some a → s.2[j]? = some b → s.1 a = some da → s.1 b = some db → da ≤ db) ∧ (∀ b db : Nat, s.1 b = some db → db ≤ D) ∧ ∀ c d : Nat, s.1 c = some d → pk ms c0 d c
theorem BO.mono {c0 D D' : Nat} (h : BO ms c0 s D) (hD : D ≤ D') : BO ms c0 s D' := ⟨h.1, fun b db hb => Nat.le_trans (h.2.1 b db hb) hD, h.2.2⟩
theorem BO.see {c0 D c : Nat} (h : BO ms c0 s D) (hB : BI V N s) (hp : pk ms c0 D c) : BO ms c0 (seeA D s c) D := by
  unfold seeA
  by_cases e : s.1 c = none
  · rw [if_pos e]
    have hnm : c ∉ s.2 := fun hm => ((hB.2.1 c).mpr hm) e
    have hv : ∀ y d, (if y = c then some D else s.1 y) = some d → d ≤ D := by
      intro y d hy
      by_cases ey : y = c
      · rw [if_pos ey] at hy
        cases hy; exact Nat.le_refl _
      · rw [if_neg ey] at hy
        exact h.2.1 y d hy
    refine ⟨fun i j a b da db hij ha hb hda hdb => ?_, hv, fun y d hy => ?_⟩
    · have ha : (s.2 ++ [c])[i]? = some a := ha
      have hb : (s.2 ++ [c])[j]? = some b := hb
      by_cases ej : j < s.2.length
      · rw [List.getElem?_append_left ej] at hb
        rw [List.getElem?_append_left (by omega)] at ha
        have na : a ≠ c := fun e2 => hnm (e2 ▸ List.mem_of_getElem? ha)
        have nb : b ≠ c := fun e2 => hnm (e2 ▸ List.mem_of_getElem? hb)
        have hda : (if a = c then some D else s.1 a) = some da := hda
        have hdb : (if b = c then some D else s.1 b) = some db := hdb
        rw [if_neg na] at hda
        rw [if_neg nb] at hdb
        exact h.1 i j a b da db hij ha hb hda hdb
      · have hlt := (List.getElem?_eq_some_iff.mp hb).1
        rw [List.length_append, List.length_singleton] at hlt
        have ej2 : j = s.2.length := by omega
        subst ej2
        rw [List.getElem?_append_right (Nat.le_refl _), Nat.sub_self] at hb
        have eb : c = b := by simpa using hb
        subst eb
        have hdb : (if c = c then some D else s.1 c) = some db := hdb
        rw [if_pos rfl] at hdb
        cases hdb
        exact hv a da hda
    · have hy : (if y = c then some D else s.1 y) = some d := hy
      by_cases ey : y = c
      · rw [if_pos ey] at hy
        cases hy
        rw [ey]; exact hp
      · rw [if_neg ey] at hy
        exact h.2.2 y d hy
  · rw [if_neg e]; exact h
theorem BO.exp (hm : Cl V N ms) {c0 c d : Nat} (hV : V c) (h : BO ms c0 s (d + 1)) (hB : BI V N s) (hd : d + 1 ≤ s.2.length) (hp : pk ms c0 d c) : BO ms c0 (expA ms c (d + 1) s) (d + 1) := by
  have key : ∀ (l : Ms), (∀ f, f ∈ l → f ∈ ms) → ∀ s, BO ms c0 s (d + 1) → BI V N s → d + 1 ≤ s.2.length → BO ms c0 (l.foldl (stepA c (d + 1)) s) (d + 1) := by
    intro l
    induction l with
    | nil => intro _ s h _ _; exact h
    | cons g t ih =>
      intro hl s h hB hd
      rw [List.foldl_cons]
      have hs : BI V N (stepA c (d + 1) s g) ∧ Ext s (stepA c (d + 1) s g) ∧ BO ms c0 (stepA c (d + 1) s g) (d + 1) := by
        unfold stepA
        cases hg : g c with
        | none => exact ⟨hB, Ext.refl s, h⟩
        | some c' =>
          have h1 := hB.see hd (hm g (hl g List.mem_cons_self) c c' hV hg)
          exact ⟨h1.1, h1.2, h.see hB ⟨c, g, hp, hl g List.mem_cons_self, hg⟩⟩
      have hlen : s.2.length ≤ (stepA c (d + 1) s g).2.length := by
        obtain ⟨l', hl'⟩ := hs.2.1.1
        rw [hl', List.length_append]
        omega
      exact ih (fun g hg => hl g (List.mem_cons_of_mem _ hg)) _ hs.2.2 hs.1 (by omega)
  exact key ms (fun _ h => h) s h hB hd
theorem bfsK_ord (hm : Cl V N ms) {c0 : Nat} (hc : V c0 ∧ c0 < N) : ∀ k, (∃ D, BO ms c0 (bfsK ms (b0 c0) k) D) ∧ ∀ c d, (bfsK ms (b0 c0) k).2[k]? = some c → (bfsK ms (b0 c0) k).1 c = some d → BO ms c0 (bfsK ms (b0 c0) k) (d + 1) := by
  intro k
  induction k with
  | zero =>
    have h0 : BO ms c0 (bfsK ms (b0 c0) 0) 0 := by
      have hv : ∀ y d, (if y = c0 then some 0 else none) = some d → y = c0 ∧ d = 0 := by
        intro y d hy
        by_cases ey : y = c0
        · rw [if_pos ey] at hy
          cases hy; exact ⟨ey, rfl⟩
        · rw [if_neg ey] at hy; cases hy
      refine ⟨fun i j a b da db _ _ _ hda _ => ?_, fun b db hb => ?_, fun c d hcd => ?_⟩
      · rw [(hv a da hda).2]; exact Nat.zero_le _
      · rw [(hv b db hb).2]; exact Nat.le_refl _
      · obtain ⟨e1, e2⟩ := hv c d hcd
        subst e2
        exact e1
    exact ⟨⟨0, h0⟩, fun c d _ _ => h0.mono (by omega)⟩
  | succ k ih =>
    cases hk : (bfsK ms (b0 c0) k).2[k]? with
    | none =>
      have e : bfsK ms (b0 c0) (k + 1) = bfsK ms (b0 c0) k := by
        show (match (bfsK ms (b0 c0) k).2[k]? with | none => bfsK ms (b0 c0) k | some c => expA ms c (dA (bfsK ms (b0 c0) k) c + 1) (bfsK ms (b0 c0) k)) = _
        rw [hk]
      rw [e]
      refine ⟨ih.1, fun c d h1 _ => ?_⟩
      have := List.getElem?_eq_none_iff.mp hk
      have := (List.getElem?_eq_some_iff.mp h1).1
      omega
    | some c =>
      have hB := (bfsK_inv hm hc k).1
      have hmem := List.mem_of_getElem? hk
      obtain ⟨d, hd⟩ := Option.ne_none_iff_exists'.mp ((hB.2.1 c).mpr hmem)
      have hdA : dA (bfsK ms (b0 c0) k) c = d := by unfold dA; rw [hd]; rfl
      have h1 := ih.2 c d hk hd
      have h2 : BO ms c0 (bfsK ms (b0 c0) (k + 1)) (d + 1) := by
        rw [bfsK_succ hk, hdA]
        exact BO.exp hm (hB.2.2.1 c hmem).1 h1 hB (hB.2.2.2 c d hd) (h1.2.2 c d hd)
      refine ⟨⟨_, h2⟩, fun c2 d2 g1 g2 => h2.mono ?_⟩
      have hE := (bfsK_inv hm hc k).2
      have := h2.1 k (k + 1) c c2 d d2 (by omega) (hE.get hk) g1 (hE.2 c d hd) g2
      omega
/-- a state that was gone through leads to what is no farther than one more -/
theorem bfsK_next (hm : Cl V N ms) {c0 : Nat} (hc : V c0 ∧ c0 < N) {k i c d : Nat} (hk : ∀ j, j < k → j < (bfsK ms (b0 c0) j).2.length) (hi : i < k) (hci : (bfsK ms (b0 c0) k).2[i]? = some c) (hd : (bfsK ms (b0 c0) k).1 c = some d) {f : Nat → Option Nat} (hf : f ∈ ms) {c' : Nat} (e : f c = some c') : ∃ d', (bfsK ms (b0 c0) k).1 c' = some d' ∧ d' ≤ d + 1 := by
  obtain ⟨h1, h2⟩ := bfs_closed hm hc hk (Nat.le_refl _) hi hci hf e
  have hB := (bfsK_inv hm hc i).1
  have hB1 := (bfsK_inv hm hc (i + 1)).1
  obtain ⟨d0, hd0⟩ := Option.ne_none_iff_exists'.mp ((hB.2.1 c).mpr (List.mem_of_getElem? h2))
  have hx := (bfsK_ext hm hc i k (by omega)).2 c d0 hd0
  rw [hd] at hx
  cases hx
  obtain ⟨d', hd'⟩ := Option.ne_none_iff_exists'.mp ((hB1.2.1 c').mpr h1)
  refine ⟨d', (bfsK_ext hm hc (i + 1) k (by omega)).2 c' d' hd', ?_⟩
  have hO := (bfsK_ord hm hc i).2 c d h2 hd0
  have h3 : BO ms c0 (bfsK ms (b0 c0) (i + 1)) (d + 1) := by
    have hdA : dA (bfsK ms (b0 c0) i) c = d := by unfold dA; rw [hd0]; rfl
    rw [bfsK_succ h2, hdA]
    exact BO.exp hm (hB.2.2.1 c (List.mem_of_getElem? h2)).1 hO hB (hB.2.2.2 c d hd0) (hO.2.2 c d hd0)
  exact h3.2.1 c' d' hd'
/-- a state before which the queue has gone to the place k is known if a chain no longer than the place's distance leads to it -/
theorem bfsK_near (hm : Cl V N ms) {c0 : Nat} (hc : V c0 ∧ c0 < N) {k c D : Nat} (hk : ∀ j, j < k → j < (bfsK ms (b0 c0) j).2.length) (hck : (bfsK ms (b0 c0) k).2[k]? = some c) (hD : (bfsK ms (b0 c0) k).1 c = some D) : ∀ j, j ≤ D → ∀ z, pk ms c0 j z → ∃ d', (bfsK ms (b0 c0) k).1 z = some d' ∧ d' ≤ j := by
  intro j
  induction j with
  | zero =>
    intro _ z hz
    have hz : z = c0 := hz
    subst hz
    exact ⟨0, (BE.start hm hc k).2, Nat.le_refl _⟩
  | succ j ih =>
    intro hj z hz
    obtain ⟨a, f, ha, hf, e⟩ := hz
    obtain ⟨da, hda, hle⟩ := ih (by omega) a ha
    have hB := (bfsK_inv hm hc k).1
    obtain ⟨i, hi⟩ := List.mem_iff_getElem?.mp ((hB.2.1 a).mp (by rw [hda]; simp))
    have hO := (bfsK_ord hm hc k).2 c D hck hD
    by_cases hik : i < k
    · obtain ⟨d', h1, h2⟩ := bfsK_next hm hc hk hik hi hda hf e
      exact ⟨d', h1, by omega⟩
    · have := hO.1 k i c a D da (by omega) hck hi hD hda
      omega
/-- no shorter chain to what is done than to the first done state in the queue -/
theorem bfsK_least (hm : Cl V N ms) {c0 : Nat} (hc : V c0 ∧ c0 < N) {k c D : Nat} {Dn : Nat → Bool} (hk : ∀ j, j < k → j < (bfsK ms (b0 c0) j).2.length) (hck : (bfsK ms (b0 c0) k).2[k]? = some c) (hD : (bfsK ms (b0 c0) k).1 c = some D) (hf : ∀ j, j < k → ∀ c', (bfsK ms (b0 c0) k).2[j]? = some c' → Dn c' = false) {j z : Nat} (hz : pk ms c0 j z) (hdn : Dn z = true) : D ≤ j := by
  by_cases hlt : j < D
  · obtain ⟨d', h1, h2⟩ := bfsK_near hm hc hk hck hD j (by omega) z hz
    have hB := (bfsK_inv hm hc k).1
    obtain ⟨i, hi⟩ := List.mem_iff_getElem?.mp ((hB.2.1 z).mp (by rw [h1]; simp))
    have hO := (bfsK_ord hm hc k).2 c D hck hD
    by_cases hik : i < k
    · have := hf i hik z hi
      rw [this] at hdn
      cases hdn
    · have := hO.1 k i c z D d' (by omega) hck hi hD h1
      omega
  · omega
end
