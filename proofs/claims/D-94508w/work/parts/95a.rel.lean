set_option maxRecDepth 100000
/-! ===== THE RELATION of both objects ===== -/
/-- two words for one name -/
def n32 (w : List Nat) : Int64 := w.foldl (fun n c => n * 32 + Int64.ofNat c - 96) 0
def n256 (w : List Nat) : Int64 := w.foldl (fun n c => (n <<< 8) ||| Int64.ofNat c) 0
def Wd (w : List Nat) : Prop := w ≠ [] ∧ w.length ≤ 8 ∧ ∀ c, c ∈ w → 97 ≤ c ∧ c ≤ 122
def NmE (a b : Int64) : Prop := ∃ w, Wd w ∧ a = n32 w ∧ b = n256 w
def TRS (own : Nat → Nat) (t : Nat) (T : Nat → Int32) (B P O : Nat → Nat) : Prop := (∀ j, j < 6 → own (t + j) = 2) ∧ (∀ b, b < fn T 1 → own (B b) = 2) ∧ (∀ q, q < fn T 2 → own (P q) = 2) ∧ ∀ l, l < fn T 3 → own (O l) = 2
def NMS (σ : ZT) (t : Nat) (T : Nat → Int32) (B P O : Nat → Nat) (N : Nat → Int64) : Prop := (∀ k, k < fn T 0 → NmE (zAL σ (t + 1) k) (N k)) ∧ (∀ b, b < fn T 1 → NmE (zL σ 1100 (B b)) (N (6 + b))) ∧ (∀ q, q < fn T 2 → NmE (zL σ 1200 (P q)) (N (14 + q))) ∧ ∀ l, l < fn T 3 → NmE (zL σ 1300 (O l)) (N (18 + l))
/-! orders: the component's steps against the model's rows -/
def rw5 (T : Nat → Int32) (k j : Nat) : Int32 := T (120 + 5 * k + j)
def PlA (own : Nat → Nat) (σ : ZT) (T : Nat → Int32) (s i : Nat) : Prop := own s = 3 ∧
  ((rw5 T i 0 = nI 29 ∧ zK σ s = 20) ∨
   (∃ a br, a < fn T 2 ∧ br < fn T 1 ∧ rw5 T i 0 = nI 19 ∧ rw5 T i 1 = nI a ∧ rw5 T i 2 = mI ∧ rw5 T i 3 = nI br ∧ zK σ s = 19 ∧ zI σ 1800 s = nI 0 ∧ zI σ 1801 s = nI a ∧ zI σ 1802 s = mI ∧ zI σ 1803 s = nI br) ∨
   (∃ a b br, a < fn T 2 ∧ b < fn T 2 ∧ a ≠ b ∧ br < fn T 1 ∧ rw5 T i 0 = nI 20 ∧ rw5 T i 1 = nI a ∧ rw5 T i 2 = nI b ∧ rw5 T i 3 = nI br ∧ zK σ s = 19 ∧ zI σ 1800 s = nI 1 ∧ zI σ 1801 s = nI (min a b) ∧ zI σ 1802 s = nI (max a b) ∧ zI σ 1803 s = nI br) ∨
   (∃ a l, a < fn T 2 ∧ l < fn T 3 ∧ rw5 T i 0 = nI 22 ∧ rw5 T i 1 = nI a ∧ rw5 T i 3 = nI l ∧ zK σ s = 19 ∧ zI σ 1800 s = nI 2 ∧ zI σ 1801 s = nI a ∧ zI σ 1802 s = mI ∧ zI σ 1803 s = nI l) ∨
   (∃ a, a < fn T 2 ∧ rw5 T i 0 = nI 23 ∧ rw5 T i 1 = nI a ∧ zK σ s = 19 ∧ zI σ 1800 s = nI 3 ∧ zI σ 1801 s = nI a ∧ zI σ 1802 s = mI ∧ zI σ 1803 s = mI))
/-- what opens a block -/
def OpA (σ : ZT) (T : Nat → Int32) (s i : Nat) : Prop :=
  (∃ n, 1 ≤ n ∧ n ≤ 99 ∧ zK σ s = 17 ∧ rw5 T i 0 = nI 27 ∧ rw5 T i 1 = nI n ∧ zI σ 1602 s = nI n) ∨
  (∃ p pl, p < fn T 2 ∧ pl < fn T 0 ∧ zK σ s = 18 ∧ rw5 T i 0 = nI 2415 ∧ rw5 T i 1 = nI p ∧ rw5 T i 2 = nI pl ∧ zI σ 1702 s = nI 0 ∧ zI σ 1703 s = nI p ∧ zI σ 1704 s = nI pl) ∨
  (∃ b, b < fn T 1 ∧ zK σ s = 18 ∧ rw5 T i 0 = nI 2425 ∧ rw5 T i 1 = nI b ∧ zI σ 1702 s = nI 1 ∧ zI σ 1703 s = nI b) ∨
  (∃ p, p < fn T 2 ∧ zK σ s = 18 ∧ rw5 T i 0 = nI 2426 ∧ rw5 T i 1 = nI p ∧ zI σ 1702 s = nI 2 ∧ zI σ 1703 s = nI p)
/-- a block's steps lie in the rows from i to j -/
def BkA (own : Nat → Nat) (σ : ZT) (S : Nat → Nat → Nat → Prop) (s i j : Nat) : Prop := ∃ (ar n : Nat) (st pos : Nat → Nat), zR σ 1500 s = some ar ∧ own ar = 3 ∧ zK σ ar = 31 ∧ n ≤ zN σ ar ∧ n ≤ 30 ∧ zI σ 1501 s = nI n ∧ pos 0 = i ∧ pos n = j ∧ ∀ k, k < n → zAR σ ar k = some (st k) ∧ S (st k) (pos k) (pos (k + 1))
def StA (own : Nat → Nat) (σ : ZT) (T : Nat → Int32) : Nat → Nat → Nat → Nat → Prop
  | 0 => fun s i j => PlA own σ T s i ∧ j = i + 1
  | d + 1 => fun s i j => (PlA own σ T s i ∧ j = i + 1) ∨ (own s = 3 ∧ i + 2 ≤ j ∧ BkA own σ (StA own σ T d) s (i + 1) (j - 1) ∧ rw5 T (j - 1) 0 = nI 28 ∧ rw5 T (j - 1) 4 = nI i ∧ rw5 T i 4 = nI (j - 1) ∧ OpA σ T s i)
def ORD (own : Nat → Nat) (σ : ZT) (T : Nat → Int32) (o : Option Nat) : Prop := match o with
  | none => T 4 = mI
  | some l => ∃ n, T 4 = nI n ∧ n ≤ 60 ∧ zK σ l = 17 ∧ own l = 3 ∧ BkA own σ (StA own σ T 3) l 0 n
/-! one slot: a town with names, where all are, orders -/
def SLT (own : Nat → Nat) (σ : ZT) (t a1 a2 : Nat) (o : Option Nat) (T : Nat → Int32) (N : Nat → Int64) : Prop := ∃ B P O, TR σ t T B P O ∧ TRS own t T B P O ∧ TW T ∧ SV T (nowS T) ∧ Agr T (zAI σ a1, zAI σ a2) (nowS T) ∧ NMS σ t T B P O N ∧ ORD own σ T o
def tk (s : Nat) : Nat := if s = 0 then 23 else if s = 1 then 24 else if s = 2 then 21 else 22
def tv (s : Nat) (σ : ZT) (r k : Nat) : Int64 := if s < 3 then (zAI σ r k).toInt64 else zAL σ r k
def TRY (x m : Nat) (own : Nat → Nat) (σ : ZT) : Prop := ∀ i, i < 4 → (zR σ 100 (x + (2 + i)) = none ∧ zAI σ (m + 4) i = mI) ∨ ∃ r s n, zR σ 100 (x + (2 + i)) = some r ∧ own r = 10 + i ∧ s < 4 ∧ n ≤ 60 ∧ zK σ r = tk s ∧ zN σ r = n ∧ zAI σ (m + 4) i = nI n ∧ zAI σ (m + 3) i = nI s ∧ ∀ k, k < n → tv s σ r k = zAL σ (m + 5) (60 * i + k)
def TAP (x m : Nat) (σ : ZT) : Prop := ∃ n, n ≤ 900 ∧ zI σ 2 x = nI n ∧ zI σ 910 m = nI n ∧ ∀ k, k < 900 → zAI σ (x + 6) k = zAI σ (m + 6) k ∧ (zAI σ (m + 6) k).toInt8.toInt32 = zAI σ (m + 6) k
def LRN (x m : Nat) (σ : ZT) : Prop := (zI σ 24 x = nI 0 ∧ zI σ 952 m = mI) ∨ (zI σ 24 x = nI 1 ∧ ∃ p, p ≤ 4 ∧ zI σ 27 x = nI p ∧ zI σ 952 m = nI p ∧ (∀ k, k < 6 → zAI σ (x + 54) k = zAI σ (m + 20) k) ∧ ∀ k, k < p → zAI σ (x + 55) k = zAI σ (m + 21) k)
def MKS (x m : Nat) (own : Nat → Nat) (σ : ZT) (n k : Nat) : Prop := (zAR σ (x + 19) k = none ∧ n ≤ k) ∨ ∃ h sp a1 a2, zAR σ (x + 19) k = some h ∧ (own h = 20 + k ∧ own sp = 20 + k ∧ own a1 = 20 + k ∧ own a2 = 20 + k) ∧ (zK σ h = 5 ∧ zR σ 400 h = some sp ∧ zK σ sp = 6 ∧ zR σ 501 sp = some a1 ∧ zR σ 502 sp = some a2 ∧ (zK σ a1 = 21 ∧ zN σ a1 = 4) ∧ zK σ a2 = 21 ∧ zN σ a2 = 2) ∧ (k < n → ∃ t, zR σ 500 sp = some t ∧ tOK x t ∧ SLT own σ t a1 a2 (zR σ 401 h) (fun i => zAI σ (m + 1) (430 * (k + 1) + i)) (fun i => zAL σ (m + 2) (20 * (k + 1) + i)))
def MKA (x m : Nat) (own : Nat → Nat) (σ : ZT) : Prop := ∃ n, n ≤ 3 ∧ zI σ 12 x = nI n ∧ zI σ 953 m = nI n ∧ ∀ k, k < 3 → MKS x m own σ n k
def NOW (x m : Nat) (own : Nat → Nat) (σ : ZT) : Prop := ∃ t, zR σ 500 (x + 10) = some t ∧ tOK x t ∧ SLT own σ t (x + 17) (x + 18) (zR σ 401 (x + 9)) (zAI σ (m + 1)) (zAL σ (m + 2))
/-- the heap's order -/
def HPO (x : Nat) (own : Nat → Nat) (σ : ZT) : Prop := x + 78 ≤ zsz σ ∧ (∀ a, zsz σ ≤ a → zK σ a = 0) ∧ ∀ a, own a ≠ 0 → (x + 11 ≤ a ∧ a ≤ x + 16 ∧ own a = 2) ∨ (x + 78 ≤ a ∧ a < zsz σ)
def FLD (x m : Nat) (σ : ZT) : Prop := (zI σ 503 (x + 25) = mI ∧ zI σ 504 (x + 25) = mI ∧ zI σ 503 (x + 10) = mI ∧ zI σ 504 (x + 10) = mI ∧ zI σ 503 (x + 45) = mI ∧ zI σ 504 (x + 45) = mI) ∧ zI σ 926 m = mI ∧ zI σ 927 m = nI 0
def ANS (x m : Nat) (σ : ZT) : Prop := zI σ 7 x = zI σ 902 m ∧ zL σ 8 x = zL σ 903 m ∧ zL σ 9 x = zL σ 904 m ∧ zI σ 3 x = zI σ 916 m ∧ zI σ 4 x = zI σ 917 m
def RZ (x m : Nat) (own : Nat → Nat) (σ : ZT) : Prop := m = x + 56 ∧ HPO x own σ ∧ CInv x σ ∧ MInv m σ ∧ FLD x m σ ∧ ANS x m σ ∧ TAP x m σ ∧ TRY x m own σ ∧ NOW x m own σ ∧ MKA x m own σ ∧ LRN x m σ ∧ FWR x m σ
/-! what an act may change -/
def DF (x m : Nat) (A Fx Fm : Nat → Prop) (σ σ' : ZT) : Prop :=
  (zsz σ ≤ zsz σ' ∧ ∀ a, zsz σ' ≤ a → zK σ' a = 0) ∧
  (∀ a, a < zsz σ → zK σ' a = zK σ a ∧ zN σ' a = zN σ a) ∧
  (∀ f a, a < zsz σ → f ≠ 500 → f ≠ 401 → f ≠ 100 → ¬ A a → zR σ' f a = zR σ f a) ∧
  (∀ a, a < zsz σ → a ≠ x → a ≠ m → ¬ A a → (∀ f, zI σ' f a = zI σ f a) ∧ (∀ f, zL σ' f a = zL σ f a) ∧ zAI σ' a = zAI σ a ∧ zAL σ' a = zAL σ a ∧ zAR σ' a = zAR σ a) ∧
  (∀ f, ¬ Fx f → zI σ' f x = zI σ f x ∧ zL σ' f x = zL σ f x) ∧ ∀ f, ¬ Fm f → zI σ' f m = zI σ f m ∧ zL σ' f m = zL σ f m
section
variable {x m t a1 a2 : Nat} {σ σ' : ZT} {own : Nat → Nat} {T : Nat → Int32} {N : Nat → Int64} {B P O : Nat → Nat} {A Fx Fm : Nat → Prop} {o : Option Nat}
/-- what is agreed at an address -/
def Ag (σ σ' : ZT) (a : Nat) : Prop := zK σ' a = zK σ a ∧ zN σ' a = zN σ a ∧ (∀ f, f ≠ 500 → f ≠ 401 → f ≠ 100 → zR σ' f a = zR σ f a) ∧ (∀ f, zI σ' f a = zI σ f a) ∧ (∀ f, zL σ' f a = zL σ f a) ∧ zAI σ' a = zAI σ a ∧ zAL σ' a = zAL σ a ∧ zAR σ' a = zAR σ a
theorem DF.ag (h : DF x m A Fx Fm σ σ') {a : Nat} (ha : a < zsz σ) (h1 : a ≠ x) (h2 : a ≠ m) (h3 : ¬ A a) : Ag σ σ' a := by
  obtain ⟨-, g1, g2, g3, -⟩ := h
  obtain ⟨k1, k2, k3, k4, k5⟩ := g3 a ha h1 h2 h3
  exact ⟨(g1 a ha).1, (g1 a ha).2, fun f f1 f2 f3 => g2 f a ha f1 f2 f3 h3, k1, k2, k3, k4, k5⟩
theorem TR.ag (h : TR σ t T B P O) (hs : TRS own t T B P O) (g : ∀ a, own a = 2 → Ag σ σ' a) : TR σ' t T B P O := by
  obtain ⟨s1, s2, s3, s4⟩ := hs
  have e : ∀ j, j < 6 → Ag σ σ' (t + j) := fun j hj => g _ (s1 j hj)
  obtain ⟨h1, h2, h3, h4, ⟨h5, h6, h7, h8⟩, ⟨h9, h10, h11, h12⟩, h13, h14, h15, h16⟩ := h
  have e0 := e 0 (by decide)
  have e1 := e 1 (by decide)
  have e2 := e 2 (by decide)
  have e3 := e 3 (by decide)
  have e4 := e 4 (by decide)
  have e5 := e 5 (by decide)
  have e0 : Ag σ σ' t := e0
  unfold TR
  rw [e0.1, e0.2.2.1 604 (by decide) (by decide) (by decide), e0.2.2.1 605 (by decide) (by decide) (by decide), e0.2.2.1 606 (by decide) (by decide) (by decide), e0.2.2.1 607 (by decide) (by decide) (by decide), e0.2.2.1 608 (by decide) (by decide) (by decide), e1.1, e1.2.1, e2.1, e2.2.1, e2.2.2.2.2.2.1, e3.1, e3.2.1, e3.2.2.2.2.2.2.2, e4.1, e4.2.1, e4.2.2.2.2.2.2.2, e5.1, e5.2.1, e5.2.2.2.2.2.2.2]
  refine ⟨h1, fun k hk => by rw [e0.2.2.2.1]; exact h2 k hk, h3, h4, ⟨h5, h6, h7, fun b hb => ?_⟩, ⟨h9, h10, h11, fun b hb => ?_⟩, h13, h14, h15, fun b hb => ?_⟩
  · have eb := g _ (s2 b hb)
    obtain ⟨y1, y2, y3⟩ := h8 b hb
    exact ⟨y1, by rw [eb.1]; exact y2, fun i hi => by rw [eb.2.2.2.1]; exact y3 i hi⟩
  · have eb := g _ (s3 b hb)
    obtain ⟨y1, y2, y3⟩ := h12 b hb
    exact ⟨y1, by rw [eb.1]; exact y2, fun i hi => by rw [eb.2.2.2.1]; exact y3 i hi⟩
  · have eb := g _ (s4 b hb)
    obtain ⟨y1, y2, y3⟩ := h16 b hb
    exact ⟨y1, by rw [eb.1]; exact y2, fun i hi => by rw [eb.2.2.2.1]; exact y3 i hi⟩
theorem NMS.ag (h : NMS σ t T B P O N) (hs : TRS own t T B P O) (g : ∀ a, own a = 2 → Ag σ σ' a) : NMS σ' t T B P O N := by
  obtain ⟨s1, s2, s3, s4⟩ := hs
  obtain ⟨h1, h2, h3, h4⟩ := h
  refine ⟨fun k hk => ?_, fun k hk => ?_, fun k hk => ?_, fun k hk => ?_⟩
  · rw [(g _ (s1 1 (by decide))).2.2.2.2.2.2.1]; exact h1 k hk
  · rw [(g _ (s2 k hk)).2.2.2.2.1]; exact h2 k hk
  · rw [(g _ (s3 k hk)).2.2.2.2.1]; exact h3 k hk
  · rw [(g _ (s4 k hk)).2.2.2.2.1]; exact h4 k hk
theorem PlA.ag {s i : Nat} (h : PlA own σ T s i) (g : ∀ a, own a = 3 → Ag σ σ' a) : PlA own σ' T s i := by
  have e := g s h.1
  unfold PlA at h ⊢
  rw [e.1, e.2.2.2.1, e.2.2.2.1, e.2.2.2.1, e.2.2.2.1]
  exact h
theorem OpA.ag {s i : Nat} (h : OpA σ T s i) (e : Ag σ σ' s) : OpA σ' T s i := by
  unfold OpA at h ⊢
  rw [e.1, e.2.2.2.1, e.2.2.2.1, e.2.2.2.1, e.2.2.2.1]
  exact h
theorem BkA.ag {S S' : Nat → Nat → Nat → Prop} {s i j : Nat} (h : BkA own σ S s i j) (hs : own s = 3) (g : ∀ a, own a = 3 → Ag σ σ' a) (hS : ∀ s i j, S s i j → S' s i j) : BkA own σ' S' s i j := by
  obtain ⟨ar, n, st, pos, h1, h2, h3, h4, h5, h6, h7, h8, h9⟩ := h
  have e := g s hs
  have ea := g ar h2
  refine ⟨ar, n, st, pos, by rw [e.2.2.1 1500 (by decide) (by decide) (by decide)]; exact h1, h2, by rw [ea.1]; exact h3, by rw [ea.2.1]; exact h4, h5, by rw [e.2.2.2.1]; exact h6, h7, h8, fun k hk => ?_⟩
  rw [ea.2.2.2.2.2.2.2]
  exact ⟨(h9 k hk).1, hS _ _ _ (h9 k hk).2⟩
theorem StA.ag (g : ∀ a, own a = 3 → Ag σ σ' a) : ∀ (d s i j : Nat), StA own σ T d s i j → StA own σ' T d s i j := by
  intro d
  induction d with
  | zero => intro s i j h; exact ⟨h.1.ag g, h.2⟩
  | succ d ih =>
    intro s i j h
    rcases h with h | ⟨h1, h2, h3, h4, h5, h6, h7⟩
    · exact Or.inl ⟨h.1.ag g, h.2⟩
    · exact Or.inr ⟨h1, h2, h3.ag h1 g ih, h4, h5, h6, h7.ag (g s h1)⟩
theorem ORD.ag (h : ORD own σ T o) (g : ∀ a, own a = 3 → Ag σ σ' a) : ORD own σ' T o := by
  cases o with
  | none => exact h
  | some l =>
    obtain ⟨n, h1, h2, h3, h4, h5⟩ := h
    exact ⟨n, h1, h2, by rw [(g l h4).1]; exact h3, h4, h5.ag h4 g (StA.ag g 3)⟩
theorem SLT.ag (h : SLT own σ t a1 a2 o T N) (g : ∀ a, own a = 2 ∨ own a = 3 → Ag σ σ' a) (e1 : zAI σ' a1 = zAI σ a1) (e2 : zAI σ' a2 = zAI σ a2) : SLT own σ' t a1 a2 o T N := by
  obtain ⟨B, P, O, h1, h2, h3, h4, h5, h6, h7⟩ := h
  exact ⟨B, P, O, h1.ag h2 (fun a ha => g a (Or.inl ha)), h2, h3, h4, by rw [e1, e2]; exact h5, h6.ag h2 (fun a ha => g a (Or.inl ha)), h7.ag (fun a ha => g a (Or.inr ha))⟩
/-! the pieces under an act -/
theorem cOf_lt : ∀ k, k < 38 → cOf.getD k 0 ≤ 55 := by decide
theorem cRs_lt : ∀ k, k < 33 → cRs.getD k 0 ≤ 55 := by decide
theorem cRf_n : ∀ k, k < 33 → cRf.getD k 0 ≠ 500 ∧ cRf.getD k 0 ≠ 401 ∧ cRf.getD k 0 ≠ 100 := by decide
theorem mFl_n : ∀ k, k < 21 → mFl.getD k 0 ≠ 500 ∧ mFl.getD k 0 ≠ 401 ∧ mFl.getD k 0 ≠ 100 := by decide
theorem DF.cinv (h : DF x m A Fx Fm σ σ') (hz : x + 78 ≤ zsz σ) (hm : m = x + 56) (hA : ∀ k, k < 33 → ¬ A (x + cRs.getD k 0)) (hA1 : ¬ A (x + 1)) (g : CInv x σ) : CInv x σ' := by
  obtain ⟨-, h1, h2, h3, -⟩ := h
  obtain ⟨g1, g2, g3⟩ := g
  refine ⟨fun k hk => ?_, fun k hk => ?_, fun k hk => ?_⟩
  · have hl := cOf_lt k hk
    obtain ⟨e1, e2⟩ := h1 (x + cOf.getD k 0) (by omega)
    rw [e1, e2]
    exact g1 k hk
  · have hl := cRs_lt k hk
    obtain ⟨n1, n2, n3⟩ := cRf_n k hk
    rw [h2 _ _ (by omega) n1 n2 n3 (hA k hk)]
    exact g2 k hk
  · rw [(h3 (x + 1) (by omega) (by omega) (by omega) hA1).2.2.2.2]
    exact g3 k hk
theorem DF.minv (h : DF x m A Fx Fm σ σ') (hz : x + 78 ≤ zsz σ) (hm : m = x + 56) (hA : ¬ A m) (g : MInv m σ) : MInv m σ' := by
  obtain ⟨-, h1, h2, -⟩ := h
  obtain ⟨g1, g2⟩ := g
  refine ⟨by rw [(h1 m (by omega)).1]; exact g1, fun k hk => ?_⟩
  obtain ⟨n1, n2, n3⟩ := mFl_n k hk
  obtain ⟨e1, e2⟩ := h1 (m + (k + 1)) (by omega)
  rw [h2 _ _ (by omega) n1 n2 n3 hA, e1, e2]
  exact g2 k hk
theorem HPO.df (h : HPO x own σ) (g : DF x m A Fx Fm σ σ') : HPO x own σ' := by
  obtain ⟨h1, h2, h3⟩ := h
  have g1 := g.1.1
  refine ⟨by omega, g.1.2, fun a ha => ?_⟩
  rcases h3 a ha with h4 | h4
  · exact Or.inl h4
  · exact Or.inr ⟨h4.1, by omega⟩
theorem HPO.lt (h : HPO x own σ) {a : Nat} (ha : own a ≠ 0) : a < zsz σ ∧ x < a ∧ (a < x + 17 ∨ x + 78 ≤ a) := by
  rcases h.2.2 a ha with h4 | h4
  · have := h.1
    exact ⟨by omega, by omega, Or.inl (by omega)⟩
  · exact ⟨h4.2, by omega, Or.inr h4.1⟩
/-- nothing that is owned changes -/
theorem DF.owns (h : DF x m A Fx Fm σ σ') (hO : HPO x own σ) (hm : m = x + 56) (hA : ∀ a, own a ≠ 0 → ¬ A a) : ∀ a, own a ≠ 0 → Ag σ σ' a := by
  intro a ha
  have h1 := hO.lt ha
  exact h.ag h1.1 (by omega) (by omega) (hA a ha)
theorem TRY.ag (h : TRY x m own σ) (g : ∀ i, i < 4 → ∀ a, own a = 10 + i → Ag σ σ' a) (e1 : ∀ i, i < 4 → zR σ' 100 (x + (2 + i)) = zR σ 100 (x + (2 + i))) (e2 : zAI σ' (m + 3) = zAI σ (m + 3)) (e3 : zAI σ' (m + 4) = zAI σ (m + 4)) (e4 : zAL σ' (m + 5) = zAL σ (m + 5)) : TRY x m own σ' := by
  intro i hi
  rw [e1 i hi, e2, e3, e4]
  rcases h i hi with h1 | ⟨r, s, n, h1, h2, h3, h4, h5, h6, h7, h8, h9⟩
  · exact Or.inl h1
  · have e := g i hi r h2
    refine Or.inr ⟨r, s, n, h1, h2, h3, h4, by rw [e.1]; exact h5, by rw [e.2.1]; exact h6, h7, h8, fun k hk => ?_⟩
    unfold tv
    rw [e.2.2.2.2.2.1, e.2.2.2.2.2.2.1]
    exact h9 k hk
theorem MKS.ag {n k : Nat} (h : MKS x m own σ n k) (g : ∀ a, own a = 2 ∨ own a = 3 ∨ own a = 20 + k → Ag σ σ' a) (g5 : ∀ a, own a = 20 + k → zR σ' 500 a = zR σ 500 a ∧ zR σ' 401 a = zR σ 401 a) (e1 : zAR σ' (x + 19) = zAR σ (x + 19)) (e2 : zAI σ' (m + 1) = zAI σ (m + 1)) (e3 : zAL σ' (m + 2) = zAL σ (m + 2)) : MKS x m own σ' n k := by
  rcases h with h | ⟨h, sp, b1, b2, h1, ⟨o1, o2, o3, o4⟩, ⟨k1, k2, k3, k4, k5, ⟨k6, k7⟩, k8, k9⟩, h2⟩
  · exact Or.inl (by rw [e1]; exact h)
  · have eh := g h (Or.inr (Or.inr o1))
    have es := g sp (Or.inr (Or.inr o2))
    have ea := g b1 (Or.inr (Or.inr o3))
    have eb := g b2 (Or.inr (Or.inr o4))
    refine Or.inr ⟨h, sp, b1, b2, by rw [e1]; exact h1, ⟨o1, o2, o3, o4⟩, ⟨by rw [eh.1]; exact k1, by rw [eh.2.2.1 400 (by decide) (by decide) (by decide)]; exact k2, by rw [es.1]; exact k3, by rw [es.2.2.1 501 (by decide) (by decide) (by decide)]; exact k4, by rw [es.2.2.1 502 (by decide) (by decide) (by decide)]; exact k5, ⟨by rw [ea.1]; exact k6, by rw [ea.2.1]; exact k7⟩, by rw [eb.1]; exact k8, by rw [eb.2.1]; exact k9⟩, fun hk => ?_⟩
    obtain ⟨t, t1, t2, t3⟩ := h2 hk
    refine ⟨t, by rw [(g5 sp o2).1]; exact t1, t2, ?_⟩
    rw [(g5 h o1).2, e2, e3]
    exact t3.ag (fun a ha => g a (ha.elim Or.inl (fun hh => Or.inr (Or.inl hh)))) ea.2.2.2.2.2.1 eb.2.2.2.2.2.1
theorem MKA.ag (h : MKA x m own σ) (g : ∀ a, own a ≠ 0 → Ag σ σ' a) (g5 : ∀ a, own a ≠ 0 → zR σ' 500 a = zR σ 500 a ∧ zR σ' 401 a = zR σ 401 a) (e0 : zI σ' 12 x = zI σ 12 x) (e00 : zI σ' 953 m = zI σ 953 m) (e1 : zAR σ' (x + 19) = zAR σ (x + 19)) (e2 : zAI σ' (m + 1) = zAI σ (m + 1)) (e3 : zAL σ' (m + 2) = zAL σ (m + 2)) : MKA x m own σ' := by
  obtain ⟨n, h1, h2, h3, h4⟩ := h
  exact ⟨n, h1, by rw [e0]; exact h2, by rw [e00]; exact h3, fun k hk => (h4 k hk).ag (fun a ha => g a (by omega)) (fun a ha => g5 a (by omega)) e1 e2 e3⟩
theorem NOW.ag (h : NOW x m own σ) (g : ∀ a, own a ≠ 0 → Ag σ σ' a) (e1 : zR σ' 500 (x + 10) = zR σ 500 (x + 10)) (e2 : zR σ' 401 (x + 9) = zR σ 401 (x + 9)) (e3 : zAI σ' (x + 17) = zAI σ (x + 17)) (e4 : zAI σ' (x + 18) = zAI σ (x + 18)) (e5 : zAI σ' (m + 1) = zAI σ (m + 1)) (e6 : zAL σ' (m + 2) = zAL σ (m + 2)) : NOW x m own σ' := by
  obtain ⟨t, h1, h2, h3⟩ := h
  refine ⟨t, by rw [e1]; exact h1, h2, ?_⟩
  rw [e2, e5, e6]
  exact h3.ag (fun a ha => g a (by omega)) e3 e4
theorem LRN.ag (h : LRN x m σ) (e1 : zI σ' 24 x = zI σ 24 x) (e2 : zI σ' 952 m = zI σ 952 m) (e3 : zI σ' 27 x = zI σ 27 x) (e4 : zAI σ' (x + 54) = zAI σ (x + 54)) (e5 : zAI σ' (x + 55) = zAI σ (x + 55)) (e6 : zAI σ' (m + 20) = zAI σ (m + 20)) (e7 : zAI σ' (m + 21) = zAI σ (m + 21)) : LRN x m σ' := by
  unfold LRN
  rw [e1, e2, e3, e4, e5, e6, e7]
  exact h
theorem FWR.ag (h : FWR x m σ) (e1 : zI σ' 22 x = zI σ 22 x) (e2 : zI σ' 939 m = zI σ 939 m) (e3 : ∀ a, x + 38 ≤ a → a ≤ x + 43 → zAI σ' a = zAI σ a) (e4 : zAI σ' (m + 18) = zAI σ (m + 18)) : FWR x m σ' := by
  unfold FWR
  rw [e1, e2, e4, e3 (x + 38) (by omega) (by omega), e3 (x + 40) (by omega) (by omega), e3 (x + 41) (by omega) (by omega), e3 (x + 42) (by omega) (by omega), e3 (x + 43) (by omega) (by omega)]
  exact h
theorem TAP.ag (h : TAP x m σ) (e1 : zI σ' 2 x = zI σ 2 x) (e2 : zI σ' 910 m = zI σ 910 m) (e3 : zAI σ' (x + 6) = zAI σ (x + 6)) (e4 : zAI σ' (m + 6) = zAI σ (m + 6)) : TAP x m σ' := by
  unfold TAP
  rw [e1, e2, e3, e4]
  exact h
theorem RZ.sb (h : RZ x m own σ) : ∃ t B P O, SB x m σ t (zAI σ (m + 1)) B P O ∧ TRS own t (zAI σ (m + 1)) B P O ∧ NMS σ t (zAI σ (m + 1)) B P O (zAL σ (m + 2)) ∧ ORD own σ (zAI σ (m + 1)) (zR σ 401 (x + 9)) ∧ NB x σ := by
  obtain ⟨h1, h2, h3, h4, ⟨⟨f1, f2, f3, f4, f5, f6⟩, f7, f8⟩, h6, h7, h8, ⟨t, n1, n2, B, P, O, s1, s2, s3, s4, s5, s6, s7⟩, h10⟩ := h
  have n3 := n2
  unfold tOK at n3
  exact ⟨t, B, P, O, ⟨by omega, by omega, ⟨h3, n1, s1, n2⟩, h4, rfl, s3, s4, s5, f1, f2, f7, f8⟩, s2, s6, s7, f3, f4⟩
/-- a search keeps the relation -/
theorem SQ2.df (h : SQ2 x m σ σ') (hm : m = x + 56) (hf : ∀ a, zsz σ ≤ a → zK σ a = 0) : DF x m (fun a => (x + 20 ≤ a ∧ a ≤ x + 25) ∨ (x + 32 ≤ a ∧ a ≤ x + 43) ∨ (m + 9 ≤ a ∧ a ≤ m + 18)) (fun f => f = 7 ∨ f = 18 ∨ f = 22) (fun f => f = 902 ∨ f = 928 ∨ 933 ≤ f ∧ f ≤ 939) σ σ' := by
  obtain ⟨g1, g2, g3, g4, g5, ⟨g6, -, -⟩, g7, g8, g9⟩ := h
  refine ⟨⟨by omega, fun a ha => by rw [g1]; exact hf a (by omega)⟩, fun a ha => by rw [g1, g5]; exact ⟨rfl, rfl⟩, fun f a ha f1 f2 f3 hA => g7 f a (by omega), fun a ha a1 a2 hA => ⟨fun f => g8 f a (by omega) (by omega) (by omega) (by omega), fun f => by rw [g2], g9 a (by omega) (by omega) (by omega), by rw [g3], by rw [g4]⟩, fun f hf => ?_, fun f hf => ?_⟩
  · rw [g2]
    exact ⟨g8 f x (by omega) (by omega) (by omega) (by omega), rfl⟩
  · rw [g2]
    exact ⟨g8 f m (by omega) (by omega) (by omega) (by omega), rfl⟩
theorem RZ.sq2 (h : RZ x m own σ) (g : SQ2 x m σ σ') (hs : zI σ' 7 x = zI σ' 902 m) (hw : FWR x m σ') : RZ x m own σ' := by
  obtain ⟨h1, h2, h3, h4, ⟨⟨f1, f2, f3, f4, f5, f6⟩, f7, f8⟩, ⟨a1, a2, a3, a4, a5⟩, h7, h8, h9, h10, h11, h12⟩ := h
  have hd := g.df h1 h2.2.1
  have hO := hd.owns h2 h1 (fun a ha => by have := h2.lt ha; omega)
  have g' := g
  obtain ⟨g1, g2, g3, g4, g5, ⟨g6, -, -⟩, g7, g8, g9⟩ := g
  have gi : ∀ f a, a ≠ x + 25 → a ≠ m → ¬ ((f = 7 ∨ f = 18 ∨ f = 22) ∧ a = x) → ¬ (f = 704 ∧ (a = x + 20 ∨ a = x + 39)) → zI σ' f a = zI σ f a := fun f a q1 q2 q3 q4 => g8 f a q3 q4 (by omega) (by omega)
  refine ⟨h1, h2.df hd, g'.cinv h3, g'.minv h4, ⟨⟨?_, ?_, ?_, ?_, ?_, ?_⟩, ?_, ?_⟩, ⟨hs, by rw [g2]; exact a2, by rw [g2]; exact a3, ?_, ?_⟩, ?_, ?_, ?_, ?_, ?_, hw⟩
  · rw [g8 _ _ (by omega) (by omega) (by omega) (by omega)]; exact f1
  · rw [g8 _ _ (by omega) (by omega) (by omega) (by omega)]; exact f2
  · rw [g8 _ _ (by omega) (by omega) (by omega) (by omega)]; exact f3
  · rw [g8 _ _ (by omega) (by omega) (by omega) (by omega)]; exact f4
  · rw [g8 _ _ (by omega) (by omega) (by omega) (by omega)]; exact f5
  · rw [g8 _ _ (by omega) (by omega) (by omega) (by omega)]; exact f6
  · rw [g8 _ _ (by omega) (by omega) (by omega) (by omega)]; exact f7
  · rw [g8 _ _ (by omega) (by omega) (by omega) (by omega)]; exact f8
  · rw [g8 _ _ (by omega) (by omega) (by omega) (by omega), g8 _ _ (by omega) (by omega) (by omega) (by omega)]; exact a4
  · rw [g8 _ _ (by omega) (by omega) (by omega) (by omega), g8 _ _ (by omega) (by omega) (by omega) (by omega)]; exact a5
  · exact h7.ag (g8 _ _ (by omega) (by omega) (by omega) (by omega)) (g8 _ _ (by omega) (by omega) (by omega) (by omega)) (g9 _ (by omega) (by omega) (by omega)) (g9 _ (by omega) (by omega) (by omega))
  · exact h8.ag (fun i hi a ha => hO a (by omega)) (fun i hi => g7 _ _ (by omega)) (g9 _ (by omega) (by omega) (by omega)) (g9 _ (by omega) (by omega) (by omega)) (by rw [g3])
  · exact h9.ag hO (g7 _ _ (by omega)) (g7 _ _ (by omega)) (g9 _ (by omega) (by omega) (by omega)) (g9 _ (by omega) (by omega) (by omega)) (g9 _ (by omega) (by omega) (by omega)) (by rw [g3])
  · exact h10.ag hO (fun a ha => by
      have := h2.lt ha
      exact ⟨g7 _ _ (by omega), g7 _ _ (by omega)⟩) (g8 _ _ (by omega) (by omega) (by omega) (by omega)) (g8 _ _ (by omega) (by omega) (by omega) (by omega)) (by rw [g4]) (g9 _ (by omega) (by omega) (by omega)) (by rw [g3])
  · exact h11.ag (g8 _ _ (by omega) (by omega) (by omega) (by omega)) (g8 _ _ (by omega) (by omega) (by omega) (by omega)) (g8 _ _ (by omega) (by omega) (by omega) (by omega)) (g9 _ (by omega) (by omega) (by omega)) (g9 _ (by omega) (by omega) (by omega)) (g9 _ (by omega) (by omega) (by omega)) (g9 _ (by omega) (by omega) (by omega))
theorem RZ.sq (h : RZ x m own σ) (g : SQ x m σ σ') (hs : zI σ' 7 x = zI σ' 902 m) : RZ x m own σ' := h.sq2 g.two hs (h.2.2.2.2.2.2.2.2.2.2.2.sq (by have := h.1; omega) g)
/-- both answer alike, and the relation is kept, within some room -/
def PR {α : Type} (x m : Nat) (own : Nat → Nat) (σ : ZT) (c d : ZT → Option (α × ZT)) : Prop := ∃ r τ1 τ2 own', c σ = some (r, τ1) ∧ d τ1 = some (r, τ2) ∧ RZ x m own' τ2 ∧ zbc σ ≤ zbc τ2 + 200 ∧ zbs σ ≤ zbs τ2 + 4000
theorem Pr.rz {c d : ZT → Option (Int32 × ZT)} (h : RZ x m own σ) (g : Pr x m σ c d) : PR x m own σ c d := by
  obtain ⟨r, τ1, τ2, g1, g2, g3, g4⟩ := g
  exact ⟨r, τ1, τ2, own, g1, g2, h.sq g3 g4, by rw [g3.2.2.2.2.2.1.2.1]; omega, by rw [g3.2.2.2.2.2.1.2.2]; omega⟩
end
