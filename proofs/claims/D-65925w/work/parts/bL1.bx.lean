/-! Layer B: the flat model while it is built: values, equations, actions, whens, joined faces -/
set_option maxRecDepth 100000
abbrev bxS : List Nat := [74, 75, 104, 130, 141, 142, 143, 145, 146, 147, 148, 149, 150, 151, 152, 155, 158, 159, 160, 161, 171]
abbrev bxO : List Nat := [33, 35, 37, 39]
/-- a variable's start, if it has one -/
def Vs1 (D : FQ) (M : CM) (σ : TS) (V K N v : Nat) : Prop := (mR M 3211 ((pl D 98).getD v 0) = 0 ∧ tA σ 159 v = 0) ∨ ∃ n, tA σ 159 v = nI n ∧ NdR 1 D M σ 106 V 100 0 K N (mR M 3211 ((pl D 98).getD v 0)) n
/-- a variable's value, when parameters are worked out (zb not 0) or before -/
def Flz (zb : Nat) (D : FQ) (M : CM) (σ : TS) (v : Nat) : Prop := mI M 3213 ((pl D 98).getD v 0) = tA σ 104 v ∧ (zb = 0 → tA σ 160 v = 0) ∧ (zb ≠ 0 → Fl1 D M σ v)
def EqX1 (D : FQ) (M : CM) (σ : TS) (V K N k : Nat) : Prop := (∃ n, tA σ 141 k = nI n ∧ NdR 0 D M σ 106 V 100 0 K N (mR M 3600 ((pl D 111).getD k 0)) n) ∧ ∃ n, tA σ 142 k = nI n ∧ NdR 0 D M σ 106 V 100 0 K N (mR M 3601 ((pl D 111).getD k 0)) n
/-- an action's variable, with its kind -/
def AcV (σ : TS) (V : Nat) (m x y : Int32) : Prop := ∃ v, v < V ∧ m = nI v ∧ y = nI v ∧ (x = 6 → tA σ 94 v = 2) ∧ (x = 7 → tA σ 94 v = 0)
theorem AcV.mv {σ σ' : TS} {V : Nat} {m x y : Int32} (h : AcV σ V m x y) (e : ∀ v, tA σ' 94 v = tA σ 94 v) : AcV σ' V m x y := by
  obtain ⟨v, h1, h2, h3, h4, h5⟩ := h
  exact ⟨v, h1, h2, h3, fun z => (e v).trans (h4 z), fun z => (e v).trans (h5 z)⟩
def AcX1 (D : FQ) (M : CM) (σ : TS) (V K N k : Nat) : Prop := AcV σ V (mI M 4001 ((pl D 112).getD k 0)) (tA σ 149 k) (tA σ 150 k) ∧ ((mI M 4000 ((pl D 112).getD k 0) = 0 ∧ tA σ 149 k = 6) ∨ (mI M 4000 ((pl D 112).getD k 0) = 1 ∧ tA σ 149 k = 7)) ∧ ∃ n, tA σ 151 k = nI n ∧ NdR 0 D M σ 106 V 100 0 K N (mR M 4002 ((pl D 112).getD k 0)) n
def WhX1 (D : FQ) (M : CM) (σ : TS) (V K N A k : Nat) : Prop := (∃ n, tA σ 145 k = nI n ∧ NdR 0 D M σ 106 V 100 1 K N (mR M 3800 ((pl D 113).getD k 0)) n) ∧ ∃ f m, mI M 3802 ((pl D 113).getD k 0) = nI f ∧ tA σ 146 k = nI f ∧ mI M 3803 ((pl D 113).getD k 0) = nI (f + m) ∧ tA σ 147 k = nI m ∧ f + m ≤ A
/-- whose equations a face stands in -/
def cxF (σ : TS) (f : Nat) : Int32 := if f % 2 = 0 then tA σ 75 (f / 2) else tA σ 75 (ix (tA σ 75 (f / 2)))
/-- two faces that may be joined: instances of one class, in one instance's equations -/
def SmF (σ : TS) (p f : Nat) : Prop := tA σ 74 (p / 2) = tA σ 74 (f / 2) ∧ cxF σ p = cxF σ f
def JnX (M : CM) (σ : TS) : Prop := ∀ f, f < 400 → ∃ p, mA M 115 f = nI p ∧ tA σ 155 f = nI p ∧ p ≤ f ∧ SmF σ p f
theorem SmF.mv {σ σ' : TS} {p f : Nat} (h : SmF σ p f) (h4 : ∀ j, tA σ' 74 j = tA σ 74 j) (h5 : ∀ j, tA σ' 75 j = tA σ 75 j) : SmF σ' p f := by
  unfold SmF cxF at h ⊢
  simp only [h4, h5]
  exact h
theorem SmF.tr {σ : TS} {p q f : Nat} (h : SmF σ p q) (g : SmF σ q f) : SmF σ p f := ⟨h.1.trans g.1, h.2.trans g.2⟩
theorem SmF.sy {σ : TS} {p f : Nat} (h : SmF σ p f) : SmF σ f p := ⟨h.1.symm, h.2.symm⟩
theorem JnX.mv {M M' : CM} {σ σ' : TS} (h : JnX M σ) (ha : ∀ j, mA M' 115 j = mA M 115 j) (hb : ∀ j, tA σ' 155 j = tA σ 155 j) (h4 : ∀ j, tA σ' 74 j = tA σ 74 j) (h5 : ∀ j, tA σ' 75 j = tA σ 75 j) : JnX M' σ' := fun f hf => by
  obtain ⟨p, p1, p2, p3, p4⟩ := h f hf
  exact ⟨p, (ha f).trans p1, (hb f).trans p2, p3, p4.mv h4 h5⟩
/-- steps of for -/
def Ct32 (D : FQ) (K : Nat) (M : CM) (σ : TS) : Prop := (∃ c, mI M 32 1 = nI c ∧ tI σ 133 = nI c ∧ c ≤ 4000) ∧ mI M 43 1 = tI σ 156 ∧ ∃ q, (mI M 41 1 = nI q ∧ tI σ 154 = nI q ∧ q ≤ 24) ∧ ∀ j, j < q → ∃ k, k < K ∧ mX M 114 j = (pl D 106).getD k 0 ∧ tA σ 153 j = nI (k + 1)
theorem Ct32.mv {D D' : FQ} {K K' : Nat} {M M' : CM} {σ σ' : TS} {S : List Nat} (h : Ct32 D K M σ) (i1 : mI M' 32 1 = mI M 32 1 ∧ mI M' 41 1 = mI M 41 1 ∧ mI M' 43 1 = mI M 43 1) (hX : ∀ j, mX M' 114 j = mX M 114 j) (hp : ∀ k, k < K → (pl D' 106).getD k 0 = (pl D 106).getD k 0) (hK : K ≤ K') (f : Ft S σ σ') (hS : [133, 153, 154, 156].all (fun k => !S.contains k) = true) : Ct32 D' K' M' σ' := by
  have hf : ∀ k, k ∈ [133, 153, 154, 156] → S.contains k = false := fun k hk => by simpa using List.all_eq_true.mp hS k hk
  obtain ⟨⟨c, c1, c2, c3⟩, c4, q, ⟨q1, q2, q3⟩, q4⟩ := h
  refine ⟨⟨c, i1.1.trans c1, ((f 133 (hf 133 (by decide))).1).trans c2, c3⟩, i1.2.2.trans (c4.trans (f 156 (hf 156 (by decide))).1.symm), q, ⟨i1.2.1.trans q1, ((f 154 (hf 154 (by decide))).1).trans q2, q3⟩, fun j hj => ?_⟩
  obtain ⟨k, k1, k2, k3⟩ := q4 j hj
  exact ⟨k, by omega, by rw [hX, hp k k1]; exact k2, by rw [(f 153 (hf 153 (by decide))).2.2.1]; exact k3⟩
/-- what hangs on the node that place k of a field names -/
def RtS (σ : TS) (N f k z : Nat) : Prop := ∃ m, tA σ f k = nI m ∧ SzR σ N 100 m z ∧ m < 100000
def sumZ (z : Nat → Nat) : Nat → Nat
  | 0 => 0
  | n + 1 => sumZ z n + z n
/-- the four rows of trees -/
def arr4 (p q c : Nat) : Nat := if c = 0 then p else if c = 1 then q else if c = 2 then 151 else 145
def Slt (E A Wn c k : Nat) : Prop := (c = 0 ∧ k < E) ∨ (c = 1 ∧ k < E) ∨ (c = 2 ∧ k < A) ∨ (c = 3 ∧ k < Wn)
/-- they lie below L, no two have anything in common -/
def DjS (p q : Nat) (σ : TS) (N L E A Wn : Nat) : Prop := (∀ c k, Slt E A Wn c k → ∀ m x, tA σ (arr4 p q c) k = nI m → OcT σ N 100 m x → x < L) ∧ ∀ c k c' k', Slt E A Wn c k → Slt E A Wn c' k' → ¬ (c = c' ∧ k = k') → ∀ m m' x, tA σ (arr4 p q c) k = nI m → tA σ (arr4 p q c') k' = nI m' → OcT σ N 100 m x → OcT σ N 100 m' x → False
/-- on equations, actions and whens hang less than L nodes in all, each on one -/
def Sm (p q : Nat) (σ : TS) (N L E A Wn : Nat) : Prop := ∃ ze zf za zw : Nat → Nat, (∀ k, k < E → RtS σ N p k (ze k) ∧ RtS σ N q k (zf k)) ∧ (∀ k, k < A → RtS σ N 151 k (za k)) ∧ (∀ k, k < Wn → RtS σ N 145 k (zw k)) ∧ sumZ ze E + sumZ zf E + sumZ za A + sumZ zw Wn < L ∧ DjS p q σ N L E A Wn
section SUMS
variable {σ σ' : TS} {p q p' q' c m x N N' L L' E A Wn f k z z1 z2 n n1 n2 K l : Nat} {S : List Nat} {ze zf za zw : Nat → Nat} {D D' : FQ} {M M' : CM}
theorem NdKn.n4 (g : NdKn D M σ D' M' σ' l K N) : Nd4 σ σ' N := fun f hf n hn => g.2.1 f (by simp only [List.mem_cons, List.not_mem_nil, or_false] at hf ⊢; omega) n hn
theorem RtS.mv {f' : Nat} (h : RtS σ N f k z) (g : Nd4 σ σ' N) (hN : N ≤ N') (t : tA σ' f' k = tA σ f k) : RtS σ' N' f' k z := by
  obtain ⟨m, h1, h2, h3⟩ := h
  exact ⟨m, t.trans h1, SzR.mv g hN _ _ _ _ _ (Nat.le_refl _) (Nat.le_refl _) h2, h3⟩
/-- the tree of a place -/
theorem RtS.oc (h : RtS σ N f k z) (g : Nd4 σ σ' N) (e : tA σ f k = nI m) (o : OcT σ' N' 100 m x) : OcT σ N 100 m x := by
  obtain ⟨m', h1, h2, h3⟩ := h
  have : m' = m := nIq (h1.symm.trans e) h3 o.lt.2
  subst this
  exact OcT.bk g _ _ _ _ _ h2 o
theorem Sm.rt (h1 : ∀ k, k < E → RtS σ N p k (ze k) ∧ RtS σ N q k (zf k)) (h2 : ∀ k, k < A → RtS σ N 151 k (za k)) (h3 : ∀ k, k < Wn → RtS σ N 145 k (zw k)) (s : Slt E A Wn c k) : ∃ z, RtS σ N (arr4 p q c) k z := by
  rcases s with ⟨rfl, s⟩ | ⟨rfl, s⟩ | ⟨rfl, s⟩ | ⟨rfl, s⟩
  · exact ⟨_, (h1 k s).1⟩
  · exact ⟨_, (h1 k s).2⟩
  · exact ⟨_, h2 k s⟩
  · exact ⟨_, h3 k s⟩
theorem Sm.mv (h : Sm p q σ N L E A Wn) (g : Nd4 σ σ' N) (hN : N ≤ N') (hL : L ≤ L') (te : ∀ k, k < E → tA σ' p' k = tA σ p k ∧ tA σ' q' k = tA σ q k) (ta : ∀ k, k < A → tA σ' 151 k = tA σ 151 k) (tw : ∀ k, k < Wn → tA σ' 145 k = tA σ 145 k) : Sm p' q' σ' N' L' E A Wn := by
  obtain ⟨ze, zf, za, zw, h1, h2, h3, h4, h5, h6⟩ := h
  have t : ∀ c k, Slt E A Wn c k → tA σ' (arr4 p' q' c) k = tA σ (arr4 p q c) k := fun c k s => by
    rcases s with ⟨rfl, s⟩ | ⟨rfl, s⟩ | ⟨rfl, s⟩ | ⟨rfl, s⟩
    · exact (te k s).1
    · exact (te k s).2
    · exact ta k s
    · exact tw k s
  refine ⟨ze, zf, za, zw, fun k hk => ⟨(h1 k hk).1.mv g hN (te k hk).1, (h1 k hk).2.mv g hN (te k hk).2⟩, fun k hk => (h2 k hk).mv g hN (ta k hk), fun k hk => (h3 k hk).mv g hN (tw k hk), by omega, fun c k s m x e o => ?_, fun c k c' k' s s' hne m m' x e e' o o' => ?_⟩
  · rw [t c k s] at e
    obtain ⟨z, rt⟩ := Sm.rt h1 h2 h3 s
    exact Nat.lt_of_lt_of_le (h5 c k s m x e (rt.oc g e o)) hL
  · rw [t c k s] at e
    rw [t c' k' s'] at e'
    obtain ⟨z, rt⟩ := Sm.rt h1 h2 h3 s
    obtain ⟨z', rt'⟩ := Sm.rt h1 h2 h3 s'
    exact h6 c k c' k' s s' hne m m' x e e' (rt.oc g e o) (rt'.oc g e' o')
theorem Sm.ft (h : Sm 141 142 σ N L E A Wn) (g : Nd4 σ σ' N) (hN : N ≤ N') (hL : L ≤ L') (f : Ft S σ σ') (hS : [141, 142, 145, 151].all (fun k => !S.contains k) = true) : Sm 141 142 σ' N' L' E A Wn := by
  have hf : ∀ k, k ∈ [141, 142, 145, 151] → S.contains k = false := fun k hk => by simpa using List.all_eq_true.mp hS k hk
  exact h.mv g hN hL (fun k _ => ⟨(f 141 (hf 141 (by decide))).2.2.1 k, (f 142 (hf 142 (by decide))).2.2.1 k⟩) (fun k _ => (f 151 (hf 151 (by decide))).2.2.1 k) (fun k _ => (f 145 (hf 145 (by decide))).2.2.1 k)
def updZ (z : Nat → Nat) (n v : Nat) : Nat → Nat := fun k => if k = n then v else z k
theorem updZ_ne (z : Nat → Nat) {n v k : Nat} (h : k < n) : updZ z n v k = z k := ifF (by omega)
theorem updZ_eq (z : Nat → Nat) (n v : Nat) : updZ z n v n = v := ifT rfl
theorem sumZ_upd (z : Nat → Nat) (n v : Nat) : ∀ m, m ≤ n → sumZ (updZ z n v) m = sumZ z m
  | 0, _ => rfl
  | m + 1, h => by
    show sumZ (updZ z n v) m + updZ z n v m = sumZ z m + z m
    rw [sumZ_upd z n v m (by omega), updZ_ne z (by omega)]
theorem sumZ_up1 (z : Nat → Nat) (n v : Nat) : sumZ (updZ z n v) (n + 1) = sumZ z n + v := by
  show sumZ (updZ z n v) n + updZ z n v n = _
  rw [sumZ_upd z n v n (Nat.le_refl _), updZ_eq]
/-- places that are new: trees behind L -/
theorem DjS.add (h : DjS p q σ N L E A Wn) (hL : L ≤ L') {E' A' Wn' : Nat} (old : ∀ c k, Slt E' A' Wn' c k → Slt E A Wn c k ∨ (∀ m x, tA σ' (arr4 p q c) k = nI m → OcT σ' N 100 m x → L ≤ x ∧ x < L')) (bk : ∀ c k, Slt E A Wn c k → ∀ m x, tA σ' (arr4 p q c) k = nI m → OcT σ' N 100 m x → tA σ (arr4 p q c) k = nI m ∧ OcT σ N 100 m x) (new : ∀ c k c' k', Slt E' A' Wn' c k → Slt E' A' Wn' c' k' → ¬ (c = c' ∧ k = k') → ¬ Slt E A Wn c k → ¬ Slt E A Wn c' k' → ∀ m m' x, tA σ' (arr4 p q c) k = nI m → tA σ' (arr4 p q c') k' = nI m' → OcT σ' N 100 m x → OcT σ' N 100 m' x → False) : DjS p q σ' N L' E' A' Wn' := by
  obtain ⟨h5, h6⟩ := h
  refine ⟨fun c k s m x e o => ?_, fun c k c' k' s s' hne m m' x e e' o o' => ?_⟩
  · rcases old c k s with y | y
    · obtain ⟨b1, b2⟩ := bk c k y m x e o
      exact Nat.lt_of_lt_of_le (h5 c k y m x b1 b2) hL
    · exact (y m x e o).2
  · by_cases y : Slt E A Wn c k
    · obtain ⟨b1, b2⟩ := bk c k y m x e o
      by_cases y' : Slt E A Wn c' k'
      · obtain ⟨d1, d2⟩ := bk c' k' y' m' x e' o'
        exact h6 c k c' k' y y' hne m m' x b1 d1 b2 d2
      · have := ((old c' k' s').resolve_left y' m' x e' o').1
        have := h5 c k y m x b1 b2
        omega
    · by_cases y' : Slt E A Wn c' k'
      · obtain ⟨d1, d2⟩ := bk c' k' y' m' x e' o'
        have := ((old c k s).resolve_left y m x e o).1
        have := h5 c' k' y' m' x d1 d2
        omega
      · exact new c k c' k' s s' hne y y' m m' x e e' o o'
/-- one new tree -/
theorem oc_new (g : Nd4 σ σ' N) (s1 : SzR σ N 100 n1 z1) (hn : n1 < 100000) (hL : L + z1 ≤ n1 + 1 ∧ n1 < L') (e : nI n1 = nI m) (o : OcT σ' N 100 m x) : (L ≤ x ∧ x < L') ∧ x ≤ n1 ∧ n1 < x + z1 := by
  have : n1 = m := nIq e hn o.lt.2
  subst this
  have := OcT.iv _ _ _ _ _ s1 (OcT.bk g _ _ _ _ _ s1 o)
  omega
theorem Sm.addE (h : Sm p q σ N L E A Wn) (g : Nd4 σ σ' N) (te : ∀ k, k < E → tA σ' p k = tA σ p k ∧ tA σ' q k = tA σ q k) (ta : ∀ k, k < A → tA σ' 151 k = tA σ 151 k) (tw : ∀ k, k < Wn → tA σ' 145 k = tA σ 145 k) (e1 : tA σ' p E = nI n1) (e2 : tA σ' q E = nI n2) (s1 : SzR σ N 100 n1 z1) (s2 : SzR σ N 100 n2 z2) (hL : L + z1 ≤ n1 + 1 ∧ n1 + z2 ≤ n2) (hn : n2 < L' ∧ n2 < 100000) : Sm p q σ' N L' (E + 1) A Wn := by
  obtain ⟨ze, zf, za, zw, h1, h2, h3, h4, h5⟩ := h
  have l1 := s1.lt
  have l2 := s2.lt
  refine ⟨updZ ze E z1, updZ zf E z2, za, zw, fun k hk => ?_, fun k hk => (h2 k hk).mv g (Nat.le_refl _) (ta k hk), fun k hk => (h3 k hk).mv g (Nat.le_refl _) (tw k hk), by rw [sumZ_up1, sumZ_up1]; omega, h5.add (by omega) (fun c k s => ?_) (fun c k s m x e o => ?_) (fun c k c' k' s s' hne y y' m m' x e e' o o' => ?_)⟩
  · by_cases e : k = E
    · rw [e, updZ_eq, updZ_eq]
      exact ⟨⟨n1, e1, SzR.mv g (Nat.le_refl _) _ _ _ _ _ (Nat.le_refl _) (Nat.le_refl _) s1, by omega⟩, n2, e2, SzR.mv g (Nat.le_refl _) _ _ _ _ _ (Nat.le_refl _) (Nat.le_refl _) s2, hn.2⟩
    · have hk : k < E := by omega
      rw [updZ_ne _ hk, updZ_ne _ hk]
      exact ⟨(h1 k hk).1.mv g (Nat.le_refl _) (te k hk).1, (h1 k hk).2.mv g (Nat.le_refl _) (te k hk).2⟩
  · rcases s with ⟨rfl, s⟩ | ⟨rfl, s⟩ | s | s
    · by_cases z : k = E
      · subst z
        exact Or.inr (fun m x e o => (oc_new (L := L) (L' := L') g s1 (by omega) (by omega) (e1.symm.trans e) o).1)
      · exact Or.inl (Or.inl ⟨rfl, by omega⟩)
    · by_cases z : k = E
      · subst z
        exact Or.inr (fun m x e o => (oc_new (L := L) (L' := L') g s2 hn.2 (by omega) (e2.symm.trans e) o).1)
      · exact Or.inl (Or.inr (Or.inl ⟨rfl, by omega⟩))
    · exact Or.inl (Or.inr (Or.inr (Or.inl s)))
    · exact Or.inl (Or.inr (Or.inr (Or.inr s)))
  · obtain ⟨z, rt⟩ := Sm.rt h1 h2 h3 s
    have t : tA σ' (arr4 p q c) k = tA σ (arr4 p q c) k := by
      rcases s with ⟨rfl, s⟩ | ⟨rfl, s⟩ | ⟨rfl, s⟩ | ⟨rfl, s⟩
      · exact (te k s).1
      · exact (te k s).2
      · exact ta k s
      · exact tw k s
    rw [t] at e
    exact ⟨e, rt.oc g e o⟩
  · have hh : ∀ c k, Slt (E + 1) A Wn c k → ¬ Slt E A Wn c k → (c = 0 ∧ k = E) ∨ (c = 1 ∧ k = E) := fun c k s y => by
      rcases s with ⟨rfl, s⟩ | ⟨rfl, s⟩ | s | s
      · by_cases z : k = E
        · exact Or.inl ⟨rfl, z⟩
        · exact absurd (Or.inl ⟨rfl, by omega⟩) y
      · by_cases z : k = E
        · exact Or.inr ⟨rfl, z⟩
        · exact absurd (Or.inr (Or.inl ⟨rfl, by omega⟩)) y
      · exact absurd (Or.inr (Or.inr (Or.inl s))) y
      · exact absurd (Or.inr (Or.inr (Or.inr s))) y
    rcases hh c k s y with ⟨rfl, rfl⟩ | ⟨rfl, rfl⟩ <;> rcases hh c' k' s' y' with ⟨rfl, rfl⟩ | ⟨rfl, rfl⟩
    · exact hne ⟨rfl, rfl⟩
    · have a := (oc_new (L := L) (L' := L') g s1 (by omega) (by omega) (e1.symm.trans e) o).2
      have b := (oc_new (L := L) (L' := L') g s2 hn.2 (by omega) (e2.symm.trans e') o').2
      omega
    · have a := (oc_new (L := L) (L' := L') g s2 hn.2 (by omega) (e2.symm.trans e) o).2
      have b := (oc_new (L := L) (L' := L') g s1 (by omega) (by omega) (e1.symm.trans e') o').2
      omega
    · exact hne ⟨rfl, rfl⟩
theorem Sm.addA (h : Sm p q σ N L E A Wn) (g : Nd4 σ σ' N) (te : ∀ k, k < E → tA σ' p k = tA σ p k ∧ tA σ' q k = tA σ q k) (ta : ∀ k, k < A → tA σ' 151 k = tA σ 151 k) (tw : ∀ k, k < Wn → tA σ' 145 k = tA σ 145 k) (e1 : tA σ' 151 A = nI n1) (s1 : SzR σ N 100 n1 z1) (hL : L + z1 ≤ n1 + 1) (hn : n1 < L' ∧ n1 < 100000) : Sm p q σ' N L' E (A + 1) Wn := by
  obtain ⟨ze, zf, za, zw, h1, h2, h3, h4, h5⟩ := h
  have l1 := s1.lt
  refine ⟨ze, zf, updZ za A z1, zw, fun k hk => ⟨(h1 k hk).1.mv g (Nat.le_refl _) (te k hk).1, (h1 k hk).2.mv g (Nat.le_refl _) (te k hk).2⟩, fun k hk => ?_, fun k hk => (h3 k hk).mv g (Nat.le_refl _) (tw k hk), by rw [sumZ_up1]; omega, h5.add (by omega) (fun c k s => ?_) (fun c k s m x e o => ?_) (fun c k c' k' s s' hne y y' m m' x e e' o o' => ?_)⟩
  · by_cases e : k = A
    · rw [e, updZ_eq]
      exact ⟨n1, e1, SzR.mv g (Nat.le_refl _) _ _ _ _ _ (Nat.le_refl _) (Nat.le_refl _) s1, hn.2⟩
    · have hk : k < A := by omega
      rw [updZ_ne _ hk]
      exact (h2 k hk).mv g (Nat.le_refl _) (ta k hk)
  · rcases s with s | s | ⟨rfl, s⟩ | s
    · exact Or.inl (Or.inl s)
    · exact Or.inl (Or.inr (Or.inl s))
    · by_cases z : k = A
      · subst z
        exact Or.inr (fun m x e o => (oc_new (L := L) (L' := L') g s1 hn.2 (by omega) (e1.symm.trans e) o).1)
      · exact Or.inl (Or.inr (Or.inr (Or.inl ⟨rfl, by omega⟩)))
    · exact Or.inl (Or.inr (Or.inr (Or.inr s)))
  · obtain ⟨z, rt⟩ := Sm.rt h1 h2 h3 s
    have t : tA σ' (arr4 p q c) k = tA σ (arr4 p q c) k := by
      rcases s with ⟨rfl, s⟩ | ⟨rfl, s⟩ | ⟨rfl, s⟩ | ⟨rfl, s⟩
      · exact (te k s).1
      · exact (te k s).2
      · exact ta k s
      · exact tw k s
    rw [t] at e
    exact ⟨e, rt.oc g e o⟩
  · have hh : ∀ c k, Slt E (A + 1) Wn c k → ¬ Slt E A Wn c k → c = 2 ∧ k = A := fun c k s y => by
      rcases s with s | s | ⟨rfl, s⟩ | s
      · exact absurd (Or.inl s) y
      · exact absurd (Or.inr (Or.inl s)) y
      · by_cases z : k = A
        · exact ⟨rfl, z⟩
        · exact absurd (Or.inr (Or.inr (Or.inl ⟨rfl, by omega⟩))) y
      · exact absurd (Or.inr (Or.inr (Or.inr s))) y
    obtain ⟨u1, u2⟩ := hh c k s y
    obtain ⟨v1, v2⟩ := hh c' k' s' y'
    exact hne ⟨u1.trans v1.symm, u2.trans v2.symm⟩
theorem Sm.addW (h : Sm p q σ N L E A Wn) (g : Nd4 σ σ' N) (te : ∀ k, k < E → tA σ' p k = tA σ p k ∧ tA σ' q k = tA σ q k) (ta : ∀ k, k < A → tA σ' 151 k = tA σ 151 k) (tw : ∀ k, k < Wn → tA σ' 145 k = tA σ 145 k) (e1 : tA σ' 145 Wn = nI n1) (s1 : SzR σ N 100 n1 z1) (hL : L + z1 ≤ n1 + 1) (hn : n1 < L' ∧ n1 < 100000) : Sm p q σ' N L' E A (Wn + 1) := by
  obtain ⟨ze, zf, za, zw, h1, h2, h3, h4, h5⟩ := h
  have l1 := s1.lt
  refine ⟨ze, zf, za, updZ zw Wn z1, fun k hk => ⟨(h1 k hk).1.mv g (Nat.le_refl _) (te k hk).1, (h1 k hk).2.mv g (Nat.le_refl _) (te k hk).2⟩, fun k hk => (h2 k hk).mv g (Nat.le_refl _) (ta k hk), fun k hk => ?_, by rw [sumZ_up1]; omega, h5.add (by omega) (fun c k s => ?_) (fun c k s m x e o => ?_) (fun c k c' k' s s' hne y y' m m' x e e' o o' => ?_)⟩
  · by_cases e : k = Wn
    · rw [e, updZ_eq]
      exact ⟨n1, e1, SzR.mv g (Nat.le_refl _) _ _ _ _ _ (Nat.le_refl _) (Nat.le_refl _) s1, hn.2⟩
    · have hk : k < Wn := by omega
      rw [updZ_ne _ hk]
      exact (h3 k hk).mv g (Nat.le_refl _) (tw k hk)
  · rcases s with s | s | s | ⟨rfl, s⟩
    · exact Or.inl (Or.inl s)
    · exact Or.inl (Or.inr (Or.inl s))
    · exact Or.inl (Or.inr (Or.inr (Or.inl s)))
    · by_cases z : k = Wn
      · subst z
        exact Or.inr (fun m x e o => (oc_new (L := L) (L' := L') g s1 hn.2 (by omega) (e1.symm.trans e) o).1)
      · exact Or.inl (Or.inr (Or.inr (Or.inr ⟨rfl, by omega⟩)))
  · obtain ⟨z, rt⟩ := Sm.rt h1 h2 h3 s
    have t : tA σ' (arr4 p q c) k = tA σ (arr4 p q c) k := by
      rcases s with ⟨rfl, s⟩ | ⟨rfl, s⟩ | ⟨rfl, s⟩ | ⟨rfl, s⟩
      · exact (te k s).1
      · exact (te k s).2
      · exact ta k s
      · exact tw k s
    rw [t] at e
    exact ⟨e, rt.oc g e o⟩
  · have hh : ∀ c k, Slt E A (Wn + 1) c k → ¬ Slt E A Wn c k → c = 3 ∧ k = Wn := fun c k s y => by
      rcases s with s | s | s | ⟨rfl, s⟩
      · exact absurd (Or.inl s) y
      · exact absurd (Or.inr (Or.inl s)) y
      · exact absurd (Or.inr (Or.inr (Or.inl s))) y
      · by_cases z : k = Wn
        · exact ⟨rfl, z⟩
        · exact absurd (Or.inr (Or.inr (Or.inr ⟨rfl, by omega⟩))) y
    obtain ⟨u1, u2⟩ := hh c k s y
    obtain ⟨v1, v2⟩ := hh c' k' s' y'
    exact hne ⟨u1.trans v1.symm, u2.trans v2.symm⟩
end SUMS
/-- E equations, A actions, Wn whens (zb: parameters are worked out; 2: a when is being made) -/
def BX (zb : Nat) (D : FQ) (M : CM) (σ : TS) (V K N E A Wn : Nat) : Prop := (∀ v, v < V → Vx1 D M σ V K N v ∧ Vs1 D M σ V K N v ∧ Flz zb D M σ v) ∧ ((mI M 35 1 = nI E ∧ tI σ 143 = nI E ∧ E ≤ 120 ∧ E ≤ (pl D 111).length) ∧ ∀ k, k < E → EqX1 D M σ V K N k) ∧ ((mI M 37 1 = nI A ∧ tI σ 152 = nI A ∧ A ≤ 200 ∧ A ≤ (pl D 112).length) ∧ ∀ k, k < A → AcX1 D M σ V K N k) ∧ ((mI M 39 1 = nI (Wn + zb / 2) ∧ tI σ 148 = nI (Wn + zb / 2) ∧ Wn + zb / 2 ≤ 12 ∧ Wn ≤ (pl D 113).length) ∧ ∀ k, k < Wn → WhX1 D M σ V K N A k) ∧ (JnX M σ ∧ ¬ tI σ 130 = 0 ∧ Ct32 D K M σ) ∧ (zb ≠ 0 → mI M 33 1 = nI 0) ∧ tI σ 161 = nI 0 ∧ tI σ 171 = nI 0 ∧ (zb ≤ 1 → Sm 141 142 σ N N E A Wn)
/-- whose it all is -/
def BT0 (t : Nat) : Prop := t = 115 ∨ (tg 98 0 ≤ t ∧ t < tg 99 0) ∨ (tg 111 0 ≤ t ∧ t < tg 114 0)
def BT (t : Nat) : Prop := t = 114 ∨ t = 115 ∨ (tg 98 0 ≤ t ∧ t < tg 99 0) ∨ (tg 111 0 ≤ t ∧ t < tg 114 0)
section BX
variable {zb : Nat} {C : PC} {D D' : FQ} {M M' M1 M2 M3 M0 : CM} {σ σ' σ1 σ2 σ0 s1 : TS} {mss fss : List Nat} {B V I Bm K N K' N' E A Wn v l k x0 dc md X N0 Lp : Nat} {P T : Nat → Prop} {x3 y r : Int32} {z7 : Nat → Nat} {S : List Nat}
theorem BX.mvcn (hc : Ct32 D' K' M' σ') (h : BX zb D M σ V K N E A Wn) (W : FW C B P mss fss D M σ) (hV : V ≤ (pl D 98).length ∧ V ≤ 96) (nk : NdKn D M σ D' M' σ' 106 K N) (hK : K ≤ K') (hN : N ≤ N') (F : Fq D T M M') (hT : ∀ t, T t → ¬ BT0 t) (dx : Dx D D' M) (s1 : ∀ f, f ∈ bxO → mI M' f 1 = mI M f 1) (f : Ft S σ σ') (hS : bxS.all (fun k => !S.contains k) = true) : BX zb D' M' σ' V K' N' E A Wn := by
  have hf : ∀ k, k ∈ bxS → S.contains k = false := fun k hk => by simpa using List.all_eq_true.mp hS k hk
  have ti : ∀ k, k ∈ bxS → tI σ' k = tI σ k := fun k hk => (f k (hf k hk)).1
  have ta : ∀ k, k ∈ bxS → ∀ j, tA σ' k j = tA σ k j := fun k hk j => (f k (hf k hk)).2.2.1 j
  have so : ∀ l k, l ∈ flL → k < (pl D l).length → (∀ j, j < (pl D l).length → BT0 (tg l j)) → So M M' ((pl D l).getD k 0) := fun l k hl hk hb => by
    obtain ⟨-, q2, q3⟩ := W.2.1.2.1 l hl k hk
    exact F.so q2 q3 (fun z => hT _ z (hb k hk))
  have len : ∀ l n, n ≤ (pl D l).length → n ≤ (pl D' l).length := fun l n hn => by
    by_cases q : n = 0
    · omega
    · have := (dx.1 l (n - 1) (by omega)).1; omega
  have e : ∀ l k, k < (pl D l).length → (pl D' l).getD k 0 = (pl D l).getD k 0 := fun l k hk => (dx.1 l k hk).2
  have b98 : ∀ j, j < (pl D 98).length → BT0 (tg 98 j) := fun j hj => by
    have := (W.2.1.1 98 (by decide)).2.2
    have e : flX 98 = 96 := rfl
    unfold BT0 tg; omega
  have b111 : ∀ l, (l = 111 ∨ l = 112 ∨ l = 113) → ∀ j, j < (pl D l).length → BT0 (tg l j) := fun l hl j hj => by
    have q : (pl D l).length ≤ flX l ∧ flX l ≤ 1000 := by
      rcases hl with rfl | rfl | rfl
      · exact ⟨(W.2.1.1 111 (by decide)).2.2, by decide⟩
      · exact ⟨(W.2.1.1 112 (by decide)).2.2, by decide⟩
      · exact ⟨(W.2.1.1 113 (by decide)).2.2, by decide⟩
    unfold BT0 tg; omega
  have nd : ∀ fx s a n, NdR fx D M σ 106 V 100 s K N a n → NdR fx D' M' σ' 106 V 100 s K' N' a n := fun fx s a n z => NdR.mvn (fun q => q) nk hK hN (Nat.le_refl V) 100 100 s a n (Nat.le_refl _) z
  obtain ⟨a1, ⟨⟨b1, b2, b3, b4⟩, b5⟩, ⟨⟨c1, c2, c3, c4⟩, c5⟩, ⟨⟨d1, d2, d3, d4⟩, d5⟩, j1, j2, j3, j4⟩ := h
  refine ⟨fun v hv => ?_, ⟨⟨(s1 35 (by decide)).trans b1, (ti 143 (by decide)).trans b2, b3, len _ _ b4⟩, fun k hk => ?_⟩, ⟨⟨(s1 37 (by decide)).trans c1, (ti 152 (by decide)).trans c2, c3, len _ _ c4⟩, fun k hk => ?_⟩, ⟨⟨(s1 39 (by decide)).trans d1, (ti 148 (by decide)).trans d2, d3, len _ _ d4⟩, fun k hk => ?_⟩, ⟨JnX.mv j1.1 (fun j => ?_) (ta 155 (by decide)) (ta 74 (by decide)) (ta 75 (by decide)), by rw [ti 130 (by decide)]; exact j1.2.1, hc⟩, fun z => (s1 33 (by decide)).trans (j2 z), (ti 161 (by decide)).trans j3, (ti 171 (by decide)).trans j4.1, fun zz => (j4.2 zz).mv nk.n4 hN hN (fun k _ => ⟨ta 141 (by decide) k, ta 142 (by decide) k⟩) (fun k _ => ta 151 (by decide) k) (fun k _ => ta 145 (by decide) k)⟩
  · obtain ⟨x1, x2, x3⟩ := a1 v hv
    have s := so 98 v (by decide) (by omega) b98
    unfold Vx1 Vs1 Flz Fl1 at *
    rw [e 98 v (by omega), s.r, s.r, s.i, s.i, s.i, ta 158 (by decide), ta 159 (by decide), ta 104 (by decide), ta 160 (by decide)]
    refine ⟨?_, ?_, x3⟩
    · rcases x1 with x1 | ⟨n, x4, x5⟩
      · exact Or.inl x1
      · exact Or.inr ⟨n, x4, nd _ _ _ _ x5⟩
    · rcases x2 with x1 | ⟨n, x4, x5⟩
      · exact Or.inl x1
      · exact Or.inr ⟨n, x4, nd _ _ _ _ x5⟩
  · obtain ⟨⟨n, x1, x2⟩, n2, x3, x4⟩ := b5 k hk
    have s := so 111 k (by decide) (by omega) (b111 111 (by omega))
    unfold EqX1
    rw [e 111 k (by omega), s.r, s.r, ta 141 (by decide), ta 142 (by decide)]
    exact ⟨⟨n, x1, nd _ _ _ _ x2⟩, n2, x3, nd _ _ _ _ x4⟩
  · obtain ⟨x0, x1, n, x2, x3⟩ := c5 k hk
    have s := so 112 k (by decide) (by omega) (b111 112 (by omega))
    unfold AcX1
    rw [e 112 k (by omega), s.r, s.i, s.i, ta 149 (by decide), ta 150 (by decide), ta 151 (by decide)]
    exact ⟨x0.mv nk.2.2, x1, n, x2, nd _ _ _ _ x3⟩
  · obtain ⟨⟨n, x1, x2⟩, x3⟩ := d5 k hk
    have s := so 113 k (by decide) (by omega) (b111 113 (by omega))
    unfold WhX1
    rw [e 113 k (by omega), s.r, s.i, s.i, ta 145 (by decide), ta 146 (by decide), ta 147 (by decide)]
    exact ⟨⟨n, x1, nd _ _ _ _ x2⟩, x3⟩
  · have s : So M M' 115 := Fz.so F (by have := W.n167; omega) (fun z => hT _ z (by rw [tgo_s (by decide)]; exact Or.inl rfl))
    exact s.a j
theorem BX.mvc (hc : Ct32 D' K' M' σ') (h : BX zb D M σ V K N E A Wn) (W : FW C B P mss fss D M σ) (hV : V ≤ (pl D 98).length ∧ V ≤ 96) (nk : NdK D M σ D' M' σ' 106 K N) (hK : K ≤ K') (hN : N ≤ N') (F : Fq D T M M') (hT : ∀ t, T t → ¬ BT t) (dx : Dx D D' M) (s1 : ∀ f, f ∈ bxO → mI M' f 1 = mI M f 1) (f : Ft S σ σ') (hS : bxS.all (fun k => !S.contains k) = true) : BX zb D' M' σ' V K' N' E A Wn := h.mvcn hc W hV nk.wk hK hN F (fun t z y => hT t z (Or.inr y)) dx s1 f hS
theorem BX.mv (h : BX zb D M σ V K N E A Wn) (W : FW C B P mss fss D M σ) (hV : V ≤ (pl D 98).length ∧ V ≤ 96) (nk : NdK D M σ D' M' σ' 106 K N) (hK : K ≤ K') (hN : N ≤ N') (F : Fq D T M M') (hT : ∀ t, T t → ¬ BT t) (dx : Dx D D' M) (s1 : ∀ f, f ∈ 32 :: 41 :: 43 :: bxO → mI M' f 1 = mI M f 1) (f : Ft S σ σ') (hS : (133 :: 153 :: 154 :: 156 :: bxS).all (fun k => !S.contains k) = true) : BX zb D' M' σ' V K' N' E A Wn :=
  h.mvc (h.2.2.2.2.1.2.2.mv ⟨s1 32 List.mem_cons_self, s1 41 (List.mem_cons_of_mem _ List.mem_cons_self), s1 43 (List.mem_cons_of_mem _ (List.mem_cons_of_mem _ List.mem_cons_self))⟩ (fun j => (Fz.so F (by have := W.n167; omega) (fun z => hT _ z (by rw [tgo_s (by decide)]; exact Or.inl rfl))).x j) (fun k hk => (nk.1 k hk).1) hK f (by
    rw [List.all_cons, Bool.and_eq_true, List.all_cons, Bool.and_eq_true, List.all_cons, Bool.and_eq_true, List.all_cons, Bool.and_eq_true] at hS
    simp only [List.all_cons, List.all_nil, Bool.and_eq_true, Bool.and_true]
    exact ⟨hS.1, hS.2.1, hS.2.2.1, hS.2.2.2.1⟩)) W hV nk hK hN F hT dx (fun f hf => s1 f (List.mem_cons_of_mem _ (List.mem_cons_of_mem _ (List.mem_cons_of_mem _ hf)))) f (by
    rw [List.all_cons, Bool.and_eq_true, List.all_cons, Bool.and_eq_true, List.all_cons, Bool.and_eq_true, List.all_cons, Bool.and_eq_true] at hS
    exact hS.2.2.2.2)
/-- flattening, in one set of nodes or in the other -/
theorem TB.bt (hx : NdL x0 l X 100) {t : Nat} (h : TB x0 l t) : ¬ BT t := fun z => by
  unfold TB tg at h
  unfold BT tg at z
  rcases hx with ⟨rfl, rfl, -⟩ | ⟨rfl, rfl, -⟩ | ⟨rfl, rfl, -⟩ | ⟨rfl, rfl, -⟩ <;> rcases h with h | h | h | h | h | ⟨k, h1, h⟩ <;> omega
/-- a state of flattening when other things were written -/
theorem FSt.mv0 (h : FSt md x0 l X N0 z7 C B P mss fss D M σ V I Bm K N Lp 0 x3) (W' : FW C B P mss fss D' M' σ') (FX' : FlX z7 C P D' mss M' σ' V I Bm) (v : Wz C C P M M' σ σ') (F : Fq D T M M') (hT : ∀ t, T t → t ≠ 103 ∧ t ≠ 104 ∧ t ≠ x0) (h24 : mI M' 24 1 = mI M 24 1) (h27 : mR M' 27 1 = mR M 27 1) (hl : pl D' l = pl D l) (h9 : pl D' 109 = pl D 109) (f : Ft S σ σ') (hS : [0, 115, 116, 117, 121, 122, 123, 124, 126, 127, 129, 130, 131, 137, 138].all (fun k => !S.contains k) = true) : FSt md x0 l X N0 z7 C B P mss fss D' M' σ' V I Bm K N Lp 0 x3 := by
  have hf : ∀ k, k ∈ [0, 115, 116, 117, 121, 122, 123, 124, 126, 127, 129, 130, 131, 137, 138] → S.contains k = false := fun k hk => by simpa using List.all_eq_true.mp hS k hk
  have sub : ∀ L : List Nat, (∀ k, k ∈ L → k ∈ [0, 115, 116, 117, 121, 122, 123, 124, 126, 127, 129, 130, 131, 137, 138]) → L.all (fun k => !S.contains k) = true := fun L hL => by
    rw [List.all_eq_true]
    intro k hk
    rw [hf k (hL k hk)]; rfl
  have h167 := h.1.n167
  obtain ⟨W, FX, NS, LP, CA, ⟨h1, h2, h3⟩, h4, h5⟩ := h
  have ax : x0 < 167 := by rcases NS.1.2 with ⟨rfl, -⟩ | ⟨rfl, -⟩ | ⟨rfl, -⟩ | ⟨rfl, -⟩ <;> decide
  have so : ∀ o, o < 167 → ¬ T o → So M M' o := fun o ho hn => Fz.so F (by omega) (fun z => hn (by rw [tgo_s ho] at z; exact z))
  have s103 := so 103 (by decide) (fun z => (hT _ z).1 rfl)
  have s104 := so 104 (by decide) (fun z => (hT _ z).2.1 rfl)
  have sx := so x0 ax (fun z => (hT _ z).2.2 rfl)
  exact ⟨W', FX', NS.kp h27 (fun f => sx.i f) hl f (sub _ (by decide)), LP.mv v h24 (fun k => ⟨s103.a k, s104.a k⟩) f (sub _ (by decide)), fun k hk => absurd hk (Nat.not_lt_zero _), ⟨by rw [h9]; exact h1, h2, by rw [(f 137 (hf 137 (by decide))).1]; exact h3⟩, by rw [(f 138 (hf 138 (by decide))).1]; exact h4, by rw [(f 0 (hf 0 (by decide))).1]; exact h5⟩
/-- nodes when other things were written -/
theorem NdK.ot (W : FW C B P mss fss D M σ) (hl : l ∈ flL) (hK : K ≤ (pl D l).length) (F : Fq D T M M') (hT : ∀ k, k < K → ¬ T (tg l k)) (dx : Dx D D' M) (f : Ft S σ σ') (hS : [94, 121, 122, 123, 124, 134, 162].all (fun k => !S.contains k) = true) : NdK D M σ D' M' σ' l K N := by
  have hf : ∀ k, k ∈ [94, 121, 122, 123, 124, 134, 162] → S.contains k = false := fun k hk => by simpa using List.all_eq_true.mp hS k hk
  refine ⟨fun k hk => ?_, fun g hg n _ => (f g (hf g (by simp only [List.mem_cons, List.not_mem_nil, or_false] at hg ⊢; omega))).2.2.1 n, fun v => (f 94 (hf 94 (by decide))).2.2.1 v⟩
  obtain ⟨-, q2, q3⟩ := W.2.1.2.1 l hl k (by omega)
  have s : So M M' ((pl D l).getD k 0) := F.so q2 q3 (hT k hk)
  exact ⟨(dx.1 l k (by omega)).2, fun f _ => s.i f, fun f _ => s.r f⟩
end BX
