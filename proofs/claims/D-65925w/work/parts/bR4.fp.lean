/-! Layer B: a flat model between calls -/
set_option maxRecDepth 100000
def EqX2 (D : FQ) (M : CM) (σ : TS) (V K N k : Nat) : Prop := (∃ n, tA σ 174 k = nI n ∧ NdR 0 D M σ 106 V 100 0 K N (mR M 3600 ((pl D 111).getD k 0)) n) ∧ ∃ n, tA σ 175 k = nI n ∧ NdR 0 D M σ 106 V 100 0 K N (mR M 3601 ((pl D 111).getD k 0)) n
/-- all relations are numbered -/
def CvP (V K N : Nat) (D : FQ) (M : CM) (σ : TS) (q E Wn : Nat) : Prop := (∀ k, k < E → (∃ n, tA σ 174 k = nI n ∧ CvN V K N D M σ q 0 n) ∧ ∃ n, tA σ 175 k = nI n ∧ CvN V K N D M σ q 0 n) ∧ ∀ k, k < Wn → (∃ n, tA σ 145 k = nI n ∧ CvN V K N D M σ q 1 n) ∧ ∃ f m, tA σ 146 k = nI f ∧ tA σ 147 k = nI m ∧ f + m ≤ 200 ∧ ∀ i, f ≤ i → i < f + m → ∃ n, tA σ 151 i = nI n ∧ CvN V K N D M σ q 0 n
/-- a variable's value, both sides -/
def Fl0 (D : FQ) (M : CM) (σ : TS) (v : Nat) : Prop := mI M 3213 ((pl D 98).getD v 0) = tA σ 104 v
/-- nodes of the flat model -/
def NdF (D : FQ) (M : CM) (σ : TS) (K N : Nat) : Prop := (mI M 604 105 = nI K ∧ K ≤ (pl D 106).length ∧ K ≤ 12000) ∧ (N = K + 1 ∧ tI σ 128 = nI N) ∧ NdA σ N
/-- a tree of an equation, an action or a when, once flat -/
def RtP (σ : TS) (E A Wn n : Nat) : Prop := (∃ e, e < E ∧ (tA σ 174 e = nI n ∨ tA σ 175 e = nI n)) ∨ (∃ i, i < A ∧ tA σ 151 i = nI n) ∨ ∃ w, w < Wn ∧ tA σ 145 w = nI n
def RlP (V K N E A Wn : Nat) (D : FQ) (M : CM) (σ : TS) (q : Nat) : Prop := ∀ j, j < q → ∃ k, k < K ∧ tA σ 153 j = nI (k + 1) ∧ (mI M 3403 ((pl D 106).getD k 0) = nI j ∧ tA σ 162 (k + 1) = nI j) ∧ RlL V K N D M σ k ∧ ∃ n, RtP σ E A Wn n ∧ OcT σ N 100 n (k + 1)
/-- of a flat model: variables, instances, members; what its making alone needs is left out -/
def FlY (z7 : Nat → Nat) (C : PC) (P : Nat → Prop) (D : FQ) (mss : List Nat) (M : CM) (σ : TS) (V I Bm : Nat) : Prop := FInZ z7 C P D mss M σ V I Bm ∧ (V ≤ 96 ∧ I ≤ 200 ∧ Bm ≤ 20000 ∧ 1 ≤ I ∧ z7 100000 ≠ 0 ∧ ∃ dp, DpI dp σ I) ∧ (tI σ 107 = nI V ∧ tI σ 82 = nI I ∧ tI σ 89 = nI Bm) ∧ (mI M 15 1 = nI V ∧ mI M 16 1 = nI I) ∧ True
def FP (C : PC) (P : Nat → Prop) (mss : List Nat) (D : FQ) (M : CM) (σ : TS) (z7 : Nat → Nat) (V I Bm K N E A Wn q qs : Nat) : Prop :=
  FlY z7 C P D mss M σ V I Bm ∧ NdF D M σ K N ∧
  (∀ v, v < V → Vx1 D M σ V K N v ∧ Vs1 D M σ V K N v ∧ (tA σ 94 v = 1 → Fl0 D M σ v) ∧ mI M 3212 ((pl D 98).getD v 0) = tA σ 105 v) ∧
  ((mI M 35 1 = nI E ∧ tI σ 144 = nI E ∧ E ≤ 120 ∧ E ≤ (pl D 111).length) ∧ ∀ k, k < E → EqX2 D M σ V K N k) ∧
  ((mI M 37 1 = nI A ∧ A ≤ 200 ∧ A ≤ (pl D 112).length) ∧ ∀ k, k < A → AcX1 D M σ V K N k) ∧
  ((mI M 39 1 = nI Wn ∧ tI σ 148 = nI Wn ∧ Wn ≤ 12 ∧ Wn ≤ (pl D 113).length) ∧ (∀ k, k < Wn → WhX1 D M σ V K N A k) ∧ WcS σ A Wn) ∧
  ((mI M 41 1 = nI q ∧ tI σ 154 = nI q ∧ q ≤ 24) ∧ (∀ j, j < q → ∃ k, k < K ∧ mX M 114 j = (pl D 106).getD k 0 ∧ tA σ 153 j = nI (k + 1)) ∧ CvP V K N D M σ q E Wn ∧ RlP V K N E A Wn D M σ q) ∧
  JnX M σ ∧ SeT σ I (2 * I) qs ∧ mI M 43 1 = tI σ 156 ∧ Sm 174 175 σ N N E A Wn ∧ (tI σ 129 = 0 ∧ tI σ 130 = 0 ∧ tI σ 152 = nI A)
section FPS
variable {C : PC} {P : Nat → Prop} {mss fss : List Nat} {D D' : FQ} {M M' : CM} {σ σ' : TS} {z7 : Nat → Nat} {B V I Bm K N E A Wn q qs v : Nat} {S : List Nat}
theorem RlP.of (h : RlT V K N D M σ q) (hKN : K < N) (b2 : tI σ 143 = nI E) (hE : E ≤ 120) (c2 : tI σ 152 = nI A) (hA : A ≤ 200) (d2 : tI σ 148 = nI Wn) (hW : Wn ≤ 12) (nk : NdK D M σ D' M' σ' 106 K N) (f153 : ∀ j, tA σ' 153 j = tA σ 153 j) (f4 : ∀ k, k < E → tA σ' 174 k = tA σ 141 k ∧ tA σ' 175 k = tA σ 142 k) (f151 : ∀ j, tA σ' 151 j = tA σ 151 j) (f145 : ∀ j, tA σ' 145 j = tA σ 145 j) : RlP V K N E A Wn D' M' σ' q := fun j hj => by
  obtain ⟨k, k1, k2, ⟨k6, k7⟩, k3, n, k4, k5⟩ := h j hj
  obtain ⟨a1, a2, -⟩ := nk.1 k k1
  refine ⟨k, k1, (f153 j).trans k2, ⟨by rw [a1, a2 3403 (by decide)]; exact k6, by rw [nk.2.1 162 (by decide) (k + 1) (by omega)]; exact k7⟩, k3.mv nk.wk (Nat.le_refl _) (Nat.le_refl _) k1, n, ?_, OcT.mv nk.n4 (Nat.le_refl _) _ _ _ _ (Nat.le_refl _) k5⟩
  rcases k4 with ⟨e, e1, e2⟩ | ⟨e, e1, e2⟩ | ⟨e, e1, e2⟩
  · rw [b2, ix_nI (by omega)] at e1
    exact Or.inl ⟨e, e1, by rw [(f4 e e1).1, (f4 e e1).2]; exact e2⟩
  · rw [c2, ix_nI (by omega)] at e1
    exact Or.inr (Or.inl ⟨e, e1, by rw [f151]; exact e2⟩)
  · rw [d2, ix_nI (by omega)] at e1
    exact Or.inr (Or.inr ⟨e, e1, by rw [f145]; exact e2⟩)
theorem FlX.y (h : FlX z7 C P D mss M σ V I Bm) : FlY z7 C P D mss M σ V I Bm := ⟨h.1, ⟨h.2.1.1, h.2.1.2.1, h.2.1.2.2.1, h.2.1.2.2.2.1, h.2.1.2.2.2.2.1, by
  obtain ⟨dp, hd⟩ := h.2.1.2.2.2.2.2.1
  exact ⟨dp, fun n hn => ⟨(hd n hn).1, (hd n hn).2.1⟩⟩⟩, h.2.2.1, h.2.2.2.1, trivial⟩
/-- once flat -/
theorem FP.of (h : FlD C B P mss fss D M σ') : FW C B P mss fss D M σ' ∧ (tI σ' 171 = nI 0 ∧ tI σ' 161 = nI 0 ∧ mI M 33 1 = nI 0) ∧ ∃ z7 V I Bm K N E A Wn q qs, FP C P mss D M σ' z7 V I Bm K N E A Wn q qs := by
  obtain ⟨σ, V, I, Bm, z7, K, N, E, A, Wn, q, qs, h, st, se, ⟨e4, q24, cv, rl⟩, e144, ⟨f, ⟨f1, f2, f3⟩, f4⟩, wc⟩ := h
  obtain ⟨W', w'⟩ := h.fw.wzT f (by decide)
  have FX : FlX z7 C P D mss M σ' V I Bm := h.fx.kp h.fw (Fq.rf (T := fun _ => False)) (fun _ z => z.elim) (fun k _ => ⟨fun _ _ => rfl, fun _ _ => rfl⟩) w' (Dx.rf D M) f (by decide) ⟨rfl, rfl⟩
  have nk : NdK D M σ D M σ' 106 K N := ⟨fun k hk => ⟨rfl, fun _ _ => rfl, fun _ _ => rfl⟩, fun g hg n _ => by
    simp only [List.mem_cons, List.not_mem_nil, or_false] at hg
    rcases hg with rfl | rfl | rfl | rfl | rfl | rfl <;> exact (f _ rfl).2.2.1 n, fun v => (f 94 rfl).2.2.1 v⟩
  have hn := h.kn
  have nd : ∀ fx s a n, NdR fx D M σ 106 V 100 s K N a n → NdR fx D M σ' 106 V 100 s K N a n := fun fx s a n z => NdR.mv nk (Nat.le_refl _) (Nat.le_refl _) (Nat.le_refl V) 100 100 s a n (Nat.le_refl _) z
  have cn : ∀ s n, CvN V K N D M σ q s n → CvN V K N D M σ' q s n := fun s n z => z.mv nk (Nat.le_refl _) (Nat.le_refl _) hn (f 153 rfl).2.2.1
  have NS := h.1.2.2.1
  obtain ⟨a1, ⟨⟨b1, b2, b3, b4⟩, b5⟩, ⟨⟨c1, c2, c3, c4⟩, c5⟩, ⟨⟨d1, d2, d3, d4⟩, d5⟩, ⟨j1, -, j2⟩, j3, j4, j5⟩ := h.2
  refine ⟨W', ⟨(f 171 rfl).1.trans j5.1, (f 161 rfl).1.trans j4, j3 (by decide)⟩, z7, V, I, Bm, K, N, E, A, Wn, q, qs, FX.y, ⟨⟨NS.2.1.1, NS.2.1.2.1, NS.2.1.2.2.1⟩, ⟨by have := NS.2.2.1.2.1; omega, by rw [f1]; exact NS.2.2.1.1⟩, NS.2.2.2.2.2.2.2.ft f (by decide)⟩, fun v hv => ?_, ⟨⟨b1, (f 144 rfl).1.trans e144, b3, b4⟩, fun k hk => ?_⟩, ⟨⟨c1, c3, c4⟩, fun k hk => ?_⟩, ⟨⟨d1, (f 148 rfl).1.trans d2, d3, d4⟩, fun k hk => ?_, wc.ft f (by decide)⟩, ⟨?_, ?_, ⟨fun k hk => ?_, fun k hk => ?_⟩, RlP.of rl hn b2 b3 c2 c3 d2 d3 nk (f 153 rfl).2.2.1 f4 (f 151 rfl).2.2.1 (f 145 rfl).2.2.1⟩, j1.mv (fun _ => rfl) (f 155 rfl).2.2.1 (f 74 rfl).2.2.1 (f 75 rfl).2.2.1, se.ft f (by decide), by rw [(f 156 rfl).1]; exact j2.2.1, ?_, f2, f3, (f 152 rfl).1.trans c2⟩
  · obtain ⟨x1, x2, x3⟩ := a1 v hv
    have x4 := st v hv
    unfold Fl0
    unfold Vx1 Vs1 Flz Fl1 at *
    rw [(f 158 rfl).2.2.1, (f 159 rfl).2.2.1, (f 104 rfl).2.2.1, (f 105 rfl).2.2.1]
    refine ⟨?_, ?_, fun _ => (x3.2.2 (by decide)).1, x4⟩
    · rcases x1 with x1 | ⟨n, x4, x5⟩
      · exact Or.inl x1
      · exact Or.inr ⟨n, x4, nd _ _ _ _ x5⟩
    · rcases x2 with x1 | ⟨n, x4, x5⟩
      · exact Or.inl x1
      · exact Or.inr ⟨n, x4, nd _ _ _ _ x5⟩
  · obtain ⟨⟨n, x1, x2⟩, n2, x3, x4⟩ := b5 k hk
    obtain ⟨g1, g2⟩ := f4 k hk
    exact ⟨⟨n, g1.trans x1, nd _ _ _ _ x2⟩, n2, g2.trans x3, nd _ _ _ _ x4⟩
  · obtain ⟨x0, x1, n, x2, x3⟩ := c5 k hk
    unfold AcX1
    rw [(f 149 rfl).2.2.1, (f 150 rfl).2.2.1, (f 151 rfl).2.2.1]
    exact ⟨x0.mv (f 94 rfl).2.2.1, x1, n, x2, nd _ _ _ _ x3⟩
  · obtain ⟨⟨n, x1, x2⟩, x3⟩ := d5 k hk
    unfold WhX1
    rw [(f 145 rfl).2.2.1, (f 146 rfl).2.2.1, (f 147 rfl).2.2.1]
    exact ⟨⟨n, x1, nd _ _ _ _ x2⟩, x3⟩
  · obtain ⟨-, -, q', ⟨q1, q2, q3⟩, -⟩ := j2
    exact ⟨by rw [q1, ← q2]; exact e4, (f 154 rfl).1.trans e4, q24⟩
  · obtain ⟨-, -, q', ⟨q1, q2, q3⟩, q4⟩ := j2
    have : q' = q := (bI_eq (by omega) (by omega)).mp (q2.symm.trans e4)
    subst this
    intro j hj
    obtain ⟨k, k1, k2, k3⟩ := q4 j hj
    exact ⟨k, k1, k2, ((f 153 rfl).2.2.1 j).trans k3⟩
  · obtain ⟨⟨n, x1, x2⟩, m, x3, x4⟩ := cv.1 k hk
    obtain ⟨g1, g2⟩ := f4 k hk
    exact ⟨⟨n, g1.trans x1, cn _ _ x2⟩, m, g2.trans x3, cn _ _ x4⟩
  · obtain ⟨⟨n, x1, x2⟩, g, m, x3, x4, x0, x5⟩ := cv.2 k hk
    refine ⟨⟨n, ((f 145 rfl).2.2.1 k).trans x1, cn _ _ x2⟩, g, m, ((f 146 rfl).2.2.1 k).trans x3, ((f 147 rfl).2.2.1 k).trans x4, x0, fun i h1 h2 => ?_⟩
    obtain ⟨n', y1, y2⟩ := x5 i h1 h2
    exact ⟨n', ((f 151 rfl).2.2.1 i).trans y1, cn _ _ y2⟩
  · exact (j5.2 (by decide)).mv nk.n4 (Nat.le_refl _) (Nat.le_refl _) f4 (fun k _ => (f 151 rfl).2.2.1 k) (fun k _ => (f 145 rfl).2.2.1 k)
end FPS
