/-! Layer B: the flat model: a state while an expression is flattened -/
set_option maxRecDepth 100000
abbrev fbL : List Nat := [118, 119, 120, 121, 122, 123, 124, 125, 126, 127, 131, 134, 135, 136, 137]
/-- call k has ar arguments -/
def CaN (P : Nat → Prop) (D : FQ) (M : CM) (k ar : Nat) : Prop := P ((pl D 109).getD k 0) ∧ ∃ as, LsP P M (mR M 1406 ((pl D 109).getD k 0)) as ∧ as.length = ar
/-- where arguments are meant: nowhere, or in call k -/
def CaX (P : Nat → Prop) (D : FQ) (M : CM) (x4 tw : Int32) (dc ar : Nat) : Prop := (x4 = -1 ∧ tw = 0 ∧ ar = 0) ∨ ∃ k, k < dc ∧ x4 = nI k ∧ tw = nI (k + 1) ∧ CaN P D M k ar
/-- the calls that are under way -/
def CaR (C : PC) (P : Nat → Prop) (D : FQ) (M : CM) (σ : TS) (dc : Nat) : Prop := ∀ k, k < dc → ∃ as p ark nfk d, ((P ((pl D 109).getD k 0) ∧ mk M ((pl D 109).getD k 0) = 8) ∧ LsP P M (mR M 1406 ((pl D 109).getD k 0)) as) ∧ (tA σ 135 (k + 1) = nI p ∧ p < 9000) ∧ nfk ≤ cnf C ∧ AgR (AR P (tN σ) (tQ σ) (cm C) ark nfk (cfn C) M σ d 0) (cfn C 1000) (tN σ) σ as p ∧ CaX P D M (mA M 110 k) (tA σ 136 (k + 1)) k ark
def FSt (md x0 l X N0 : Nat) (z7 : Nat → Nat) (C : PC) (B : Nat) (P : Nat → Prop) (mss fss : List Nat) (D : FQ) (M : CM) (σ : TS) (V I Bm K N Lp dc : Nat) (x3 : Int32) : Prop := FW C B P mss fss D M σ ∧ FlX z7 C P D mss M σ V I Bm ∧ NdS md x0 l X N0 D M σ K N ∧ LpR C M σ Lp ∧ CaR C P D M σ dc ∧ ((pl D 109).length = dc ∧ dc ≤ 100 ∧ tI σ 137 = nI dc) ∧ ((x3 = 1 ∧ ¬ tI σ 138 = 0) ∨ (x3 = 0 ∧ tI σ 138 = 0)) ∧ tI σ 0 = 0
/-- whose an object is that flattening writes -/
def TB (x0 l t : Nat) : Prop := t = 1 ∨ t = 109 ∨ t = 110 ∨ t = x0 ∨ t = l ∨ ∃ k, k < 40000 ∧ t = tg l k
/-- a step of flattening -/
def FTr (x0 : Nat) (C : PC) (P : Nat → Prop) (l K N dc : Nat) (D : FQ) (M : CM) (σ : TS) (D' : FQ) (M' : CM) (σ' : TS) : Prop := Wz C C P M M' σ σ' ∧ Dx D D' M ∧ NdK D M σ D' M' σ' l K N ∧ SgX M M' σ σ' ∧ Ft fbL σ σ' ∧ (∀ k, k ≤ dc → tA σ' 135 k = tA σ 135 k ∧ tA σ' 136 k = tA σ 136 k) ∧ ((∀ f, mI M' f 1 = mI M f 1) ∧ (∀ f, f ≠ 20 → f ≠ 21 → mR M' f 1 = mR M f 1) ∧ Fq D (TB x0 l) M M') ∧ (∀ k, k < dc → mA M' 110 k = mA M 110 k) ∧ (∀ i, i ≠ l → i ≠ 109 → pl D' i = pl D i) ∧ pl D' 109 = pl D 109 ∧ (tI σ 129 = 0 → tI σ' 127 = tI σ 127)
section FST
variable {C : PC} {D D' D2 : FQ} {M M' M1 M2 M3 : CM} {σ σ' σ1 σ2 s : TS} {mss fss ps : List Nat} {B V I Bm b c e f z w q Lp dc n j p x o md x0 l X N0 K K' N N' ar k : Nat} {P T : Nat → Prop} {x3 x4 tw : Int32} {z7 : Nat → Nat} {S : List Nat}
theorem CaX.mv (h : CaX P D M x4 tw dc ar) (v : Wz C C P M M' σ σ') (hp : ∀ k, k < dc → (pl D' 109).getD k 0 = (pl D 109).getD k 0) : CaX P D' M' x4 tw dc ar := by
  rcases h with h | ⟨k, h1, h2, h3, h4, as, h5, h6⟩
  · exact Or.inl h
  · refine Or.inr ⟨k, h1, h2, h3, by rw [hp k h1]; exact h4, as, ?_, h6⟩
    rw [hp k h1, (v.2.1.1 _ h4).r]
    exact h5.wz v (fun _ z => z)
theorem CaR.mv (h : CaR C P D M σ dc) (v : Wz C C P M M' σ σ') (hp : ∀ k, k < dc → (pl D' 109).getD k 0 = (pl D 109).getD k 0) (h110 : ∀ k, k < dc → mA M' 110 k = mA M 110 k) (ht : ∀ k, k ≤ dc → tA σ' 135 k = tA σ 135 k ∧ tA σ' 136 k = tA σ 136 k) : CaR C P D' M' σ' dc := fun k hk => by
  obtain ⟨as, p, ark, nfk, d, ⟨⟨a1, a2⟩, a3⟩, ⟨a4, a5⟩, a6, a7, a8⟩ := h k hk
  have s := v.2.1.1 _ a1
  refine ⟨as, p, ark, nfk, d, ⟨⟨by rw [hp k hk]; exact a1, by rw [hp k hk, s.k]; exact a2⟩, by rw [hp k hk, s.r]; exact a3.wz v (fun _ z => z)⟩, ⟨by rw [(ht (k + 1) hk).1]; exact a4, a5⟩, a6, ?_, ?_⟩
  · have v4 := v.2.2.2.1.1
    exact AgR.mv (fun k hk n _ hn => v4.2.1 k hk n hn) (fun o e z => AR.wz v (fun _ z => z) ⟨Nat.le_refl _, v.2.2.2.2.1.1.2 |> fun q => by have := v.2.2.2.2.1.1.1; omega, a6⟩ d d 0 o e (Nat.le_refl _) z) v4.1.1 (Nat.zero_le _) v.2.2.2.2.1.2.2 as p a7
  · rw [h110 k hk, (ht (k + 1) hk).2]
    exact a8.mv v (fun k' hk' => hp k' (by omega))
theorem FTr.rf (h : cnf C ≤ 12) : FTr x0 C P l K N dc D M σ D M σ := ⟨Wz.rf h, Dx.rf D M, NdK.rf, SgX.rf, Ft.rf _ _, fun _ _ => ⟨rfl, rfl⟩, ⟨fun _ => rfl, fun _ _ _ => rfl, Fz.rf⟩, fun _ _ => rfl, fun _ _ _ => rfl, rfl, fun _ => rfl⟩
theorem FTr.tr (h : FTr x0 C P l K N dc D M σ D' M' σ') (g : FTr x0 C P l K' N' dc D' M' σ' D2 M2 σ2) (hK : K ≤ K') (hN : N ≤ N') : FTr x0 C P l K N dc D M σ D2 M2 σ2 := by
  obtain ⟨a1, a2, a3, a4, a5, a6, ⟨a7, a8, a9⟩, a10, a11, a12, a13⟩ := h
  obtain ⟨b1, b2, b3, b4, b5, b6, ⟨b7, b8, b9⟩, b10, b11, b12, b13⟩ := g
  exact ⟨a1.tr b1 (fun _ z => z), a2.tr b2 a1.1.1, a3.tr b3 hK hN, a4.tr b4, a5.tr b5, fun k hk => ⟨(b6 k hk).1.trans (a6 k hk).1, (b6 k hk).2.trans (a6 k hk).2⟩, ⟨fun f => (b7 f).trans (a7 f), fun f h1 h2 => (b8 f h1 h2).trans (a8 f h1 h2), Fq.tr a9 b9 a2⟩, fun k hk => (b10 k hk).trans (a10 k hk), fun i h1 h2 => (b11 i h1 h2).trans (a11 i h1 h2), b12.trans a12, fun z => (b13 (((a5 129 rfl).1).trans z)).trans (a13 z)⟩
/-- a reference was followed -/
theorem FSt.f2 (h : FSt md x0 l X N0 z7 C B P mss fss D M σ V I Bm K N Lp dc x3) (F2 : F2o M M') (f : Ft [118, 119, 120] σ σ') : FSt md x0 l X N0 z7 C B P mss fss D M' σ' V I Bm K N Lp dc x3 ∧ FTr x0 C P l K N dc D M σ D M' σ' := by
  obtain ⟨W, FX, NS, LP, CA, ⟨h1, h2, h3⟩, h4, h5⟩ := h
  obtain ⟨W', v⟩ := F2.fw W f (by decide)
  have hr27 : mR M' 27 1 = mR M 27 1 := F2.2.2.2.1 _ _ (by omega)
  obtain ⟨⟨n1, n2⟩, ⟨n3, n4, n5, n6⟩, ⟨n7, n8⟩, n9, n10, n11, n12, n13⟩ := NS
  have CT : CtM σ' md K := by
    rcases n9 with ⟨q1, q2, q3⟩ | ⟨q1, q2, q3, q4⟩ | ⟨q1, q2, q3⟩
    · exact Or.inl ⟨q1, by rw [(f 129 rfl).1]; exact q2, by rw [(f 127 rfl).1]; exact q3⟩
    · exact Or.inr (Or.inl ⟨q1, by rw [(f 129 rfl).1]; exact q2, by rw [(f 130 rfl).1]; exact q3, by rw [(f 131 rfl).1]; exact q4⟩)
    · exact Or.inr (Or.inr ⟨q1, by rw [(f 129 rfl).1]; exact q2, by rw [(f 130 rfl).1]; exact q3⟩)
  have ht : ∀ k, tA σ' 135 k = tA σ 135 k ∧ tA σ' 136 k = tA σ 136 k := fun k => ⟨(f 135 rfl).2.2.1 k, (f 136 rfl).2.2.1 k⟩
  refine ⟨⟨W', F2.fx W FX f (by decide), ⟨⟨by rw [hr27]; exact n1, n2⟩, ⟨by rw [F2.2.2.1]; exact n3, n4, n5, by rw [F2.2.2.1]; exact n6⟩, ⟨by rw [(f 126 rfl).1]; exact n7, n8⟩, CT, n10, n11, n12, n13.ft f (by decide)⟩, LP.mv v (F2.2.2.1 _ _) (fun k => ⟨F2.2.2.2.2.2 _ _, F2.2.2.2.2.2 _ _⟩) f (by decide), CA.mv v (fun _ _ => rfl) (fun k _ => F2.2.2.2.2.2 _ _) (fun k _ => ht k), ⟨h1, h2, by rw [(f 137 rfl).1]; exact h3⟩, by rw [(f 138 rfl).1]; exact h4, by rw [(f 0 rfl).1]; exact h5⟩, v, Dx.rf _ _, ⟨fun k hk => ⟨rfl, fun f _ => F2.2.2.1 _ _, fun f hf => F2.2.2.2.1 _ _ (fun z => ?_)⟩, fun g hg n _ => ?_, fun v => (f 94 rfl).2.2.1 v⟩, F2.sg W f (by decide), f.mono (by decide), fun k _ => ht k, ⟨fun f => F2.2.2.1 _ _, fun f h1 h2 => F2.2.2.2.1 _ _ (by omega), F2.1.mono (fun o ho z => by rw [z, tgo_s (by decide)]; exact Or.inl rfl)⟩, fun k _ => F2.2.2.2.2.2 _ _, fun _ _ _ => rfl, rfl, fun _ => (f 127 rfl).1⟩
  · have hf := hf
    simp only [List.mem_cons, List.not_mem_nil, or_false] at hf
    omega
  · simp only [List.mem_cons, List.not_mem_nil, or_false] at hg
    rcases hg with rfl | rfl | rfl | rfl | rfl | rfl <;> exact (f _ rfl).2.2.1 n
/-- a node was made -/
theorem FSt.mkd (h : FSt md x0 l X N0 z7 C B P mss fss D M σ V I Bm K N Lp dc x3) (W' : FW C B P mss fss D' M' σ') (FX' : FlX z7 C P D' mss M' σ' V I Bm) (NS' : NdS md x0 l X N0 D' M' σ' (K + 1) (N + 1)) (h0' : tI σ' 0 = 0) (v : Wz C C P M M' σ σ') (dx : Dx D D' M) (hp : ∀ i, i ≠ l → pl D' i = pl D i) (nk : NdK D M σ D' M' σ' l K N) (fq : Fq D (fun t => t = x0 ∨ t = l ∨ t = tg l K) M M') (sg : SgX M M' σ σ') (ff : Ft [121, 122, 123, 124, 125, 126, 127, 131, 134] σ σ' ∧ (tI σ 129 = 0 → tI σ' 127 = tI σ 127)) : FSt md x0 l X N0 z7 C B P mss fss D' M' σ' V I Bm (K + 1) (N + 1) Lp dc x3 ∧ FTr x0 C P l K N dc D M σ D' M' σ' := by
  have f := ff.1
  obtain ⟨W, FX, NS, LP, CA, ⟨h1, h2, h3⟩, h4, h5⟩ := h
  have h167 := W.n167
  have ax : 104 < x0 ∧ x0 < 167 ∧ 104 < l ∧ l < 167 ∧ x0 ≠ 110 ∧ l ≠ 110 ∧ l ≠ 109 := by
    rcases NS.1.2 with ⟨rfl, rfl, rfl, -⟩ | ⟨rfl, rfl, rfl, -⟩ | ⟨rfl, rfl, rfl, -⟩ | ⟨rfl, rfl, rfl, -⟩ <;> decide
  have hK4 : K < 40000 := by
    have q1 := NS'.2.1.2.2.1
    have q2 : X ≤ 40000 := by rcases NS.1.2 with ⟨-, -, rfl, -⟩ | ⟨-, -, rfl, -⟩ | ⟨-, -, rfl, -⟩ | ⟨-, -, rfl, -⟩ <;> decide
    omega
  have s0 : ∀ o, o < 167 → o ≠ x0 → o ≠ l → So M M' o := fun o h1 h2 h3 => Fz.so fq (by omega) (fun z => by
    rw [tgo_s h1] at z
    unfold tg at z
    omega)
  have s1 := s0 1 (by decide) (by omega) (by omega)
  have s103 := s0 103 (by decide) (by omega) (by omega)
  have s104 := s0 104 (by decide) (by omega) (by omega)
  have s110 := s0 110 (by decide) (by omega) (by omega)
  have ht : ∀ k, tA σ' 135 k = tA σ 135 k ∧ tA σ' 136 k = tA σ 136 k := fun k => ⟨(f 135 rfl).2.2.1 k, (f 136 rfl).2.2.1 k⟩
  have p109 : pl D' 109 = pl D 109 := hp 109 (by omega)
  refine ⟨⟨W', FX', NS', LP.mv v (s1.i 24) (fun k => ⟨s103.a k, s104.a k⟩) f (by decide), CA.mv v (fun k _ => by rw [p109]) (fun k _ => s110.a k) (fun k _ => ht k), ⟨by rw [p109]; exact h1, h2, by rw [(f 137 rfl).1]; exact h3⟩, by rw [(f 138 rfl).1]; exact h4, h0'⟩, v, dx, nk, sg, f.mono (by decide), fun k _ => ht k, ⟨fun f => s1.i f, fun f _ _ => s1.r f, Fq.mono fq (fun t z => by unfold TB; rcases z with z | z | z; exact Or.inr (Or.inr (Or.inr (Or.inl z))); exact Or.inr (Or.inr (Or.inr (Or.inr (Or.inl z)))); exact Or.inr (Or.inr (Or.inr (Or.inr (Or.inr ⟨K, hK4, z⟩)))))⟩, fun k _ => s110.a k, fun i h1 _ => hp i h1, p109, ff.2⟩
end FST
