/-! Layer B: parameters: the state while they are worked out -/
set_option maxRecDepth 100000
abbrev prS : List Nat := [104, 160, 161, 170, 171]
/-- nothing but the values of variables, and how many are under way -/
def E4o (D : FQ) (V : Nat) (M M' : CM) : Prop := Fz (fun o => o = 1 ∨ ∃ k, k < V ∧ o = (pl D 98).getD k 0) M M' ∧ (mn M' = mn M ∧ ms M' = ms M) ∧ (∀ f o, ¬ (f = 33 ∧ o = 1) → ¬ ((f = 3213 ∨ f = 3215 ∨ f = 3216) ∧ 167 ≤ o) → mI M' f o = mI M f o) ∧ (∀ f o, mR M' f o = mR M f o) ∧ (∀ o, mk M' o = mk M o ∧ ml M' o = ml M o) ∧ ∀ o k, mA M' o k = mA M o k
/-- a variable's value and whether it is known, both sides -/
def Fl1 (D : FQ) (M : CM) (σ : TS) (v : Nat) : Prop := mI M 3213 ((pl D 98).getD v 0) = tA σ 104 v ∧ ((mI M 3215 ((pl D 98).getD v 0) = 1 ∧ tA σ 160 v = 2) ∨ (mI M 3215 ((pl D 98).getD v 0) = 0 ∧ mI M 3216 ((pl D 98).getD v 0) = 1 ∧ tA σ 160 v = 1) ∨ (mI M 3215 ((pl D 98).getD v 0) = 0 ∧ mI M 3216 ((pl D 98).getD v 0) = 0 ∧ tA σ 160 v = 0))
/-- a variable's tree, if it has one -/
def Vx1 (D : FQ) (M : CM) (σ : TS) (V K N v : Nat) : Prop := (mR M 3210 ((pl D 98).getD v 0) = 0 ∧ tA σ 158 v = 0) ∨ ∃ n, tA σ 158 v = nI n ∧ NdR 1 D M σ 106 V 100 0 K N (mR M 3210 ((pl D 98).getD v 0)) n
/-- the state: u parameters under way, s places of the stack in use, with t -/
def PrI (D : FQ) (V : Nat) (M0 : CM) (σ0 : TS) (u : Nat) : IvT := fun s t M σ => (E4o D V M0 M ∧ Ft prS σ0 σ) ∧ (tI σ 0 = 0 ∧ tI σ 171 = nI s ∧ ∀ j, j < s → tA σ 170 j = t j) ∧ (mI M 33 1 = nI u ∧ tI σ 161 = nI u) ∧ ∀ v, v < V → Fl1 D M σ v
def PrB (C : PC) (B : Nat) (P : Nat → Prop) (mss fss : List Nat) (M0 : CM) (σ0 : TS) : BdT := fun s _ M σ w => FfG C B P mss fss M0 M σ0 σ w ∧ tI σ 171 = nI s ∧ Ft ([0, 1] ++ prS) σ0 σ
def PrN (D : FQ) (M0 : CM) (σ0 : TS) (V K N K2 N2 : Nat) : Nat → Nat → Nat → Nat → Prop := fun h s a n => NdR 1 D M0 σ0 106 V h s K N a n ∨ NdR 1 D M0 σ0 108 V h s K2 N2 a n
section PRS
variable {C : PC} {D D' : FQ} {M M' M1 M2 M3 M0 : CM} {σ σ' σ1 σ2 σ0 s1 : TS} {mss fss : List Nat} {B V I Bm k0 t0 h kf tf d s a n x z q K N K2 N2 u v l : Nat} {P T : Nat → Prop} {x2 y r : Int32} {z7 : Nat → Nat} {t : Nat → Int32} {S : List Nat}
theorem E4o.rf : E4o D V M M := ⟨Fz.rf, ⟨rfl, rfl⟩, fun _ _ _ _ => rfl, fun _ _ => rfl, fun _ => ⟨rfl, rfl⟩, fun _ _ => rfl⟩
theorem E4o.tr (h : E4o D V M M1) (g : E4o D V M1 M2) : E4o D V M M2 := ⟨h.1.tr2 g.1 (fun _ _ z => z), ⟨g.2.1.1.trans h.2.1.1, g.2.1.2.trans h.2.1.2⟩, fun f o z y => (g.2.2.1 f o z y).trans (h.2.2.1 f o z y), fun f o => (g.2.2.2.1 f o).trans (h.2.2.2.1 f o), fun o => ⟨(g.2.2.2.2.1 o).1.trans (h.2.2.2.2.1 o).1, (g.2.2.2.2.1 o).2.trans (h.2.2.2.2.1 o).2⟩, fun o k => (g.2.2.2.2.2 o k).trans (h.2.2.2.2.2 o k)⟩
theorem E4o.w33 : E4o D V M (msI M 33 1 y) := ⟨Fz.rf.msI (fun _ => Or.inl rfl), ⟨rfl, rfl⟩, fun f o z _ => by rw [mI_msI, ifF (fun q => z q)], fun _ _ => rfl, fun _ => ⟨rfl, rfl⟩, fun _ _ => rfl⟩
theorem E4o.wv {f : Nat} (hf : f = 3213 ∨ f = 3215 ∨ f = 3216) (hv : v < V) (hp : 167 ≤ (pl D 98).getD v 0) : E4o D V M (msI M f ((pl D 98).getD v 0) y) := ⟨Fz.rf.msI (fun _ => Or.inr ⟨v, hv, rfl⟩), ⟨rfl, rfl⟩, fun g o z w => by rw [mI_msI, ifF (fun q => w ⟨by omega, by omega⟩)], fun _ _ => rfl, fun _ => ⟨rfl, rfl⟩, fun _ _ => rfl⟩
theorem E4o.fw (h : E4o D V M M') (W : FW C B P mss fss D M σ) (hV : V ≤ (pl D 98).length ∧ V ≤ 96) (f : Ft S σ σ') (hK : itK.all (fun k => !S.contains k) = true) : FW C B P mss fss D M' σ' ∧ Wz C C P M M' σ σ' := by
  obtain ⟨h1, h2, h3, h4, h5, h6⟩ := h
  obtain ⟨a, b, -⟩ := W.w2 h1 (fun o _ z => by
    rcases z with z | ⟨k, hk, z⟩
    · exact Or.inl (Or.inl (by omega))
    · obtain ⟨-, q2, q3⟩ := W.2.1.2.1 98 (by decide) k (by omega)
      rw [z, q3]
      exact Or.inr ⟨q2.1, by unfold tg; omega, fun j => by unfold tg; omega⟩) h2 (fun o => ⟨h4 _ _, h4 _ _, (h5 o).2⟩) (fun o => h4 _ _) (h3 _ _ (by omega) (by omega)) (fun q hq => h4 _ _) (fun q hq => by
    have := fixI q hq
    have r : ∀ q, q ∈ bfI → q.1 ≠ 33 := by decide +kernel
    exact h3 _ _ (fun z => r q hq z.1) (by omega)) f hK
  exact ⟨a, b⟩
theorem E4o.fq (h : E4o D V M M') (W : FW C B P mss fss D M σ) (hV : V ≤ (pl D 98).length) : Fq D (fun t => t = 1 ∨ ∃ k, k < V ∧ t = tg 98 k) M M' := h.1.mono (fun o ho z => by
  rcases z with z | ⟨k, hk, z⟩
  · rw [z, tgo_s (by decide)]; exact Or.inl rfl
  · obtain ⟨-, q2, q3⟩ := W.2.1.2.1 98 (by decide) k (by omega)
    rw [z, tgo_d q2.1, q3]; exact Or.inr ⟨k, hk, rfl⟩)
theorem E4o.sg (h : E4o D V M M') (W : FW C B P mss fss D M σ) (hV : V ≤ (pl D 98).length) (f : Ft S σ σ') (hS : S.all fgS.contains = true) : SgX M M' σ σ' := SgX.mk1 (fun o h1 h2 => h.1.so (by have := W.n167; omega) (fun z => by
  rcases z with z | ⟨k, hk, z⟩
  · omega
  · have := (W.2.1.2.1 98 (by decide) k (by omega)).2.1; omega)) (fun f hf => h.2.2.1 f 1 (fun z => by rw [z.1] at hf; exact absurd hf (by decide)) (by omega)) (f.mono hS)
theorem E4o.fx (h : E4o D V M M') (W : FW C B P mss fss D M σ) (FX : FlX z7 C P D mss M σ V I Bm) (f : Ft S σ σ') (hK : (flN ++ itK).all (fun k => !S.contains k) = true) : FlX z7 C P D mss M' σ' V I Bm := by
  have hK2 : itK.all (fun k => !S.contains k) = true := by
    rw [List.all_eq_true] at hK ⊢
    exact fun k hk => hK k (List.mem_append_right _ hk)
  have hV := FX.1.1.1
  have hV2 := FX.2.1.1
  exact FX.kp W (h.fq W hV) (fun t z => by
    rcases z with z | ⟨k, hk, z⟩ <;> rw [z] <;> unfold TV tg <;> omega) (fun k hk => ⟨fun f hf => h.2.2.1 _ _ (fun z => by
      have := (W.2.1.2.1 98 (by decide) k (by omega)).2.1; omega) (by omega), fun f _ => h.2.2.2.1 _ _⟩) (h.fw W ⟨hV, hV2⟩ f hK2).2 (Dx.rf D M) f hK ⟨h.2.2.1 _ _ (by omega) (by omega), h.2.2.1 _ _ (by omega) (by omega)⟩
theorem PrI.sk (W : FW C B P mss fss D M0 σ0) (hV : V ≤ (pl D 98).length ∧ V ≤ 96) (hK : (K ≤ (pl D 106).length ∧ N ≤ 70000) ∧ K2 ≤ (pl D 108).length ∧ N2 ≤ 70000) : Sk (PrI D V M0 σ0 u) (PrB C B P mss fss M0 σ0) M0 σ0 (PrN D M0 σ0 V K N K2 N2) := by
  refine ⟨fun s t M σ I => ?_, fun s t M σ x I hs => ?_, fun s t M σ x I => ?_, fun s t M σ w b => ⟨b.1.2.1.2.2.1, b.2.1⟩, fun s t M σ w x b => ?_, fun s t M σ r I hr => ?_⟩
  · obtain ⟨⟨E, f⟩, i1, i2, i3⟩ := I
    have rm := W.rm
    have h167 := W.n167
    refine ⟨i1, ⟨by rw [E.2.1.1, E.2.1.2]; omega, by rw [E.2.1.1]; omega⟩, fun h s' a n r => ?_⟩
    have fs : ∀ f o, f = 3400 ∨ f = 3401 → mI M f o = mI M0 f o := fun f o hf => E.2.2.1 f o (by omega) (by omega)
    have nd : ∀ l K N, (l = 106 ∨ l = 108) → K ≤ (pl D l).length → N ≤ 70000 → NdR 1 D M0 σ0 l V h s' K N a n → (mk M a = 18 ∧ n < 70000) := fun l K N hl hK hN r => by
      cases h with
      | zero => exact r.elim
      | succ h =>
        obtain ⟨⟨⟨k, k1, k2, -⟩, n1, n2⟩, -⟩ := r
        refine ⟨?_, by omega⟩
        rw [(E.2.2.2.2.1 a).1, k2, (W.2.1.2.1 l (by rcases hl with q | q <;> rw [q] <;> decide) k (by omega)).1]
        rcases hl with q | q <;> rw [q] <;> decide
    refine ⟨?_, ⟨fs _ _ (by omega), fs _ _ (by omega), E.2.2.2.1 _ _, E.2.2.2.1 _ _, E.2.2.2.1 _ _⟩, (f 121 rfl).2.2.1 n, (f 122 rfl).2.2.1 n, (f 123 rfl).2.2.1 n, (f 124 rfl).2.2.1 n⟩
    rcases r with r | r
    · exact nd 106 K N (Or.inl rfl) hK.1.1 hK.1.2 r
    · exact nd 108 K2 N2 (Or.inr rfl) hK.2.1 hK.2.2 r
  · obtain ⟨⟨E, f⟩, ⟨i1, i2, i3⟩, ⟨i4, i5⟩, i6⟩ := I
    refine ⟨⟨E, (f.p_tsA rfl).p_tsI rfl⟩, ⟨i1, rfl, fun j hj => ?_⟩, ⟨i4, i5⟩, i6⟩
    show tA (tsA σ 170 s x) 170 j = if j = s then x else t j
    rw [tA_tsA]
    by_cases q : j = s
    · rw [ifT ⟨rfl, q⟩, ifT q]
    · rw [ifF (fun z => q z.2), ifF q]; exact i3 j (by omega)
  · obtain ⟨⟨E, f⟩, ⟨i1, i2, i3⟩, ⟨i4, i5⟩, i6⟩ := I
    refine ⟨⟨E, f.p_tsI rfl⟩, ⟨i1, rfl, fun j hj => ?_⟩, ⟨i4, i5⟩, i6⟩
    have this : tA σ 170 j = if j = s then x else t j := i3 j (by omega)
    rw [ifF (show ¬ j = s by omega)] at this
    exact this
  · obtain ⟨b1, b2, b3⟩ := b
    exact ⟨b1.tws (S := [171]) ((Ft.rf _ σ).p_tsI rfl) (by decide) (by decide) (by decide), rfl, b3.p_tsI rfl⟩
  · obtain ⟨⟨E, f⟩, ⟨i1, i2, i3⟩, ⟨i4, i5⟩, i6⟩ := I
    obtain ⟨W', v⟩ := E.fw W hV f (by decide)
    obtain ⟨-, -, g⟩ := W'.badG hr i1
    exact ⟨g.tr (E.sg W hV.1 f (by decide)), i2, (f.mono (by decide)).tr (badT_f.mono (by decide))⟩
end PRS
