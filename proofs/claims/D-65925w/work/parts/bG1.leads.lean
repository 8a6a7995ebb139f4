/-! Layer B: the flat model: whether all of an instance's modifications lead somewhere -/
set_option maxRecDepth 100000
/-- the twin finds names among what came from Bm on into instance i: class k at depth d -/
def HasP (σ' : TS) (a b i k d : Nat) : Prop := (∀ s, Ft fiS σ' s → ∀ x dp g, dp ≤ d + 2 → 13 - d ≤ g → (hs σ' a b i x → G_has g (nI k) x (nI dp) s = some (1, s)) ∧ (¬ hs σ' a b i x → G_has g (nI k) x (nI dp) s = some (0, s))) ∧ ExD σ' (13 - d) k
/-- what the elements of class k leave, in instance i -/
def ElQ (C : PC) (B : Nat) (P : Nat → Prop) (mss fss : List Nat) (V I Bm cr R E i fr : Nat) (W : List (Nat × Nat × Nat)) (k d : Nat) (D D' : FQ) (M M' : CM) (σ σ' : TS) (V' I' Bm' : Nat) : Prop := FiS C B P mss fss D' M' σ' V' I' Bm' cr R E ∧ (V ≤ V' ∧ I ≤ I' ∧ Bm ≤ Bm') ∧ SqM C P V I Bm R E i D D' M M' σ σ' ∧ HitP D D' M M' σ' Bm Bm' i fr R W ∧ (∀ b, Bm ≤ b → b < Bm' → MbC D' mss M' σ' V' I' b ∧ ∃ n, tA σ' 83 b = nI n ∧ n < I' ∧ (n = i ∨ I ≤ n)) ∧ (NwI σ' I I' i d ∧ VoS σ' V V' Bm Bm' ∧ NwC σ' V V' I I' ∧ CnI σ' i V V' (13 - d) k) ∧ HasP σ' Bm Bm' i k d
/-- the elements of a class at depth d, both sides -/
def ElP (C : PC) (B : Nat) (P : Nat → Prop) (mss fss : List Nat) (cf : Nat → Nat → Int32 → Int32 → Int32 → CM → Option ((Unit ⊕ Nat) × CM)) (cf' : Int32 → Int32 → Int32 → TS → Option (Unit × TS)) (d : Nat) : Prop := ∀ (D : FQ) (M : CM) (σ : TS) (V I Bm cr R E i tf cb fr : Nat) (W : List (Nat × Nat × Nat)) (ks : List (Nat × Nat)) (k : Nat), FiS C B P mss fss D M σ V I Bm cr R E → Cx C P D M σ I R E d i tf cb fr W ks → k < mss.length →
  (∃ D' M' σ' w, cf ((pl D 99).getD i 0) (mss.getD k 0) (nI fr) (nI (fr + (W ++ wcE i ks).length)) (nI d) M = some (.inr w, M') ∧ cf' (nI i) (nI k) (nI d) σ = some ((), σ') ∧ FfO C B P mss fss TFf fiS [15, 16, 17, 18, 31] D D' M M' σ σ' w) ∨
  ∃ D' M' σ' V' I' Bm', cf ((pl D 99).getD i 0) (mss.getD k 0) (nI fr) (nI (fr + (W ++ wcE i ks).length)) (nI d) M = some (.inl (), M') ∧ cf' (nI i) (nI k) (nI d) σ = some ((), σ') ∧ ElQ C B P mss fss V I Bm cr R E i fr (W ++ wcE i ks) k d D D' M M' σ σ' V' I' Bm'
section LEADS
variable {C C' : PC} {D D' D2 : FQ} {M M' M1 M2 : CM} {σ σ' σ0 σ2 : TS} {mss fss xs bs qs os : List Nat} {B l k n o m u w Q I I' L V V' Bm Bm' b v r R R' E E' cr i i' k0 fr e eo fl z env kk tf cb d len to : Nat} {P P' X T : Nat → Prop} {S S' : List Nat} {a : Nat × Nat × Nat} {A W W1 W2 : List (Nat × Nat × Nat)} {ks : List (Nat × Nat)} {x : Int64} {idx : Int32}
/-- hits are taken back -/
theorem k_reset {cf : Nat → Nat → Int32 → Int32 → Int32 → CM → Option ((Unit ⊕ Nat) × CM)} {x1 x2 x6 x7 : Nat} {x3 x5 x9 : Int32} (hto : to ≤ R) : ∀ (d j f : Nat) (M : CM), j + d = to → d < f → FiS C B P mss fss D M σ V I Bm cr R E → ∃ M', KL_X0_instances_122 cf f x1 x2 x3 x5 x6 x7 (nI to) x9 (nI j) M = some ((), M') ∧ FiS C B P mss fss D M' σ V I Bm cr R E ∧ Wz C C P M M' σ σ ∧ (∀ r, r < R → RwS D M D M' r) ∧ (∀ r, r < R → hit D M' r = if j ≤ r ∧ r < to then 0 else hit D M r) ∧ FqO D (Tr 0) M M' ∧ mn M' = mn M := by
  intro d
  induction d with
  | zero =>
    intro j f M hj hf F
    obtain ⟨f, rfl⟩ : ∃ g, f = g + 1 := ⟨f - 1, by omega⟩
    have l101 := F.lens.1
    refine ⟨M, ?_, F, Wz.rf (by have := F.1.1.2.2.2.2.1; omega), fun _ _ => RwS.rf, fun r hr => (ifF (by omega)).symm, FqO.rf, rfl⟩
    rw [KL_X0_instances_122, ifT ((bI_le (by omega) (by omega)).mpr (by omega))]
  | succ d ih =>
    intro j f M hj hf F
    obtain ⟨f, rfl⟩ : ∃ g, f = g + 1 := ⟨f - 1, by omega⟩
    have l := F.lens
    have kr := F.kr (r := j) (by omega)
    have get := ls_get (F.1.2.1.1 101 (by decide)).1 (show j < (pl D 101).length by omega)
    obtain ⟨F1, v1, st1, q1⟩ := F.hitw (r := j) (u := 0) (by omega)
    obtain ⟨M', g1, g2, g3, g4, g5, g6, g7⟩ := ih (j + 1) f _ (by omega) (by omega) F1
    refine ⟨M', ?_, g2, v1.tr g3 (fun _ z => z), fun r hr => (st1 r hr).1.tr (g4 r hr), fun r hr => ?_, q1.tr g6 (Dx.rf D M), g7⟩
    · rw [KL_X0_instances_122, ifF (fun z => by have := (bI_le (by omega) (by omega)).mp z; omega), get, ob_some, ifT (Or.inr kr), ifT kr, nm_eq, nI_addL, nm_eq]
      exact g1
    · rw [g5 r hr, (st1 r hr).2]
      by_cases q : j + 1 ≤ r ∧ r < to
      · rw [ifT q, ifT (by omega)]
      · rw [ifF q]
        by_cases y : r = j
        · rw [ifT y, ifT (by omega)]
        · rw [ifF y, ifF (by omega)]
theorem k_allHit (F : FiS C B P mss fss D M σ V I Bm cr R E) (hto : to ≤ R) : ∀ (d j f : Nat), j + d = to → d < f → (∀ r, j ≤ r → r < to → hit D M r ≠ 0) ∧ KL_X0_allHit_2 f (nI to) (nI j) M = some (.inl (), M) ∨ (∃ r, j ≤ r ∧ r < to ∧ hit D M r = 0) ∧ KL_X0_allHit_2 f (nI to) (nI j) M = some (.inr (.inr (mn M)), wM M 21 0) := by
  intro d
  have l := F.lens
  have hm := F.1.rm
  have h167 := F.1.n167
  induction d with
  | zero =>
    intro j f hj hf
    obtain ⟨f, rfl⟩ : ∃ g, f = g + 1 := ⟨f - 1, by omega⟩
    refine Or.inl ⟨fun r h1 h2 => by omega, ?_⟩
    rw [KL_X0_allHit_2, ifT ((bI_le (by omega) (by omega)).mpr (by omega))]
  | succ d ih =>
    intro j f hj hf
    obtain ⟨f, rfl⟩ : ∃ g, f = g + 1 := ⟨f - 1, by omega⟩
    have kr := F.kr (r := j) (by omega)
    have get := ls_get (F.1.2.1.1 101 (by decide)).1 (show j < (pl D 101).length by omega)
    rw [KL_X0_allHit_2, ifF (fun z => by have := (bI_le (by omega) (by omega)).mp z; omega), get, ob_some, ifT (Or.inr kr), ifT kr]
    by_cases q : mI M 2803 ((pl D 101).getD j 0) = 0
    · right
      refine ⟨⟨j, Nat.le_refl _, by omega, q⟩, ?_⟩
      rw [ifT q, k_wrong (by omega) (by omega), ob_some, ifT (wM_k M 21 0)]
    · rw [ifF q, nI_addL, nm_eq]
      rcases ih (j + 1) f (by omega) (by omega) with ⟨g1, g2⟩ | ⟨⟨r, g1, g2, g3⟩, g4⟩
      · refine Or.inl ⟨fun r h1 h2 => ?_, g2⟩
        by_cases y : r = j
        · rw [y]; exact q
        · exact g1 r (by omega) h2
      · exact Or.inr ⟨⟨r, by omega, g2, g3⟩, g4⟩
theorem z_allHit (F : FiS C B P mss fss D M σ V I Bm cr R E) (hto : to ≤ R) (h : fr ≤ to) : (∀ r, fr ≤ r → r < to → hit D M r ≠ 0) ∧ K_X0_allHit (nI fr) (nI to) M = some (.inl (), M) ∨ (∃ r, fr ≤ r ∧ r < to ∧ hit D M r = 0) ∧ K_X0_allHit (nI fr) (nI to) M = some (.inr (mn M), wM M 21 0) := by
  have l := F.lens
  have fu := FUb
  unfold K_X0_allHit
  rcases k_allHit F hto (to - fr) fr FU (by omega) (by omega) with ⟨g1, g2⟩ | ⟨g1, g2⟩
  · exact Or.inl ⟨g1, by rw [g2, obS_inl]⟩
  · exact Or.inr ⟨g1, by rw [g2, obS_inr]⟩
/-- one entry leads somewhere if the twin finds its name -/
theorem hsL_re {p q : Nat} (h : tA σ 62 a.1 ≠ 0) : hsL σ p q i a ↔ hs σ p q i (tB σ 63 a.1) := by
  constructor
  · rintro ⟨x, h1, h2⟩
    rcases ldB_iff.mp h2 with ⟨_, y⟩ | ⟨y, _⟩
    · rw [y]; exact h1
    · exact absurd y h
  · intro h1
    exact ⟨_, h1, ldB_iff.mpr (Or.inl ⟨h, rfl⟩)⟩
theorem hsL_pa {p q : Nat} (h : tA σ 62 a.1 = 0) : hsL σ p q i a ↔ 0 < pth σ a.1 a.2.1 ∧ hs σ p q i (tB σ 29 (ix (pth σ a.1 a.2.1))) := by
  constructor
  · rintro ⟨x, h1, h2⟩
    rcases ldB_iff.mp h2 with ⟨y, _⟩ | ⟨_, y, y2⟩
    · exact absurd h y
    · rw [y2]; exact ⟨y, h1⟩
  · rintro ⟨h1, h2⟩
    exact ⟨_, h2, ldB_iff.mpr (Or.inr ⟨h, h1, rfl⟩)⟩
theorem t_leads {p q k d : Nat} (h0 : tI σ 0 = 0) (hH : HasP σ p q i k d) (hd : d ≤ 13) (hE4 : E + len ≤ 40000) : ∀ (W : List (Nat × Nat × Nat)) (j f : Nat), j + W.length = len → W.length + 1 < f → EsR σ (E + j) W → (∀ a, a ∈ W → EnB σ a) → (∃ a, a ∈ W ∧ ¬ hsL σ p q i a) ∧ L_leads_3 f (nI E) (nI len) (nI k) (nI (E + j)) σ = some ((), badT σ 21) ∨ (∀ a, a ∈ W → hsL σ p q i a) ∧ L_leads_3 f (nI E) (nI len) (nI k) (nI (E + j)) σ = some ((), σ)
  | [], j, f, hj, hf, hE, hB => by
    obtain ⟨f, rfl⟩ : ∃ g, f = g + 1 := ⟨f - 1, by omega⟩
    have hj : j = len := hj
    refine Or.inr ⟨fun a ha => absurd ha List.not_mem_nil, ?_⟩
    rw [L_leads_3, bI_add, ifT ((bI_le (by omega) (by omega)).mpr (by omega))]
  | a :: W, j, f, hj, hf, hE, hB => by
    obtain ⟨f, rfl⟩ : ∃ g, f = g + 1 := ⟨f - 1, by omega⟩
    have hlen : (a :: W).length = W.length + 1 := rfl
    rw [hlen] at hj hf
    obtain ⟨e1, e2, e3⟩ : EvR σ (E + j) a := by have := hE 0 (by rw [hlen]; omega); exact this
    obtain ⟨b1, b2, b3⟩ := hB a List.mem_cons_self
    have hin : inb (nI (E + j)) 40000 := inb_nI' (by omega) (by decide)
    have hix : ix (nI (E + j)) = E + j := ix_nI (by omega)
    have next := t_leads h0 hH hd hE4 W (j + 1) f (by omega) (by omega) (fun c hc => by
      have := hE (c + 1) (by rw [hlen]; omega)
      rw [show E + j + (c + 1) = E + (j + 1) + c by omega] at this
      exact this) (fun a ha => hB a (List.mem_cons_of_mem _ ha))
    have stop : ∀ s : TS, tI s 0 ≠ 0 → L_leads_3 f (nI E) (nI len) (nI k) (nI (E + j + 1)) s = some ((), s) := fun s hs => by
      obtain ⟨f, rfl⟩ : ∃ g, f = g + 1 := ⟨f - 1, by omega⟩
      rw [L_leads_3]
      by_cases y : nI E + nI len ≤ nI (E + j + 1)
      · rw [ifT y]
      · rw [ifF y, t_isBad1 hs, ob_some, ifF (show ¬ (1 : Int32) = 0 by decide)]
    have good : hsL σ p q i a → (∃ b, b ∈ a :: W ∧ ¬ hsL σ p q i b) ∧ L_leads_3 f (nI E) (nI len) (nI k) (nI (E + j + 1)) σ = some ((), badT σ 21) ∨ (∀ b, b ∈ a :: W → hsL σ p q i b) ∧ L_leads_3 f (nI E) (nI len) (nI k) (nI (E + j + 1)) σ = some ((), σ) := fun h => by
      rcases next with ⟨⟨b, n1, n2⟩, n3⟩ | ⟨n1, n2⟩
      · exact Or.inl ⟨⟨b, List.mem_cons_of_mem _ n1, n2⟩, n3⟩
      · refine Or.inr ⟨fun b hb => ?_, n2⟩
        rcases List.mem_cons.mp hb with g | g
        · rw [g]; exact h
        · exact n1 b g
    have bad : ¬ hsL σ p q i a → (∃ b, b ∈ a :: W ∧ ¬ hsL σ p q i b) ∧ L_leads_3 f (nI E) (nI len) (nI k) (nI (E + j + 1)) (badT σ 21) = some ((), badT σ 21) ∨ False := fun h => Or.inl ⟨⟨a, List.mem_cons_self, h⟩, stop _ (badT_ne (by decide))⟩
    have has := fun x => hH.1 σ (Ft.rf _ _) x 0 300 (by omega) (by omega)
    rw [L_leads_3, bI_add, ifF (fun z => by have := (bI_le (by omega) (by omega)).mp z; omega), t_isBad0 h0, ob_some, ifT (rfl : (0 : Int32) = 0), ifT hin, hix, e3]
    by_cases r62 : tA σ 62 a.1 = 0
    · obtain ⟨y, q1, q2⟩ := b3 r62
      rw [ifT r62, q2]
      by_cases y0 : y = 0
      · have nh : ¬ hsL σ p q i a := fun z => by
          have := ((hsL_pa r62).mp z).1
          rw [q2, y0] at this
          exact absurd this (by decide)
        rw [ifT (show nI y = 0 from by rw [y0]; rfl), t_badT h0, ob_some, nI_addL, nm_eq]
        rcases bad nh with g | g
        · exact Or.inl g
        · exact absurd g (fun z => z)
      · rw [ifF (show ¬ nI y = 0 from fun z => y0 ((bI_eq (b := 0) (by omega) (by decide)).mp z)), ifT hin, ifT (show (0 : Int32) ≤ nI y from by rw [show (0 : Int32) = nI 0 from rfl, bI_le (by decide) (by omega)]; omega), ifT hin, ifT (inb_nI' (by omega) (by decide))]
        have pos : 0 < nI y := by rw [show (0 : Int32) = nI 0 from rfl, bI_lt (by decide) (by omega)]; omega
        have hh := has (tB σ 29 (ix (nI y)))
        show (_ ∧ (ob (G_has 300 (nI k) (tB σ 29 (ix (nI y))) (nI 0) σ) _) = _) ∨ (_ ∧ (ob (G_has 300 (nI k) (tB σ 29 (ix (nI y))) (nI 0) σ) _) = _)
        by_cases hx : hs σ p q i (tB σ 29 (ix (nI y)))
        · rw [hh.1 hx, ob_some, ifF (show ¬ (1 : Int32) = 0 by decide), nI_addL, nm_eq]
          exact good ((hsL_pa r62).mpr (by rw [q2]; exact ⟨pos, hx⟩))
        · rw [hh.2 hx, ob_some, ifT rfl, t_badT h0, ob_some, nI_addL, nm_eq]
          rcases bad (fun z => hx (by have := ((hsL_pa r62).mp z).2; rw [q2] at this; exact this)) with g | g
          · exact Or.inl g
          · exact absurd g (fun z => z)
    · have hh := has (tB σ 63 a.1)
      rw [ifF r62, ifF (show ¬ (-1 : Int32) = 0 by decide), ifT hin, ifF (show ¬ (0 : Int32) ≤ -1 by decide), ifT hin, e1, ifT (inb_nI' (by omega) (by decide)), ix_nI (by omega)]
      show (_ ∧ (ob (G_has 300 (nI k) (tB σ 63 a.1) (nI 0) σ) _) = _) ∨ (_ ∧ (ob (G_has 300 (nI k) (tB σ 63 a.1) (nI 0) σ) _) = _)
      by_cases hx : hs σ p q i (tB σ 63 a.1)
      · rw [hh.1 hx, ob_some, ifF (show ¬ (1 : Int32) = 0 by decide), nI_addL, nm_eq]
        exact good ((hsL_re r62).mpr hx)
      · rw [hh.2 hx, ob_some, ifT rfl, t_badT h0, ob_some, nI_addL, nm_eq]
        rcases bad (fun z => hx ((hsL_re r62).mp z)) with g | g
        · exact Or.inl g
        · exact absurd g (fun z => z)
end LEADS
