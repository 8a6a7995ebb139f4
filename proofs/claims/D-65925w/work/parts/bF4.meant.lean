/-! Layer B: the flat model: whether a redeclaration is meant for a name (the twin) -/
set_option maxRecDepth 100000
section MEANT
variable {σ σ' σ0 σ2 : TS} {B l k n o m u w E E' i k0 fr e cb : Nat} {S S' : List Nat} {a : Nat × Nat × Nat} {W W1 W2 : List (Nat × Nat × Nat)} {x : Int64} {x1 x2 x3 x5 x6 x7 x8 x9 x10 : Int32} {x4 : Int64} {ks : List (Nat × Nat)}
theorem t_im8 (hi : i < 200) (hv : tA σ 78 i = nI fr ∧ tA σ 79 i = nI n) (h4 : fr + n ≤ 40000) : ∀ (W : List (Nat × Nat × Nat)) (j f : Nat), j + W.length = n → W.length < f → EsR σ (fr + j) W → (∀ a, a ∈ W → EnB σ a ∧ 1 ≤ a.1) → L_isMeant_8 f (nI i) x 1 (nI (fr + j)) σ = some (if rdk σ x W = 0 then .inl () else .inr 1, σ)
  | [], j, f, hj, hf, _, _ => by
    obtain ⟨f, rfl⟩ : ∃ g, f = g + 1 := ⟨f - 1, by omega⟩
    have hj : j = n := hj
    rw [L_isMeant_8, ifT (inb_nI' hi (by decide)), ifT (inb_nI' hi (by decide)), ix_nI (by omega), hv.1, hv.2, bI_add, ifT ((bI_le (by omega) (by omega)).mpr (by omega)), ifT (show rdk σ x [] = 0 from rfl)]
  | a :: W, j, f, hj, hf, hE, hB => by
    obtain ⟨f, rfl⟩ : ∃ g, f = g + 1 := ⟨f - 1, by omega⟩
    have hlen : (a :: W).length = W.length + 1 := rfl
    rw [hlen] at hj hf
    obtain ⟨e1, e2, e3⟩ : EvR σ (fr + j) a := by have := hE 0 (by rw [hlen]; omega); exact this
    obtain ⟨⟨b1, b2, b3⟩, b4⟩ := hB a List.mem_cons_self
    have hin : inb (nI (fr + j)) 40000 := inb_nI' (by omega) (by decide)
    have hix : ix (nI (fr + j)) = fr + j := ix_nI (by omega)
    have next := t_im8 hi hv h4 W (j + 1) f (by omega) (by omega) (fun c hc => by
      have := hE (c + 1) (by rw [hlen]; omega)
      rw [show fr + j + (c + 1) = fr + (j + 1) + c by omega] at this
      exact this) (fun a ha => hB a (List.mem_cons_of_mem _ ha))
    rw [L_isMeant_8, ifT (inb_nI' hi (by decide)), ifT (inb_nI' hi (by decide)), ix_nI (by omega), hv.1, hv.2, bI_add, ifF (fun z => by have := (bI_le (by omega) (by omega)).mp z; omega), ifF (show ¬ (1 : Int32) = 0 by decide), ifT hin, hix, e3, nI_addL, nm_eq]
    by_cases r62 : tA σ 62 a.1 = 0
    · obtain ⟨q, q1, q2⟩ := b3 r62
      rw [ifT r62, q2, ifT (show (0 : Int32) ≤ nI q from by rw [show (0 : Int32) = nI 0 from rfl, bI_le (by decide) (by omega)]; omega)]
      rw [show rdk σ x (a :: W) = rdk σ x W from ifF (fun z => z.2 r62)]
      exact next
    · rw [ifF r62, ifF (show ¬ (0 : Int32) ≤ -1 by decide), ifT hin, e1, ifT (inb_nI' (by omega) (by decide)), ix_nI (by omega)]
      by_cases q : tB σ 63 a.1 = x
      · rw [ifT (lg_eq.mpr q), show rdk σ x (a :: W) = a.1 from ifT ((ldB_re r62).mpr q), ifF (show ¬ a.1 = 0 by omega)]
      · rw [ifF (fun z => q (lg_eq.mp z))]
        rw [show rdk σ x (a :: W) = rdk σ x W from ifF (fun z => q ((ldB_re r62).mp z))]
        exact next
theorem t_im120 (hM : MlR σ k0 n) : ∀ (d t f : Nat), t + d = n → d < f → L_isMeant_120 f x 1 x5 (ptr k0 n t) σ = some (if rdk σ x (msE (k0 + t) d i) = 0 then .inl () else .inr 1, σ) := by
  intro d
  induction d with
  | zero =>
    intro t f hd hf
    obtain ⟨f, rfl⟩ : ∃ g, f = g + 1 := ⟨f - 1, by omega⟩
    rw [L_isMeant_120, ifT (show ptr k0 n t = 0 from ifF (by omega)), ifT (show rdk σ x (msE (k0 + t) 0 i) = 0 from rfl)]
  | succ d ih =>
    intro t f hd hf
    obtain ⟨f, rfl⟩ : ∃ g, f = g + 1 := ⟨f - 1, by omega⟩
    have hk := hM.1
    obtain ⟨pe, n0, hin, hix⟩ := ptr_ne (k := t) (n := n) (k0 := k0) (by omega) hM.1
    have m1' := ptr_next hM (k := t) (by omega)
    have m3 := (hM.2 t (by omega)).2.2
    have next := ih (t + 1) f (by omega) (by omega)
    rw [L_isMeant_120, ifF n0, ifT hin, hix, m1', nm_eq, msE_succ]
    by_cases r62 : tA σ 62 (k0 + t) = 0
    · rw [r62, ifF (show ¬ (0 : Int32) = 1 by decide), ifT hin]
      rw [show rdk σ x ((k0 + t, 0, i) :: msE (k0 + t + 1) d i) = rdk σ x (msE (k0 + t + 1) d i) from ifF (fun z => z.2 r62)]
      exact next
    · have r1 : tA σ 62 (k0 + t) = 1 := by
        rcases m3 with q | q
        · exact absurd q r62
        · exact q
      rw [ifT r1, ifF (show ¬ (1 : Int32) = 0 by decide), ifT hin]
      by_cases q : tB σ 63 (k0 + t) = x
      · rw [ifT (lg_eq.mpr q), show rdk σ x ((k0 + t, 0, i) :: msE (k0 + t + 1) d i) = k0 + t from ifT ((ldB_re (a := (k0 + t, 0, i)) r62).mpr q), ifF (show ¬ k0 + t = 0 by omega)]
      · rw [ifF (fun z => q (lg_eq.mp z)), ifT hin]
        rw [show rdk σ x ((k0 + t, 0, i) :: msE (k0 + t + 1) d i) = rdk σ x (msE (k0 + t + 1) d i) from ifF (fun z => q ((ldB_re (a := (k0 + t, 0, i)) r62).mp z))]
        exact next
theorem t_im102 : ∀ (ks : List (Nat × Nat)) (c f : Nat), tI σ 114 = nI (c + ks.length) → c + ks.length ≤ 200 → (∀ j, j < ks.length → tA σ 112 (c + j) = ptr (ks.getD j (0, 0)).1 (ks.getD j (0, 0)).2 0 ∧ MlR σ (ks.getD j (0, 0)).1 (ks.getD j (0, 0)).2) → ks.length < f → L_isMeant_102 f x 1 (nI c) σ = some (if rdk σ x (wcE i ks) = 0 then .inl () else .inr 1, σ)
  | [], c, f, h1, h2, h3, hf => by
    obtain ⟨f, rfl⟩ : ∃ g, f = g + 1 := ⟨f - 1, by omega⟩
    have h1 : tI σ 114 = nI c := h1
    rw [L_isMeant_102, h1, ifT ((bI_le (by omega) (by omega)).mpr (Nat.le_refl _)), ifT (show rdk σ x (wcE i []) = 0 from rfl)]
  | p :: ks, c, f, h1, h2, h3, hf => by
    obtain ⟨f, rfl⟩ : ∃ g, f = g + 1 := ⟨f - 1, by omega⟩
    have hlen : (p :: ks).length = ks.length + 1 := rfl
    rw [hlen] at h1 h2 hf
    obtain ⟨c1, c2⟩ := h3 0 (by rw [hlen]; omega)
    have c1 : tA σ 112 c = ptr p.1 p.2 0 := c1
    have c2 : MlR σ p.1 p.2 := c2
    have hk := c2.1
    have fu := FUb
    have g1 := t_im120 (i := i) (x := x) (x5 := nI c) c2 p.2 0 FU (by omega) (by omega)
    rw [Nat.add_zero] at g1
    have next := t_im102 ks (c + 1) f (by rw [h1]; congr 1; omega) (by omega) (fun j hj => by
      have := h3 (j + 1) (by rw [hlen]; omega)
      rw [show c + (j + 1) = c + 1 + j by omega] at this
      exact this) (by omega)
    rw [L_isMeant_102, h1, ifF (fun z => by have := (bI_le (by omega) (by omega)).mp z; omega), ifT (inb_nI' (by omega) (by decide)), ix_nI (by omega), c1, nm_eq, g1]
    rw [show rdk σ x (wcE i (p :: ks)) = rdk σ x (msE p.1 p.2 i ++ wcE i ks) from rfl, rdk_cat _ (fun a ha => by have := rdk_ms a ha; omega)]
    by_cases z : rdk σ x (msE p.1 p.2 i) = 0
    · rw [ifT z, ifT z, obS_inl, nI_addL, nm_eq]; exact next
    · rw [ifF z, ifF z, ifF z, obS_inr]
/-- whether a redeclaration is meant -/
theorem t_isMeant1 {tf : Nat} (h : CvT σ E i tf cb W ks) (h1 : ∀ a, a ∈ W → 1 ≤ a.1) : F_isMeant (nI i) x 1 σ = some (if rdk σ x (W ++ wcE i ks) = 0 then 0 else 1, σ) := by
  obtain ⟨⟨a1, a2, a3, a4⟩, h2, h3, ⟨c1, c2, c3, c4⟩, h5⟩ := h
  have fu := FUb
  have g1 := t_im8 (x := x) (fr := tf) (n := W.length) a1 ⟨a2, a3⟩ (by omega) W 0 FU (by omega) (by omega) h2 (fun a ha => ⟨h3 a ha, h1 a ha⟩)
  have g1 : L_isMeant_8 FU (nI i) x 1 (nI tf) σ = some (if rdk σ x W = 0 then .inl () else .inr 1, σ) := g1
  have g2 := t_im102 (x := x) (i := i) ks cb FU c2 c3 c4 (by omega)
  unfold F_isMeant
  rw [ifT (inb_nI' a1 (by decide)), ix_nI (by omega), a2, nm_eq, g1, rdk_cat _ h1]
  by_cases z : rdk σ x W = 0
  · rw [ifT z, ifT z, obS_inl, c1, nm_eq, g2]
    by_cases y : rdk σ x (wcE i ks) = 0
    · rw [ifT y, ifT y, obS_inl]
    · rw [ifF y, ifF y, obS_inr]
  · rw [ifF z, ifF z, ifF z, obS_inr]
end MEANT
