/-! Layer B: feed: twenty bytes come in, both sides alike -/
set_option maxRecDepth 100000
/-- nothing but ints of object 1 (those in S) and places of arrays of ints (those in A) -/
def K1f (S A : List Nat) (M M' : CM) : Prop := (mn M' = mn M ∧ ms M' = ms M) ∧ (∀ o, mk M' o = mk M o ∧ ml M' o = ml M o) ∧ (∀ g o, ¬ (S.contains g = true ∧ o = 1) → mI M' g o = mI M g o) ∧ (∀ g o, mR M' g o = mR M g o) ∧ (∀ a i, A.contains a = false → mA M' a i = mA M a i) ∧ (∀ a i, mL M' a i = mL M a i) ∧ ∀ a i, mX M' a i = mX M a i
section FEED
variable {M M' M2 : CM} {σ σ' : TS} {len : Nat} {S A : List Nat}
theorem K1f.rf (S A : List Nat) (M : CM) : K1f S A M M := ⟨⟨rfl, rfl⟩, fun _ => ⟨rfl, rfl⟩, fun _ _ _ => rfl, fun _ _ => rfl, fun _ _ _ => rfl, fun _ _ => rfl, fun _ _ => rfl⟩
theorem K1f.tr (h : K1f S A M M') (k : K1f S A M' M2) : K1f S A M M2 := ⟨⟨k.1.1.trans h.1.1, k.1.2.trans h.1.2⟩, fun o => ⟨(k.2.1 o).1.trans (h.2.1 o).1, (k.2.1 o).2.trans (h.2.1 o).2⟩, fun g o q => (k.2.2.1 g o q).trans (h.2.2.1 g o q), fun g o => (k.2.2.2.1 g o).trans (h.2.2.2.1 g o), fun a i q => (k.2.2.2.2.1 a i q).trans (h.2.2.2.2.1 a i q), fun a i => (k.2.2.2.2.2.1 a i).trans (h.2.2.2.2.2.1 a i), fun a i => (k.2.2.2.2.2.2 a i).trans (h.2.2.2.2.2.2 a i)⟩
theorem K1f.msI (h : K1f S A M M') {g : Nat} {v : Int32} (hg : S.contains g = true) : K1f S A M (msI M' g 1 v) := ⟨h.1, h.2.1, fun f o q => by rw [mI_msI, ifF (fun z => q ⟨by rw [z.1]; exact hg, z.2⟩)]; exact h.2.2.1 f o q, h.2.2.2.1, h.2.2.2.2.1, h.2.2.2.2.2.1, h.2.2.2.2.2.2⟩
theorem K1f.mwA (h : K1f S A M M') {a i : Nat} {v : Int32} (ha : A.contains a = true) : K1f S A M (mwA M' a i v) := ⟨h.1, h.2.1, h.2.2.1, h.2.2.2.1, fun b j q => by rw [mA_mwA, ifF (fun z => by rw [z.1, ha] at q; cases q)]; exact h.2.2.2.2.1 b j q, h.2.2.2.2.2.1, h.2.2.2.2.2.2⟩
theorem K1f.fz (h : K1f S A M M') : Fz (fun o => o = 1 ∨ A.contains o = true) M M' := ⟨Nat.le_of_eq h.1.1.symm, fun o _ => h.2.1 o, fun o _ q => ⟨h.2.1 o, fun g => h.2.2.1 g o (fun z => q (Or.inl z.2)), fun g => h.2.2.2.1 g o, fun i => h.2.2.2.2.1 o i (by
  cases e : A.contains o with
  | false => rfl
  | true => exact absurd (Or.inr e) q), fun i => h.2.2.2.2.2.1 o i, fun i => h.2.2.2.2.2.2 o i⟩⟩
theorem t_put {x1 x2 x3 x4 x5 x6 y : Int32} (h : tI σ 7 = nI len) (hl : len < 2000) (rec : Int32 → Int32 → Int32 → Int32 → Int32 → Int32 → TS → Option (Unit × TS)) : J_feed_72_19 rec x1 x2 x3 x4 x5 x6 y σ = rec x1 x2 x3 x4 x5 (x6 + 1) (tPut σ len (nB (y >>> ((24 - (8 * (x6 - x6 / 4 * 4))) &&& 31)))) := by
  unfold J_feed_72_19
  rw [h, ifT (inb_nI' hl (by decide)), nm_eq, ix_nI (by omega), nm_eq, nm_eq, nB_idem]
  have e : tI (tsA σ 4 len (nB (y >>> ((24 - (8 * (x6 - x6 / 4 * 4))) &&& 31)))) 7 = nI len := h
  rw [e, nI_addL]
  rfl
/-- four bytes of an int -/
def tP4 (σ : TS) (len : Nat) (y : Int32) : TS := tPut (tPut (tPut (tPut σ len (nB (y >>> (24 &&& 31)))) (len + 1) (nB (y >>> (16 &&& 31)))) (len + 2) (nB (y >>> (8 &&& 31)))) (len + 3) (nB (y >>> (0 &&& 31)))
theorem k_four (h : BtR M σ len) (hl : len + 4 ≤ 2000) (x : Int32) : ∃ M', K_X0_feedFour x M = some ((), M') ∧ BtR M' (tP4 σ len x) (len + 4) ∧ K1f [1] [2] M M' := by
  have fu : 10 < FU := by have := FUb; omega
  obtain ⟨f, hf⟩ : ∃ f, FU = f + 5 := ⟨FU - 5, by omega⟩
  have pc : ∀ (N : CM) (k : Nat) (v : Int32), K1f [1] [2] M N → K1f [1] [2] M (kPut N k v) := fun N k v h => (h.mwA (by decide)).msI (by decide)
  have b1 := h.put (v := nB (x >>> (24 &&& 31))) (by omega) (nB_idem _)
  have b2 := b1.put (v := nB (x >>> (16 &&& 31))) (by omega) (nB_idem _)
  have b3 := b2.put (v := nB (x >>> (8 &&& 31))) (by omega) (nB_idem _)
  have b4 := b3.put (v := nB (x >>> (0 &&& 31))) (by omega) (nB_idem _)
  refine ⟨_, ?_, b4, pc _ _ _ (pc _ _ _ (pc _ _ _ (pc _ _ _ (K1f.rf _ _ _))))⟩
  unfold K_X0_feedFour
  rw [hf, k_put h.1 (by omega) _ _ _ (by decide), nB_idem, show (24 : Int32) + -8 = 16 by decide, k_put b1.1 (by omega) _ _ _ (by decide), nB_idem, show (16 : Int32) + -8 = 8 by decide, k_put b2.1 (by omega) _ _ _ (by decide), nB_idem, show (8 : Int32) + -8 = 0 by decide, k_put b3.1 (by omega) _ _ _ (by decide), nB_idem, KL_X0_feedFour_3, ifT (show (0 : Int32) + -8 < 0 by decide), ob_some]
theorem z_feed (h : BtR M σ len) (x1 x2 x3 x4 x5 : Int32) : ∃ r M' σ' len', K_X0_feed x1 x2 x3 x4 x5 M = some (r, M') ∧ F_feed x1 x2 x3 x4 x5 σ = some (r, σ') ∧ BtR M' σ' len' ∧ len' ≤ len + 20 ∧ K1f [1] [2] M M' ∧ Ft [4, 7] σ σ' := by
  obtain ⟨h1, h2, h3, h4⟩ := h
  have b0 : BtR M σ len := ⟨h1, h2, h3, h4⟩
  unfold K_X0_feed F_feed
  rw [h1, h2, show (20 : Int32) = nI 20 from rfl, show (2000 : Int32) = nI 2000 from rfl, bI_add]
  by_cases hl : len + 20 ≤ 2000
  · rw [ifT ((bI_le (by omega) (by omega)).mpr hl), ifT ((bI_le (by omega) (by omega)).mpr hl)]
    obtain ⟨M1, a1, b1, c1⟩ := k_four b0 (by omega) x1
    obtain ⟨M2, a2, b2, c2⟩ := k_four b1 (by omega) x2
    obtain ⟨M3, a3, b3, c3⟩ := k_four b2 (by omega) x3
    obtain ⟨M4, a4, b4, c4⟩ := k_four b3 (by omega) x4
    obtain ⟨M5, a5, b5, c5⟩ := k_four b4 (by omega) x5
    have fu : 100 < FU := by have := FUb; omega
    obtain ⟨f, hf⟩ : ∃ f, FU = f + 21 := ⟨FU - 21, by omega⟩
    have ft : ∀ (s : TS) (k : Nat) (v : Int32), Ft [4, 7] σ s → Ft [4, 7] σ (tPut s k v) := fun s k v h => (h.p_tsA rfl).p_tsI rfl
    have f4 : ∀ (s : TS) (k : Nat) (v : Int32), Ft [4, 7] σ s → Ft [4, 7] σ (tP4 s k v) := fun s k v h => ft _ _ _ (ft _ _ _ (ft _ _ _ (ft _ _ _ h)))
    -- the twin's steps, four at a time
    have st : ∀ (g : Nat) (s : TS) (k : Nat) (j y : Int32), tI s 7 = nI k → k + 4 ≤ 2000 → (∀ d : Int32, d = 0 ∨ d = 1 ∨ d = 2 ∨ d = 3 → ∀ (g : Nat) (s : TS), L_feed_19 (g + 1) x1 x2 x3 x4 x5 (j + d) s = J_feed_72_19 (L_feed_19 g) x1 x2 x3 x4 x5 (j + d) y s) → (24 - (8 * (j + 0 - (j + 0) / 4 * 4))) &&& 31 = 24 &&& 31 → (24 - (8 * (j + 1 - (j + 1) / 4 * 4))) &&& 31 = 16 &&& 31 → (24 - (8 * (j + 2 - (j + 2) / 4 * 4))) &&& 31 = 8 &&& 31 → (24 - (8 * (j + 3 - (j + 3) / 4 * 4))) &&& 31 = 0 &&& 31 → j + 0 = j → j + 0 + 1 = j + 1 → j + 1 + 1 = j + 2 → j + 2 + 1 = j + 3 → L_feed_19 (g + 4) x1 x2 x3 x4 x5 j s = L_feed_19 g x1 x2 x3 x4 x5 (j + 3 + 1) (tP4 s k y) := by
      intro g s k j y hs hk hj e0 e1 e2 e3 d0 d1 d2 d3
      rw [show L_feed_19 (g + 4) x1 x2 x3 x4 x5 j s = L_feed_19 (g + 3 + 1) x1 x2 x3 x4 x5 (j + 0) s by rw [d0], hj 0 (Or.inl rfl), t_put hs (by omega), e0, d1]
      rw [hj 1 (Or.inr (Or.inl rfl)) (g + 2), t_put (len := k + 1) rfl (by omega), e1, d2]
      rw [hj 2 (Or.inr (Or.inr (Or.inl rfl))) (g + 1), t_put (len := k + 2) rfl (by omega), e2, d3]
      rw [hj 3 (Or.inr (Or.inr (Or.inr rfl))) g, t_put (len := k + 3) rfl (by omega), e3]
      rfl
    have tw : L_feed_19 FU x1 x2 x3 x4 x5 0 σ = some ((), tP4 (tP4 (tP4 (tP4 (tP4 σ len x1) (len + 4) x2) (len + 8) x3) (len + 12) x4) (len + 16) x5) := by
      rw [hf, show f + 21 = f + 17 + 4 from rfl, st (f + 17) σ len 0 x1 h2 (by omega) (fun d hd g s => by
        rcases hd with rfl | rfl | rfl | rfl <;> rw [L_feed_19, ifF (by decide), ifF (by decide)]) (by decide) (by decide) (by decide) (by decide) (by decide) (by decide) (by decide) (by decide), show (0 : Int32) + 3 + 1 = 4 by decide]
      rw [show f + 17 = f + 13 + 4 from rfl, st (f + 13) _ (len + 4) 4 x2 rfl (by omega) (fun d hd g s => by
        rcases hd with rfl | rfl | rfl | rfl <;> rw [L_feed_19, ifF (by decide), ifT (by decide), ifF (by decide)]) (by decide) (by decide) (by decide) (by decide) (by decide) (by decide) (by decide) (by decide), show (4 : Int32) + 3 + 1 = 8 by decide]
      rw [show f + 13 = f + 9 + 4 from rfl, st (f + 9) _ (len + 8) 8 x3 rfl (by omega) (fun d hd g s => by
        rcases hd with rfl | rfl | rfl | rfl <;> rw [L_feed_19, ifF (by decide), ifT (by decide), ifT (by decide), ifF (by decide)]) (by decide) (by decide) (by decide) (by decide) (by decide) (by decide) (by decide) (by decide), show (8 : Int32) + 3 + 1 = 12 by decide]
      rw [show f + 9 = f + 5 + 4 from rfl, st (f + 5) _ (len + 12) 12 x4 rfl (by omega) (fun d hd g s => by
        rcases hd with rfl | rfl | rfl | rfl <;> rw [L_feed_19, ifF (by decide), ifT (by decide), ifT (by decide), ifT (by decide), ifF (by decide)]) (by decide) (by decide) (by decide) (by decide) (by decide) (by decide) (by decide) (by decide), show (12 : Int32) + 3 + 1 = 16 by decide]
      rw [show f + 5 = f + 1 + 4 from rfl, st (f + 1) _ (len + 16) 16 x5 rfl (by omega) (fun d hd g s => by
        rcases hd with rfl | rfl | rfl | rfl <;> rw [L_feed_19, ifF (by decide), ifT (by decide), ifT (by decide), ifT (by decide), ifT (by decide)]) (by decide) (by decide) (by decide) (by decide) (by decide) (by decide) (by decide) (by decide), show (16 : Int32) + 3 + 1 = 20 by decide]
      rw [L_feed_19, ifT (by decide)]
    rw [a1, ob_some, a2, ob_some, a3, ob_some, a4, ob_some, a5, ob_some, tw, ob_some]
    exact ⟨_, _, _, _, by rw [b5.1]; rfl, rfl, b5, by omega, (((c1.tr c2).tr c3).tr c4).tr c5, f4 _ _ _ (f4 _ _ _ (f4 _ _ _ (f4 _ _ _ (f4 _ _ _ (Ft.rf _ _)))))⟩
  · rw [ifF (fun z => hl ((bI_le (by omega) (by omega)).mp z)), ifF (fun z => hl ((bI_le (by omega) (by omega)).mp z))]
    exact ⟨_, _, _, len, rfl, rfl, b0, by omega, K1f.rf _ _ _, Ft.rf _ _⟩
theorem z_end (h : BtR M σ len) (x : Int32) : ∃ r M' σ' len', K_X0_end x M = some (r, M') ∧ F_end x σ = some (r, σ') ∧ BtR M' σ' len' ∧ len' ≤ len ∧ K1f [1] [] M M' ∧ Ft [7] σ σ' := by
  obtain ⟨h1, h2, h3, h4⟩ := h
  unfold K_X0_end F_end
  rw [h1, h2]
  by_cases h0 : x < 0
  · rw [ifT h0, ifT h0]
    exact ⟨_, _, _, len, rfl, rfl, ⟨h1, h2, h3, h4⟩, Nat.le_refl _, K1f.rf _ _ _, Ft.rf _ _⟩
  · rw [ifF h0, ifF h0]
    by_cases h5 : x ≤ nI len
    · rw [ifT h5, ifT h5, nm_eq, nm_eq]
      obtain ⟨k, hk, rfl⟩ : ∃ k, k ≤ len ∧ x = nI k := by
        have e0 : (0 : Int) ≤ x.toInt := by rw [Int32.lt_iff_toInt_lt] at h0; exact Int.not_lt.mp h0
        have e1 : x.toInt ≤ (nI len).toInt := Int32.le_iff_toInt_le.mp h5
        rw [bI_toInt (by omega)] at e1
        refine ⟨x.toInt.toNat, by omega, ?_⟩
        apply Int32.toInt_inj.mp
        rw [bI_toInt (by omega)]
        omega
      exact ⟨_, _, _, k, rfl, rfl, ⟨by rw [mI_msI, ifT ⟨rfl, rfl⟩], rfl, by omega, fun i hi => h4 i (by omega)⟩, hk, (K1f.rf _ _ _).msI rfl, (Ft.rf _ _).p_tsI rfl⟩
    · rw [ifF h5, ifF h5]
      exact ⟨_, _, _, len, rfl, rfl, ⟨h1, h2, h3, h4⟩, Nat.le_refl _, K1f.rf _ _ _, Ft.rf _ _⟩
theorem z_fault (h : mI M 4 1 = tI σ 2 ∧ mI M 5 1 = tI σ 3) (x : Int32) : ∃ r, K_X0_fault x M = some (r, M) ∧ F_fault x σ = some (r, σ) := by
  unfold K_X0_fault F_fault
  rw [h.1, h.2]
  by_cases h0 : x = 0
  · rw [ifT h0, ifT h0]; exact ⟨_, rfl, rfl⟩
  · rw [ifF h0, ifF h0]
    by_cases h1 : x = 1
    · rw [ifT h1, ifT h1]; exact ⟨_, rfl, rfl⟩
    · rw [ifF h1, ifF h1]; exact ⟨_, rfl, rfl⟩
end FEED
