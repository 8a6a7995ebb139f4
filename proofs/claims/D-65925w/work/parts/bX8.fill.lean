/-! Layer B: blocks are filled, the component -/
set_option maxRecDepth 100000
/-- blocks below k that are filled, the component -/
def FkL (S U : Nat) (gv : Nat → Nat) (ct : Nat → Bool) (li : Nat → Nat → Int32) (P : TjS) (k : Nat) (M : CM) : Prop := ∀ b, b < k → (∀ f, f < S → blT P f = b + 1 → mA M 142 (bfT P b + cnB (fun f => decide (blT P f = b + 1)) f) = nI f) ∧ (∀ u, u < U → ct u = true → blT P (gv u) = b + 1 → mA M 143 (bfT P b + cnB (fun u => ct u && decide (blT P (gv u) = b + 1)) u) = nI u) ∧ mA M 144 b = if bfT P (b + 1) - bfT P b = 1 then li (ix (mA M 142 (bfT P b))) (ix (mA M 143 (bfT P b))) else 0
section FILL
variable {D : FQ} {M M' M0 M1 : CM} {s : TS} {U S d e f n u k v i b V K N E : Nat} {gv : Nat → Nat} {ct c p : Nat → Bool} {li : Nat → Nat → Int32} {P Q : TjS}
theorem k_fill9 (h65 : mI M0 65 1 = nI S) (hS : S ≤ 180) (hb : b < 1000) (p : Nat → Bool) (h1 : ∀ f, f < S → (p f = true ↔ mA M0 131 f = nI b)) (a : Nat) (ha : a + cnB p S ≤ 180) : ∀ (d j kf : Nat) (M : CM), j + d = S → d < kf → KF D [] [] [142] [] M0 M → (∀ f, f < j → p f = true → mA M 142 (a + cnB p f) = nI f) → (∀ i, ¬ (a ≤ i ∧ i < a + cnB p S) → mA M 142 i = mA M0 142 i) → ∃ M', KL_X0_fill_9 kf (nI b) (nI (a + cnB p j)) (nI j) M = some ((), M') ∧ KF D [] [] [142] [] M0 M' ∧ (∀ f, f < S → p f = true → mA M' 142 (a + cnB p f) = nI f) ∧ ∀ i, ¬ (a ≤ i ∧ i < a + cnB p S) → mA M' 142 i = mA M0 142 i := by
  intro d
  induction d with
  | zero =>
    intro j kf M hj hkf f h3 h4
    obtain ⟨kf, rfl⟩ : ∃ g, kf = g + 1 := ⟨kf - 1, by omega⟩
    obtain rfl : j = S := by omega
    refine ⟨M, ?_, f, h3, h4⟩
    unfold KL_X0_fill_9
    rw [f.i rfl, h65, ifT ((bI_le (by omega) (by omega)).mpr (Nat.le_refl _))]
  | succ d ih =>
    intro j kf M hj hkf f h3 h4
    obtain ⟨kf, rfl⟩ : ∃ g, kf = g + 1 := ⟨kf - 1, by omega⟩
    have le : ¬ nI S ≤ nI j := fun z => by have := (bI_le (by omega) (by omega)).mp z; omega
    have nx : nI j + 1 = nI (j + 1) := nI_addL j 1
    have ij : inb (nI j) 180 := inb_nI' (by omega) (by decide)
    have xj : ix (nI j) = j := ix_nI (by omega)
    by_cases z : p j = true
    · have lt := cnB_lt (p := p) (show j < S by omega) z
      have st : cnB p (j + 1) = cnB p j + 1 := by rw [cnB_step, ifT z]
      obtain ⟨M1, hM1⟩ : ∃ q, q = mwA M 142 (a + cnB p j) (nI j) := ⟨_, rfl⟩
      have f1 : KF D [] [] [142] [] M0 M1 := by rw [hM1]; exact f.wA rfl ⟨by decide, by decide⟩
      obtain ⟨M', b1, b2, b3⟩ := ih (j + 1) kf M1 (by omega) (by omega) f1 (fun g hg hp => by
        rw [hM1, mA_mwA]
        by_cases y : g = j
        · subst y; rw [ifT ⟨rfl, rfl⟩]
        · have := cnB_lt (p := p) (show g < j by omega) hp
          rw [ifF (by omega)]; exact h3 g (by omega) hp) (fun i hi => by
        rw [hM1, mA_mwA, ifF (by omega)]; exact h4 i hi)
      refine ⟨M', ?_, b2, b3⟩
      unfold KL_X0_fill_9
      rw [f.i rfl, h65, ifF le, ifT ij, xj, f.ga rfl, ifT ((h1 j (by omega)).mp z), ifT (inb_nI' (by omega) (by decide)), ix_nI (by omega), ← hM1, nm_eq, nI_addL, nm_eq, nx, nm_eq, show a + cnB p j + 1 = a + cnB p (j + 1) by omega]
      exact b1
    · have st : cnB p (j + 1) = cnB p j := by rw [cnB_step, ifF z]; rfl
      obtain ⟨M', b1, b2, b3⟩ := ih (j + 1) kf M (by omega) (by omega) f (fun g hg hp => h3 g (by
        have : g ≠ j := fun y => z (by rw [← y]; exact hp)
        omega) hp) h4
      refine ⟨M', ?_, b2, b3⟩
      unfold KL_X0_fill_9
      rw [f.i rfl, h65, ifF le, ifT ij, xj, f.ga rfl, ifF (fun y => z ((h1 j (by omega)).mpr y)), nx, nm_eq, ← st]
      exact b1
theorem k_fill52 (h57 : mI M0 57 1 = nI U) (hU : U ≤ 180) (hS : S ≤ 180) (hb : b < 1000) (ct p : Nat → Bool) (h1 : ∀ u, u < U → (ct u = true ↔ ¬ 2 ≤ mA M0 123 u)) (h2 : ∀ u, u < U → ct u = true → gv u < S ∧ mA M0 122 u = nI (gv u)) (h3 : ∀ u, u < U → ct u = true → (p u = true ↔ mA M0 131 (gv u) = nI b)) (h4 : ∀ u, u < U → p u = true → ct u = true) (a : Nat) (ha : a + cnB p U ≤ 180) : ∀ (d j kf : Nat) (M : CM), j + d = U → d < kf → KF D [] [] [143] [] M0 M → (∀ f, f < j → p f = true → mA M 143 (a + cnB p f) = nI f) → (∀ i, ¬ (a ≤ i ∧ i < a + cnB p U) → mA M 143 i = mA M0 143 i) → ∃ M', KL_X0_fill_52 kf (nI b) (nI (a + cnB p j)) (nI j) M = some (nI (a + cnB p U), M') ∧ KF D [] [] [143] [] M0 M' ∧ (∀ f, f < U → p f = true → mA M' 143 (a + cnB p f) = nI f) ∧ ∀ i, ¬ (a ≤ i ∧ i < a + cnB p U) → mA M' 143 i = mA M0 143 i := by
  intro d
  induction d with
  | zero =>
    intro j kf M hj hkf f g3 g4
    obtain ⟨kf, rfl⟩ : ∃ g, kf = g + 1 := ⟨kf - 1, by omega⟩
    obtain rfl : j = U := by omega
    refine ⟨M, ?_, f, g3, g4⟩
    unfold KL_X0_fill_52
    rw [f.i rfl, h57, ifT ((bI_le (by omega) (by omega)).mpr (Nat.le_refl _))]
  | succ d ih =>
    intro j kf M hj hkf f g3 g4
    obtain ⟨kf, rfl⟩ : ∃ g, kf = g + 1 := ⟨kf - 1, by omega⟩
    have le : ¬ nI U ≤ nI j := fun z => by have := (bI_le (by omega) (by omega)).mp z; omega
    have nx : nI j + 1 = nI (j + 1) := nI_addL j 1
    have ij : inb (nI j) 180 := inb_nI' (by omega) (by decide)
    have xj : ix (nI j) = j := ix_nI (by omega)
    have skip : ¬ p j = true → KL_X0_fill_52 (kf + 1) (nI b) (nI (a + cnB p j)) (nI j) M = KL_X0_fill_52 kf (nI b) (nI (a + cnB p j)) (nI (j + 1)) M → ∃ M', KL_X0_fill_52 (kf + 1) (nI b) (nI (a + cnB p j)) (nI j) M = some (nI (a + cnB p U), M') ∧ KF D [] [] [143] [] M0 M' ∧ (∀ f, f < U → p f = true → mA M' 143 (a + cnB p f) = nI f) ∧ ∀ i, ¬ (a ≤ i ∧ i < a + cnB p U) → mA M' 143 i = mA M0 143 i := fun z e => by
      have st : cnB p (j + 1) = cnB p j := by rw [cnB_step, ifF z]; rfl
      obtain ⟨M', b1, b2, b3⟩ := ih (j + 1) kf M (by omega) (by omega) f (fun g hg hp => g3 g (by
        have : g ≠ j := fun y => z (by rw [← y]; exact hp)
        omega) hp) g4
      refine ⟨M', ?_, b2, b3⟩
      rw [e, ← st]; exact b1
    by_cases hc : ct j = true
    · obtain ⟨v1, v2⟩ := h2 j (by omega) hc
      have body : KL_X0_fill_52 (kf + 1) (nI b) (nI (a + cnB p j)) (nI j) M = if mA M0 131 (gv j) = nI b then (if inb (nI (a + cnB p j)) 180 then KL_X0_fill_52 kf (nI b) (nI (a + cnB p j) + 1) (nI (j + 1)) (mwA M 143 (ix (nI (a + cnB p j))) (nI j)) else none) else KL_X0_fill_52 kf (nI b) (nI (a + cnB p j)) (nI (j + 1)) M := by
        conv => lhs; unfold KL_X0_fill_52
        rw [f.i rfl, h57, ifF le, ifT ij, xj, f.ga rfl, ifF ((h1 j (by omega)).mp hc), ifT ij, f.ga rfl, v2, ifT (inb_nI' (by omega) (by decide)), ix_nI (n := gv j) (by omega), f.ga rfl, nx]
        rfl
      by_cases z : p j = true
      · have lt := cnB_lt (p := p) (show j < U by omega) z
        have st : cnB p (j + 1) = cnB p j + 1 := by rw [cnB_step, ifT z]
        obtain ⟨M1, hM1⟩ : ∃ q, q = mwA M 143 (a + cnB p j) (nI j) := ⟨_, rfl⟩
        have f1 : KF D [] [] [143] [] M0 M1 := by rw [hM1]; exact f.wA rfl ⟨by decide, by decide⟩
        obtain ⟨M', b1, b2, b3⟩ := ih (j + 1) kf M1 (by omega) (by omega) f1 (fun g hg hp => by
          rw [hM1, mA_mwA]
          by_cases y : g = j
          · subst y; rw [ifT ⟨rfl, rfl⟩]
          · have := cnB_lt (p := p) (show g < j by omega) hp
            rw [ifF (by omega)]; exact g3 g (by omega) hp) (fun i hi => by
          rw [hM1, mA_mwA, ifF (by omega)]; exact g4 i hi)
        refine ⟨M', ?_, b2, b3⟩
        rw [body, ifT ((h3 j (by omega) hc).mp z), ifT (inb_nI' (by omega) (by decide)), ix_nI (by omega), ← hM1, nI_addL, show a + cnB p j + OfNat.ofNat 1 = a + cnB p (j + 1) by rw [st]; rfl]
        exact b1
      · exact skip z (by rw [body, ifF (fun y => z ((h3 j (by omega) hc).mpr y))])
    · refine skip (fun y => hc (h4 j (by omega) y)) ?_
      conv => lhs; unfold KL_X0_fill_52
      have : 2 ≤ mA M0 123 j := by
        by_cases q : 2 ≤ mA M0 123 j
        · exact q
        · exact absurd ((h1 j (by omega)).mpr q) hc
      rw [f.i rfl, h57, ifF le, ifT ij, xj, f.ga rfl, ifT this, nx, nm_eq]
/-- what filling sees -/
def FiC (S U : Nat) (gv : Nat → Nat) (ct c : Nat → Bool) (li : Nat → Nat → Int32) (P : TjS) (D : FQ) (M0 : CM) : Prop := (mI M0 57 1 = nI U ∧ mI M0 65 1 = nI S ∧ U ≤ 180 ∧ S ≤ 180) ∧ (TjI S c P ∧ mI M0 75 1 = nI (bkT P) ∧ (∀ f, f < S → mA M0 131 f = blI (blT P f)) ∧ ∀ b, b ≤ bkT P → mA M0 141 b = nI (bfT P b)) ∧ (∀ u, u < U → (ct u = true ↔ ¬ 2 ≤ mA M0 123 u)) ∧ (∀ u, u < U → ct u = true → gv u < S ∧ mA M0 122 u = nI (gv u)) ∧ (∀ b, cnB (fun u => ct u && decide (blT P (gv u) = b + 1)) U = cnB (fun f => decide (blT P f = b + 1)) S) ∧ ∀ e u M, e < S → u < U → c e = true → KF D [] [] [142, 143, 144] [] M0 M → ∃ r1 r2, r1 ≤ 2 ∧ r2 ≤ 2 ∧ K_X0_howIn (mX M 126 e) (nI u) M = some (nI r1, M) ∧ K_X0_howIn (mX M 127 e) (nI u) M = some (nI r2, M) ∧ li e u = if r1 < 2 ∧ r2 < 2 then 1 else 0
theorem k_fill1 (F : FiC S U gv ct c li P D M0) (hb : b < bkT P) (k : KF D [] [] [142, 143, 144] [] M0 M) (h : FkL S U gv ct li P b M) : ∃ M', K_X0_fill (nI b) M = some ((), M') ∧ KF D [] [] [142, 143, 144] [] M0 M' ∧ FkL S U gv ct li P (b + 1) M' := by
  obtain ⟨⟨h57, h65, U180, S180⟩, ⟨i, h75, h131, h141⟩, c1, c2, c3, c4⟩ := F
  have fu := fu2
  have bd := i.bd
  have b180 : b < 180 := by omega
  have iB : inb (nI b) 181 := inb_nI' (by omega) (by decide)
  have iB2 : inb (nI b) 180 := inb_nI' (by omega) (by decide)
  have xB : ix (nI b) = b := ix_nI (by omega)
  obtain ⟨e1, e2⟩ := i.2.2.2.1.2 b hb
  obtain ⟨n, hn⟩ : ∃ n, n = cnB (fun f => decide (blT P f = b + 1)) S := ⟨_, rfl⟩
  rw [← hn] at e1 e2
  have en : bfT P (b + 1) ≤ S := bd.1 (b + 1) (by omega)
  have cu := c3 b
  rw [← hn] at cu
  have g141 : ∀ {M2}, KF D [] [] [142, 143, 144] [] M0 M2 → mA M2 141 b = nI (bfT P b) := fun k2 => (k2.ga rfl b).trans (h141 b (by omega))
  have ibf : inb (nI (bfT P b)) 180 := inb_nI' (by omega) (by decide)
  have xbf : ix (nI (bfT P b)) = bfT P b := ix_nI (by omega)
  have bl1 : ∀ g, blT P g ≤ 180 := fun g => by
    by_cases q : blT P g = 0
    · omega
    · have := (i.2.2.1 g q).2; omega
  obtain ⟨M2, a1, a2, a3, a4⟩ := k_fill9 (D := D) (M0 := M) (b := b) ((k.i rfl 1).trans h65) S180 (by omega) (fun f => decide (blT P f = b + 1)) (fun g hg => by
    rw [k.ga rfl, h131 g hg, blI_eq (by have := bl1 g; omega) (by omega)]
    exact ⟨fun z => of_decide_eq_true z, fun z => decide_eq_true z⟩) (bfT P b) (by omega) S 0 FU M (by omega) (by omega) KF.rf (fun g hg => by omega) (fun _ _ => rfl)
  have k2 : KF D [] [] [142, 143, 144] [] M0 M2 := k.tr (a2.mono rfl rfl (by decide) rfl)
  obtain ⟨M3, d1, d2, d3, d4⟩ := k_fill52 (D := D) (M0 := M2) (b := b) (gv := gv) ((k2.i rfl 1).trans h57) U180 S180 (by omega) ct (fun u => ct u && decide (blT P (gv u) = b + 1)) (fun u hu => by rw [k2.ga rfl]; exact c1 u hu) (fun u hu hc => ⟨(c2 u hu hc).1, (k2.ga rfl u).trans (c2 u hu hc).2⟩) (fun u hu hc => by
    rw [k2.ga rfl, h131 _ (c2 u hu hc).1, blI_eq (by have := bl1 (gv u); omega) (by omega)]
    show (ct u && decide (blT P (gv u) = b + 1)) = true ↔ _
    rw [hc, Bool.true_and]
    exact ⟨fun z => of_decide_eq_true z, fun z => decide_eq_true z⟩) (fun u hu z => by
    have z : (ct u && decide (blT P (gv u) = b + 1)) = true := z
    rw [Bool.and_eq_true] at z; exact z.1) (bfT P b) (by rw [cu]; omega) U 0 FU M2 (by omega) (by omega) KF.rf (fun g hg => by omega) (fun _ _ => rfl)
  have k3 : KF D [] [] [142, 143, 144] [] M0 M3 := k2.tr (d2.mono rfl rfl (by decide) rfl)
  rw [cu] at d1 d4
  rw [← hn] at a4
  obtain ⟨g, g1, g2, g3⟩ : ∃ g, g < S ∧ blT P g = b + 1 ∧ mA M3 142 (bfT P b) = nI g := by
    obtain ⟨g, g1, g2, g3⟩ := cnB_ex (p := fun f => decide (blT P f = b + 1)) (n := S) (i := 0) (by omega)
    have := a3 g g1 g2
    rw [g3, Nat.add_zero] at this
    exact ⟨g, g1, of_decide_eq_true g2, by rw [d2.ga rfl]; exact this⟩
  obtain ⟨u, u1, u2⟩ : ∃ u, u < U ∧ mA M3 143 (bfT P b) = nI u := by
    obtain ⟨u, g1, g2, g3⟩ := cnB_ex (p := fun u => ct u && decide (blT P (gv u) = b + 1)) (n := U) (i := 0) (by omega)
    have := d3 u g1 g2
    rw [g3, Nat.add_zero] at this
    exact ⟨u, g1, this⟩
  have cg : c g = true := (i.1 g (i.2.2.1 g (by omega)).1).1.2
  obtain ⟨r1, r2, q1, q2, q3, q4, q5⟩ := c4 g u M3 g1 u1 cg k3
  have e0 : nZ 0 = 0 := by decide
  have e1' : nZ 1 = 1 := by decide
  have ig : inb (nI g) 180 := inb_nI' (by omega) (by decide)
  have xg : ix (nI g) = g := ix_nI (by omega)
  refine ⟨mwA M3 144 b (if n = 1 then li g u else 0), ?_, k3.wA rfl ⟨by decide, by decide⟩, ?_⟩
  · unfold K_X0_fill
    rw [ifT iB, xB, g141 k, nm_eq, show KL_X0_fill_9 FU (nI b) (nI (bfT P b)) 0 M = some ((), M2) from a1, ob_some, ifT iB, g141 k2, nm_eq, show KL_X0_fill_52 FU (nI b) (nI (bfT P b)) 0 M2 = _ from d1, ob_some]
    simp only [ifT iB, ifT iB2, g141 k3, ifT ibf, xbf, nm_eq, g3, u2]
    rw [show nI (bfT P b + n) - nI (bfT P b) = nI n from by rw [nI_sub (by omega)]; congr 1; omega]
    by_cases z : n = 1
    · rw [ifT z, ifT (show nI n = (1 : Int32) by rw [z]; rfl), ifT ig, xg, q3, ob_some, q5]
      by_cases y : r1 < 2
      · rw [ifF (fun t => by have := (bI_le (a := 2) (by decide) (by omega)).mp t; omega), ifT ig, q4, ob_some]
        by_cases y2 : r2 < 2
        · rw [ifF (fun t => by have := (bI_le (a := 2) (by decide) (by omega)).mp t; omega), ifT ⟨y, y2⟩, e1']
        · rw [ifT (show (2 : Int32) ≤ nI r2 from (bI_le (a := 2) (by decide) (by omega)).mpr (by omega)), ifF (fun t => y2 t.2), e0]
      · rw [ifT (show (2 : Int32) ≤ nI r1 from (bI_le (a := 2) (by decide) (by omega)).mpr (by omega)), ifF (fun t => y t.1), e0]
    · rw [ifF z, ifF (show ¬ nI n = 1 from fun t => z ((bI_eq (b := 1) (by omega) (by decide)).mp t)), e0]
  · intro b' hb'
    have o142 : ∀ j, mA (mwA M3 144 b (if n = 1 then li g u else 0)) 142 j = mA M2 142 j := fun j => by rw [mA_mwA, ifF (by omega), d2.ga rfl]
    have o143 : ∀ j, mA (mwA M3 144 b (if n = 1 then li g u else 0)) 143 j = mA M3 143 j := fun j => by rw [mA_mwA, ifF (by omega)]
    by_cases z : b' = b
    · subst z
      refine ⟨fun f hf hz => ?_, fun w hw hc hz => ?_, ?_⟩
      · rw [o142]; exact a3 f hf (decide_eq_true hz)
      · rw [o143]
        exact d3 w hw (by
          show (ct w && decide (blT P (gv w) = b' + 1)) = true
          rw [hc, decide_eq_true hz]; rfl)
      · rw [o142, o143, mA_mwA, ifT ⟨rfl, rfl⟩, e1, Nat.add_sub_cancel_left, ← d2.ga rfl, g3, u2, ix_nI (by omega), ix_nI (by omega)]
    · have hb2 : b' < b := by omega
      obtain ⟨l1, l2, l3⟩ := h b' hb2
      obtain ⟨x1, x2⟩ := i.2.2.2.1.2 b' (by omega)
      have mm : bfT P (b' + 1) ≤ bfT P b := i.mono (by omega) (by omega)
      have w142 : ∀ j, j < bfT P b → mA (mwA M3 144 b (if n = 1 then li g u else 0)) 142 j = mA M 142 j := fun j hj => by rw [o142]; exact a4 j (by omega)
      have w143 : ∀ j, j < bfT P b → mA (mwA M3 144 b (if n = 1 then li g u else 0)) 143 j = mA M 143 j := fun j hj => by rw [o143, d4 j (by omega), a2.ga rfl]
      have cu' := c3 b'
      refine ⟨fun f hf hz => ?_, fun w hw hc hz => ?_, ?_⟩
      · have := cnB_lt (p := fun f => decide (blT P f = b' + 1)) hf (decide_eq_true hz)
        rw [w142 _ (by omega)]
        exact l1 f hf hz
      · have := cnB_lt (p := fun u => ct u && decide (blT P (gv u) = b' + 1)) hw (by
          show (ct w && decide (blT P (gv w) = b' + 1)) = true
          rw [hc, decide_eq_true hz]; rfl)
        rw [w143 _ (by omega)]
        exact l2 w hw hc hz
      · rw [w142 _ (by omega), w143 _ (by omega), ← l3, mA_mwA, ifF (by omega), d2.ga rfl, a2.ga rfl]
theorem k_fills (F : FiC S U gv ct c li P D M0) : ∀ (d b kf : Nat) (M : CM), b + d = bkT P → d < kf → KF D [] [] [142, 143, 144] [] M0 M → FkL S U gv ct li P b M → ∃ M', KL_X0_makeBlocks_141 kf (nI b) M = some ((), M') ∧ KF D [] [] [142, 143, 144] [] M0 M' ∧ FkL S U gv ct li P (bkT P) M' := by
  intro d
  induction d with
  | zero =>
    intro b kf M hj hkf k h
    obtain ⟨kf, rfl⟩ : ∃ g, kf = g + 1 := ⟨kf - 1, by omega⟩
    have bd := F.2.1.1.bd
    have S180 := F.1.2.2.2
    obtain rfl : b = bkT P := by omega
    refine ⟨M, ?_, k, h⟩
    unfold KL_X0_makeBlocks_141
    rw [k.i rfl, F.2.1.2.1, ifT ((bI_le (by omega) (by omega)).mpr (Nat.le_refl _))]
  | succ d ih =>
    intro b kf M hj hkf k h
    obtain ⟨kf, rfl⟩ : ∃ g, kf = g + 1 := ⟨kf - 1, by omega⟩
    have bd := F.2.1.1.bd
    have S180 := F.1.2.2.2
    obtain ⟨M2, a1, a2, a3⟩ := k_fill1 F (b := b) (by omega) k h
    obtain ⟨M', b1, b2, b3⟩ := ih (b + 1) kf M2 (by omega) (by omega) a2 a3
    refine ⟨M', ?_, b2, b3⟩
    unfold KL_X0_makeBlocks_141
    rw [k.i rfl, F.2.1.2.1, ifF (fun z => by have := (bI_le (by omega) (by omega)).mp z; omega), a1, ob_some, nI_addL, nm_eq]
    exact b1
end FILL
