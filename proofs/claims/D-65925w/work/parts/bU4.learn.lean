/-! Layer B: trees by their true height; a new equation, what stands in it: both sides -/
set_option maxRecDepth 100000
/-- what a new equation of the component is -/
def EqV (M M' : CM) (S x1 x2 : Nat) (x3 : Int32) (P : Nat → Prop) : Prop := mI M' 65 1 = nI (S + 1) ∧ (∀ j, mX M' 126 j = if j = S then x1 else mX M 126 j) ∧ (∀ j, mX M' 127 j = if j = S then x2 else mX M 127 j) ∧ (∀ j, mA M' 128 j = if j = S then 0 else mA M 128 j) ∧ (∀ j, mA M' 129 j = if j = S then -1 else mA M 129 j) ∧ (∀ j, mA M' 130 j = if j = S then x3 else mA M 130 j) ∧ (∀ j, mA M' 131 j = if j = S then -1 else mA M 131 j) ∧ (∀ u, u < 180 → (P u → mA M' 132 (180 * S + u) = 1) ∧ (¬ P u → mA M' 132 (180 * S + u) = 0)) ∧ ∀ j, ¬ (180 * S ≤ j ∧ j < 180 * S + 180) → mA M' 132 j = mA M 132 j
/-- what the twin learns -/
def LnV (s s' : TS) (e : Nat) (P : Nat → Prop) : Prop := Ft [201, 202] s s' ∧ (∀ u, u < 200 → (P u → tA s' 202 (200 * e + u) = 1) ∧ (¬ P u → tA s' 202 (200 * e + u) = 0)) ∧ ∀ j, ¬ (200 * e ≤ j ∧ j < 200 * e + 200) → tA s' 202 j = tA s 202 j
section LEARN
variable {s s' s1 s2 σ : TS} {D D' : FQ} {M M' M1 M2 M3 M4 : CM} {N N' K V h h' H st n m u v w x y z f a b e k p q n1 n2 h1 h2 S : Nat} {fa fb fc fd : Nat → Int32} {P Q R T : Nat → Prop} {sx op : Int32}
theorem TwT.low (h7 : N ≤ 70000) : ∀ (h H st n : Nat), TwT s N h st n → PH s h n ≤ H → TwT s N H st n
  | 0, _, _, _, q, _ => q.elim
  | h + 1, 0, st, n, q, hp => by
    have := (TwT.ph h7 _ _ _ q).1
    omega
  | h + 1, H + 1, st, n, q, hp => by
    have ih := fun st x q hp => TwT.low h7 h H st x q hp
    obtain ⟨nb, q⟩ := q
    refine ⟨nb, ?_⟩
    rcases q with q | q | q | q | ⟨q1, x, q2, q3⟩ | ⟨q1, ⟨x, q2, q3⟩, y, q4, q5⟩ | ⟨q0, q1, ⟨x, q2, q3⟩, ⟨y, q4, q5⟩, z, q6, q7⟩ | ⟨q0, q1, ⟨y, q4, q5⟩, z, q6, q7⟩ | q
    · exact Or.inl q
    · exact Or.inr (Or.inl q)
    · exact Or.inr (Or.inr (Or.inl q))
    · exact Or.inr (Or.inr (Or.inr (Or.inl q)))
    · rw [(PS_1 (one_k1 q1)).2, q2, ix_nI (by have := q3.nb; omega), hgt_eq] at hp
      exact Or.inr (Or.inr (Or.inr (Or.inr (Or.inl ⟨q1, x, q2, ih _ _ q3 (by omega)⟩))))
    · rw [(PS_2 (two_k2 q1)).2, q2, q4, ix_nI (n := x) (by have := q3.nb; omega), ix_nI (n := y) (by have := q5.nb; omega), hgt_eq] at hp
      exact Or.inr (Or.inr (Or.inr (Or.inr (Or.inr (Or.inl ⟨q1, ⟨x, q2, ih _ _ q3 (by omega)⟩, y, q4, ih _ _ q5 (by omega)⟩)))))
    · rw [(PS_3 q1).2, q2, q4, q6, ix_nI (n := x) (by have := q3.nb; omega), ix_nI (n := y) (by have := q5.nb; omega), ix_nI (n := z) (by have := q7.nb; omega), hgt_eq] at hp
      exact Or.inr (Or.inr (Or.inr (Or.inr (Or.inr (Or.inr (Or.inl ⟨q0, q1, ⟨x, q2, ih _ _ q3 (by omega)⟩, ⟨y, q4, ih _ _ q5 (by omega)⟩, z, q6, ih _ _ q7 (by omega)⟩))))))
    · rw [(PS_4 q1).2, q4, q6, ix_nI (n := y) (by have := q5.nb; omega), ix_nI (n := z) (by have := q7.nb; omega), hgt_eq] at hp
      exact Or.inr (Or.inr (Or.inr (Or.inr (Or.inr (Or.inr (Or.inr (Or.inl ⟨q0, q1, ⟨y, q4, ih _ _ q5 (by omega)⟩, z, q6, ih _ _ q7 (by omega)⟩)))))))
    · exact Or.inr (Or.inr (Or.inr (Or.inr (Or.inr (Or.inr (Or.inr (Or.inr q)))))))
theorem TwT.pe (h7 : N ≤ 70000) (q : TwT s N h st n) (q' : TwT s N H st n) : PS s h n = PS s H n ∧ PH s h n = PH s H n := by
  rcases Nat.le_total h H with z | z
  · have := TwT.ps NdX.rf h7 h H st n z q
    exact ⟨this.1.symm, this.2.symm⟩
  · exact TwT.ps NdX.rf h7 H h st n z q'
theorem SxR.low (h7 : N ≤ 70000) : ∀ (h H st a n : Nat), SxR D M s 134 V K N h st a n → PH s h n ≤ H → SxR D M s 134 V K N H st a n
  | 0, _, _, _, _, q, _ => q.elim
  | h + 1, 0, st, a, n, q, hp => by
    have := (TwT.ph h7 _ _ _ (SxR.tw _ _ _ _ q)).1
    omega
  | h + 1, H + 1, st, a, n, z, hp => by
    have ih := fun st a x q hp => SxR.low h7 h H st a x q hp
    have tw := SxR.tw _ _ _ _ z
    have pe := (TwT.pe h7 tw (TwT.low h7 (h + 1) (H + 1) st n tw hp)).2
    obtain ⟨nb, ⟨t, t1, t2, t3⟩, z⟩ := z
    refine ⟨nb, ⟨t, t1, ⟨t2.1, by have := t3 rfl; omega⟩, fun _ => (t3 rfl).trans pe⟩, ?_⟩
    rcases z with z | z | ⟨q1, ⟨x, q2, q3⟩, r⟩ | ⟨q1, ⟨x, q2, q3⟩, ⟨y, q4, q5⟩, r⟩ | ⟨q0, r, q1, ⟨x, q2, q3⟩, ⟨y, q4, q5⟩, z, q6, q7⟩ | ⟨q0, q1, ⟨y, q4, q5⟩, ⟨z, q6, q7⟩, r⟩ | z
    · exact Or.inl z
    · exact Or.inr (Or.inl z)
    · rw [(PS_1 (one_k1 (oneX_T q1))).2, q2, ix_nI (by have := q3.nb; omega), hgt_eq] at hp
      exact Or.inr (Or.inr (Or.inl ⟨q1, ⟨x, q2, ih _ _ _ q3 (by omega)⟩, r⟩))
    · rw [(PS_2 (two_k2 (twoX_T q1))).2, q2, q4, ix_nI (n := x) (by have := q3.nb; omega), ix_nI (n := y) (by have := q5.nb; omega), hgt_eq] at hp
      exact Or.inr (Or.inr (Or.inr (Or.inl ⟨q1, ⟨x, q2, ih _ _ _ q3 (by omega)⟩, ⟨y, q4, ih _ _ _ q5 (by omega)⟩, r⟩)))
    · rw [(PS_3 q1).2, q2, q4, q6, ix_nI (n := x) (by have := q3.nb; omega), ix_nI (n := y) (by have := q5.nb; omega), ix_nI (n := z) (by have := q7.nb; omega), hgt_eq] at hp
      exact Or.inr (Or.inr (Or.inr (Or.inr (Or.inl ⟨q0, r, q1, ⟨x, q2, ih _ _ _ q3 (by omega)⟩, ⟨y, q4, ih _ _ _ q5 (by omega)⟩, z, q6, ih _ _ _ q7 (by omega)⟩))))
    · rw [(PS_4 (q1.imp (fun q => q.1) (fun q => q.1))).2, q4, q6, ix_nI (n := y) (by have := q5.nb; omega), ix_nI (n := z) (by have := q7.nb; omega), hgt_eq] at hp
      exact Or.inr (Or.inr (Or.inr (Or.inr (Or.inr (Or.inl ⟨q0, q1, ⟨y, q4, ih _ _ _ q5 (by omega)⟩, ⟨z, q6, ih _ _ _ q7 (by omega)⟩, r⟩)))))
    · exact Or.inr (Or.inr (Or.inr (Or.inr (Or.inr (Or.inr z)))))
/-- the row of a new equation is cleared -/
theorem k_85 (he : e < 180) (x1 x2 : Nat) : ∀ (d j f : Nat) (M : CM), j + d = 180 → d < f → ∃ M', KL_X0_newEquation_85 f x1 x2 (nI e) (nI j) M = some ((), M') ∧ KF D [] [] [132] [] M M' ∧ ∀ i, mA M' 132 i = if 180 * e + j ≤ i ∧ i < 180 * e + 180 then 0 else mA M 132 i := by
  intro d
  induction d with
  | zero =>
    intro j f M hj hf
    obtain ⟨f, rfl⟩ : ∃ g, f = g + 1 := ⟨f - 1, by omega⟩
    obtain rfl : j = 180 := by omega
    refine ⟨M, ?_, KF.rf, fun i => by rw [ifF (by omega)]⟩
    unfold KL_X0_newEquation_85
    rw [ifT (show (180 : Int32) ≤ nI 180 by decide)]
  | succ d ih =>
    intro j f M hj hf
    obtain ⟨f, rfl⟩ : ∃ g, f = g + 1 := ⟨f - 1, by omega⟩
    obtain ⟨M1, hM1⟩ : ∃ q, q = mwA M 132 (180 * e + j) 0 := ⟨_, rfl⟩
    have k1 : KF D [] [] [132] [] M M1 := by rw [hM1]; exact KF.rf.wA rfl ⟨by decide, by decide⟩
    obtain ⟨M', a1, a2, a3⟩ := ih (j + 1) f M1 (by omega) (by omega)
    refine ⟨M', ?_, k1.tr a2, fun i => ?_⟩
    · have e0 : nZ 0 = 0 := by decide
      unfold KL_X0_newEquation_85
      rw [ifF (fun z => by have := (bI_le (a := 180) (by decide) (by omega)).mp z; omega), show (180 : Int32) * nI e + nI j = nI (180 * e + j) from by rw [show (180 : Int32) = nI 180 from rfl, nI_mul, bI_add], ifT (inb_nI' (by omega) (by decide)), ix_nI (by omega), e0, nm_eq, ← hM1, nI_addL, nm_eq, a1]
    · rw [a3 i]
      by_cases z : i = 180 * e + j
      · rw [ifF (by omega), ifT (by omega), hM1, mA_mwA, ifT ⟨rfl, z⟩]
      · by_cases z2 : 180 * e + (j + 1) ≤ i ∧ i < 180 * e + 180
        · rw [ifT z2, ifT (by omega)]
        · rw [ifF z2, ifF (by omega), hM1, mA_mwA, ifF (fun y => z y.2)]
theorem k_newEq (hS : mI M 65 1 = nI S ∧ S < 180) {x1 x2 : Nat} {x3 x4 : Int32} (hx : (x1 = 0 ∨ mk M x1 = 18) ∧ (x2 = 0 ∨ mk M x2 = 18)) (m1 : ∀ M1, KE D M M1 → ∃ M2, K_X0_mark x1 (nI S) M1 = some ((), M2) ∧ KF D [] [] [132] [] M1 M2 ∧ SetA (mA M1 132) (mA M2 132) (fun j => ∃ u, P u ∧ j = 180 * S + u)) (m2 : ∀ M1, KE D M M1 → ∃ M2, K_X0_mark x2 (nI S) M1 = some ((), M2) ∧ KF D [] [] [132] [] M1 M2 ∧ SetA (mA M1 132) (mA M2 132) (fun j => ∃ u, Q u ∧ j = 180 * S + u)) (hPQ : ∀ u, P u ∨ Q u → u < 180) : ∃ M', K_X0_newEquation x1 x2 x3 x4 M = some (.inl (nI S), M') ∧ KE D M M' ∧ EqV M M' S x1 x2 x3 (fun u => P u ∨ Q u) ∧ ∀ f o, o ≠ 1 → mI M' f o = mI M f o := by
  obtain ⟨M0, hM0⟩ : ∃ q, q = mwA (mwA (mwA (mwA (mwX (mwX (msI M 65 1 (nI (S + 1))) 126 S x1) 127 S x2) 128 S 0) 129 S (-1)) 130 S x3) 131 S (-1) := ⟨_, rfl⟩
  have k0 : KE D M M0 := by
    rw [hM0]
    exact ((((((KF.rf.wI rfl TZ.one).wX rfl ⟨by decide, by decide⟩).wX rfl ⟨by decide, by decide⟩).wA rfl ⟨by decide, by decide⟩).wA rfl ⟨by decide, by decide⟩).wA rfl ⟨by decide, by decide⟩).wA rfl ⟨by decide, by decide⟩
  obtain ⟨M1, a1, a2, a3⟩ := k_85 (D := D) hS.2 x1 x2 180 0 FU M0 (by omega) (by have := fu2; omega)
  obtain ⟨M2, b1, b2, b3⟩ := m1 M1 (k0.tr a2.e132)
  obtain ⟨M3, c1, c2, c3⟩ := m2 M2 ((k0.tr a2.e132).tr b2.e132)
  have k3 : KF D [] [] [132] [] M0 M3 := (a2.tr b2).tr c2
  refine ⟨M3, ?_, k0.tr k3.e132, ?_, fun f o ho => by rw [k3.i rfl, hM0]; show mI (msI M 65 1 (nI (S + 1))) f o = _; rw [mI_msI, ifF (fun z => ho z.2)]⟩
  · have iS : inb (nI S) 180 := inb_nI' hS.2 (by decide)
    have xS : ix (nI S) = S := ix_nI (by omega)
    have e0 : nZ 0 = 0 := by decide
    unfold K_X0_newEquation
    rw [hS.1, ifF (fun z => by have := (bI_eq (b := 180) (by omega) (by decide)).mp z; omega), nm_eq, nI_addL, nm_eq, xS, ifT ⟨iS, hx.1.imp id (fun z => (mk_msI ..).trans z)⟩, nm_eq, ifT ⟨iS, hx.2.imp id (fun z => by rw [mk_mwX, mk_msI]; exact z)⟩, nm_eq, ifT iS, nm_eq, ifT iS, nm_eq, ifT iS, nm_eq, ifT iS, nm_eq, e0, ← hM0, show KL_X0_newEquation_85 FU x1 x2 (nI S) 0 M0 = some ((), M1) from a1, ob_some, b1, ob_some, c1, ob_some]
  · have w : ∀ j, mX M0 126 j = (if j = S then x1 else mX M 126 j) ∧ mX M0 127 j = (if j = S then x2 else mX M 127 j) ∧ mA M0 128 j = (if j = S then 0 else mA M 128 j) ∧ mA M0 129 j = (if j = S then -1 else mA M 129 j) ∧ mA M0 130 j = (if j = S then x3 else mA M 130 j) ∧ mA M0 131 j = (if j = S then -1 else mA M 131 j) ∧ mA M0 132 j = mA M 132 j := fun j => by
      rw [hM0]
      by_cases z : j = S <;> simp +decide only [mX_mwX, mX_mwA, mX_msI, mA_mwA, mA_mwX, mA_msI, z, ↓reduceIte]
    refine ⟨by rw [k3.i rfl, hM0]; rfl, fun j => by rw [k3.gx rfl]; exact (w j).1, fun j => by rw [k3.gx rfl]; exact (w j).2.1, fun j => by rw [k3.ga rfl]; exact (w j).2.2.1, fun j => by rw [k3.ga rfl]; exact (w j).2.2.2.1, fun j => by rw [k3.ga rfl]; exact (w j).2.2.2.2.1, fun j => by rw [k3.ga rfl]; exact (w j).2.2.2.2.2.1, fun u hu => ⟨fun z => ?_, fun z => ?_⟩, fun j hj => ?_⟩
    · by_cases q : Q u
      · exact c3.1 _ ⟨u, q, rfl⟩
      · rw [c3.2 _ (fun ⟨u', q1, q2⟩ => q (by rw [show u = u' by omega]; exact q1))]
        exact b3.1 _ ⟨u, z.resolve_right q, rfl⟩
    · rw [c3.2 _ (fun ⟨u', q1, q2⟩ => z (Or.inr (by rw [show u = u' by omega]; exact q1))), b3.2 _ (fun ⟨u', q1, q2⟩ => z (Or.inl (by rw [show u = u' by omega]; exact q1))), a3, ifT (by omega)]
    · rw [c3.2 _ (fun ⟨u', q1, q2⟩ => by have := hPQ u' (Or.inr q1); omega), b3.2 _ (fun ⟨u', q1, q2⟩ => by have := hPQ u' (Or.inl q1); omega), a3, ifF (by omega), (w j).2.2.2.2.2.2]
theorem k_newEqb (hS : mI M 65 1 = nI 180) (hn : mn M ≤ 601024 ∧ ms M + 8 ≤ 7293034 ∧ mn M ≠ 0) (x1 x2 : Nat) (x3 x4 : Int32) : K_X0_newEquation x1 x2 x3 x4 M = some (.inr (mn M), wM M 52 x4) := by
  unfold K_X0_newEquation
  rw [hS, ifT (show nI 180 = (180 : Int32) from rfl), k_wrong ⟨hn.1, hn.2.1⟩ hn.2.2, ob_some, ifT (wM_k M 52 x4)]
theorem OcU.lt : ∀ (h n u : Nat), OcU s h n u → u < 180
  | 0, _, _, z => z.elim
  | h + 1, n, u, z => by
    have ih := fun n => OcU.lt h n u
    rw [OcU] at z
    rcases z with ⟨x, z⟩ | ⟨-, z⟩ | ⟨-, z | z⟩ | ⟨-, z | z | z⟩ | ⟨-, z | z⟩
    · exact z.lt.1
    all_goals exact ih _ z
/-- the twin learns -/
theorem t_l2 (x : Int32) : ∀ (d j f : Nat) (s : TS), j + d = 200 → d < f → ∃ s', L_learn_2 f x (nI j) s = some ((), s') ∧ Ft [201] s s' ∧ ∀ i, tA s' 201 i = if j ≤ i ∧ i < 200 then 0 else tA s 201 i := by
  intro d
  induction d with
  | zero =>
    intro j f s hj hf
    obtain ⟨f, rfl⟩ : ∃ g, f = g + 1 := ⟨f - 1, by omega⟩
    obtain rfl : j = 200 := by omega
    refine ⟨s, ?_, Ft.rf _ s, fun i => by rw [ifF (by omega)]⟩
    unfold L_learn_2
    rw [ifT (show (200 : Int32) ≤ nI 200 by decide)]
  | succ d ih =>
    intro j f s hj hf
    obtain ⟨f, rfl⟩ : ∃ g, f = g + 1 := ⟨f - 1, by omega⟩
    obtain ⟨s1, hs1⟩ : ∃ q, q = tsA s 201 j 0 := ⟨_, rfl⟩
    have f1 : Ft [201] s s1 := by rw [hs1]; exact (Ft.rf _ s).p_tsA rfl
    obtain ⟨s', a1, a2, a3⟩ := ih (j + 1) f s1 (by omega) (by omega)
    refine ⟨s', ?_, f1.tr a2, fun i => ?_⟩
    · have e0 : nZ 0 = 0 := by decide
      unfold L_learn_2
      rw [ifF (fun z => by have := (bI_le (a := 200) (by decide) (by omega)).mp z; omega), ifT (inb_nI' (by omega) (by decide)), ix_nI (by omega), e0, nm_eq, ← hs1, nI_addL, nm_eq, a1]
    · rw [a3 i]
      by_cases z : i = j
      · rw [ifF (by omega), ifT (by omega), hs1, tA_tsA, ifT ⟨rfl, z⟩]
      · by_cases z2 : j + 1 ≤ i ∧ i < 200
        · rw [ifT z2, ifT (by omega)]
        · rw [ifF z2, ifF (by omega), hs1, tA_tsA, ifF (fun y => z y.2)]
theorem t_l44 (he : e < 400) : ∀ (d j f : Nat) (s : TS), j + d = 200 → d < f → ∃ s', L_learn_44 f (nI e) (nI j) s = some ((), s') ∧ Ft [202] s s' ∧ ∀ i, tA s' 202 i = if 200 * e + j ≤ i ∧ i < 200 * e + 200 then nZ (tA s 201 (i - 200 * e)) else tA s 202 i := by
  intro d
  induction d with
  | zero =>
    intro j f s hj hf
    obtain ⟨f, rfl⟩ : ∃ g, f = g + 1 := ⟨f - 1, by omega⟩
    obtain rfl : j = 200 := by omega
    refine ⟨s, ?_, Ft.rf _ s, fun i => by rw [ifF (by omega)]⟩
    unfold L_learn_44
    rw [ifT (show (200 : Int32) ≤ nI 200 by decide)]
  | succ d ih =>
    intro j f s hj hf
    obtain ⟨f, rfl⟩ : ∃ g, f = g + 1 := ⟨f - 1, by omega⟩
    obtain ⟨s1, hs1⟩ : ∃ q, q = tsA s 202 (200 * e + j) (nZ (tA s 201 j)) := ⟨_, rfl⟩
    have f1 : Ft [202] s s1 := by rw [hs1]; exact (Ft.rf _ s).p_tsA rfl
    obtain ⟨s', a1, a2, a3⟩ := ih (j + 1) f s1 (by omega) (by omega)
    refine ⟨s', ?_, f1.tr a2, fun i => ?_⟩
    · unfold L_learn_44
      rw [ifF (fun z => by have := (bI_le (a := 200) (by decide) (by omega)).mp z; omega), ifT (inb_nI' (by omega) (by decide)), show nI e * (200 : Int32) + nI j = nI (200 * e + j) from by rw [show (200 : Int32) = nI 200 from rfl, nI_mul, bI_add, Nat.mul_comm], ifT (inb_nI' (by omega) (by decide)), ix_nI (n := 200 * e + j) (by omega), ix_nI (n := j) (by omega), nm_eq, ← hs1, nI_addL, nm_eq, a1]
    · rw [a3 i, (f1 201 rfl).2.2.1]
      by_cases z : i = 200 * e + j
      · rw [ifF (by omega), ifT (by omega), hs1, tA_tsA, ifT ⟨rfl, z⟩, show i - 200 * e = j by omega]
      · by_cases z2 : 200 * e + (j + 1) ≤ i ∧ i < 200 * e + 200
        · rw [ifT z2, ifT (by omega)]
        · rw [ifF z2, ifF (by omega), hs1, tA_tsA, ifF (fun y => z y.2)]
theorem t_learn (h7 : N ≤ 70000) (he : e < 400) (e1 : tA s 141 e = nI n1) (e2 : tA s 142 e = nI n2) (T1 : TwT s N h1 0 n1) (T2 : TwT s N h2 0 n2) (hh : h1 < 300 ∧ h2 < 300) : ∃ s', F_learn (nI e) s = some ((), s') ∧ LnV s s' e (fun u => OcU s h1 n1 u ∨ OcU s h2 n2 u) := by
  obtain ⟨s1, a1, a2, a3⟩ := t_l2 (nI e) 200 0 FU s (by omega) (by have := fu2; omega)
  obtain ⟨s2, b1, b2, b3⟩ := t_stands h7 h1 300 0 n1 s1 hh.1 T1 a2
  obtain ⟨s3, c1, c2, c3⟩ := t_stands h7 h2 300 0 n2 s2 hh.2 T2 (a2.tr b2)
  obtain ⟨s4, d1, d2, d3⟩ := t_l44 he 200 0 FU s3 (by omega) (by have := fu2; omega)
  have ie : inb (nI e) 400 := inb_nI' he (by decide)
  have xe : ix (nI e) = e := ix_nI (by omega)
  refine ⟨s4, ?_, ((a2.tr b2).tr c2).mono (by decide) |>.tr (d2.mono (by decide)), fun u hu => ⟨fun z => ?_, fun z => ?_⟩, fun j hj => ?_⟩
  · unfold F_learn
    rw [show L_learn_2 FU (nI e) 0 s = some ((), s1) from a1, ob_some, ifT ie, xe, (a2 141 rfl).2.2.1, e1, show F_standsIn (nI n1) s1 = some ((), s2) from b1, ob_some, ifT ie, (b2 142 rfl).2.2.1, (a2 142 rfl).2.2.1, e2, show F_standsIn (nI n2) s2 = some ((), s3) from c1, ob_some, show L_learn_44 FU (nI e) 0 s3 = some ((), s4) from d1, ob_some]
  · have : tA s3 201 u = 1 := by
      by_cases q : OcU s h2 n2 u
      · exact c3.1 u q
      · rw [c3.2 u q]; exact b3.1 u (z.resolve_right q)
    rw [d3, ifT (by omega), show 200 * e + u - 200 * e = u by omega, this]; decide
  · have : tA s3 201 u = 0 := by
      rw [c3.2 u (fun q => z (Or.inr q)), b3.2 u (fun q => z (Or.inl q)), a3, ifT (by omega)]
    rw [d3, ifT (by omega), show 200 * e + u - 200 * e = u by omega, this]; decide
  · rw [d3, ifF (by omega), (c2 202 rfl).2.2.1, (b2 202 rfl).2.2.1, (a2 202 rfl).2.2.1]
end LEARN
