/-! Layer B: units of elements -/
set_option maxRecDepth 100000
theorem un_or : ∀ v, v < 16 → (0 : Int32) ||| (nI v <<< ((5 * 0) &&& 31)) = nI v ∧ (∀ a, a < 16 → nI a ||| (nI v <<< ((5 * 1) &&& 31)) = nI (a + 32 * v) ∧ ∀ b, b < 16 → nI (a + 32 * b) ||| (nI v <<< ((5 * 2) &&& 31)) = nI (a + 32 * b + 1024 * v)) := by decide +kernel
theorem un_at : ∀ a, a < 16 → ∀ b, b < 16 → ∀ v, v < 16 → ((nI (a + 32 * b + 1024 * v) >>> ((5 * 0) &&& 31)) &&& 31 = 8 ↔ a = 8) ∧ ((nI (a + 32 * b + 1024 * v) >>> ((5 * 1) &&& 31)) &&& 31 = 8 ↔ b = 8) ∧ ((nI (a + 32 * b + 1024 * v) >>> ((5 * 2) &&& 31)) &&& 31 = 8 ↔ v = 8) ∧ nI (a + 32 * b + 1024 * v) ||| 1048576 = nI (a + 32 * b + 1024 * v + 1048576) := by decide +kernel
theorem un_n : ∀ n, n ≤ 7 → nI n + 8 = nI (8 + n) ∧ - nI n + 8 = nI (8 - n) ∧ nI n = nI (8 + n) - 8 ∧ - nI n = nI (8 - n) - 8 := by decide
section UNIT
variable {C : PC} {M M' M0 Mb : CM} {σ σ' σ0 σb s1 : TS} {i dep c s n so ib depb cb' sb' nb' i0 v l p w m Q Q' N k k0 el le e a : Nat} {bs qs bs' os : List Nat} {P P' X : Nat → Prop} {α β : Type}
theorem l97 (he : e < 481) (σ : TS) (y : Int32) : ∃ x, L_readUnit_97 FU (nI e) y 0 σ = some (x, σ) := by
  have hin : inb (nI e) 481 := inb_nI' he (by decide)
  have key : ∀ (d f : Nat) (k : Nat) (y : Int32), k + d = 3 → ∃ x, L_readUnit_97 (f + d + 1) (nI e) y (nI k) σ = some (x, σ) := by
    intro d
    induction d with
    | zero =>
      intro f k y hk
      rw [L_readUnit_97, ifT (show (3 : Int32) ≤ nI k from by rw [show k = 3 by omega]; decide)]
      exact ⟨_, rfl⟩
    | succ d ih =>
      intro f k y hk
      rw [show f + (d + 1) + 1 = (f + d + 1) + 1 by omega, L_readUnit_97, ifF (show ¬ (3 : Int32) ≤ nI k from by rw [show (3 : Int32) = nI 3 from rfl, bI_le (by decide) (by omega)]; omega)]
      simp only [nm_eq, nI_addL, ifT hin]
      by_cases h : y = 0
      · rw [ifT h]; exact ih f (k + 1) 0 (by omega)
      · rw [ifF h]
        split
        · exact ih f (k + 1) 1 (by omega)
        · exact ih f (k + 1) 0 (by omega)
  exact key 3 (FU - 4) 0 y rfl
theorem l97v (he : e < 481) {a b v : Nat} (ha : a < 16) (hb : b < 16) (hv : v < 16) (h54 : tA σ 54 e = nI (a + 32 * b + 1024 * v)) : L_readUnit_97 FU (nI e) 1 0 σ = some ((if a = 8 ∧ b = 8 ∧ v = 8 then 1 else 0), σ) := by
  have hin : inb (nI e) 481 := inb_nI' he (by decide)
  have hix : ix (nI e) = e := ix_nI (by omega)
  obtain ⟨u1, u2, u3, _⟩ := un_at a ha b hb v hv
  have hF : FU = (FU - 4) + 1 + 1 + 1 + 1 := rfl
  have z0 : ∀ (f : Nat), L_readUnit_97 (f + 1 + 1 + 1 + 1) (nI e) 0 0 σ = some (0, σ) := fun f => by
    rw [L_readUnit_97, ifF (by decide), ifT rfl, nm_eq, L_readUnit_97, ifF (by decide), ifT rfl, nm_eq, L_readUnit_97, ifF (by decide), ifT rfl, nm_eq, L_readUnit_97, ifT (by decide)]
  rw [hF, L_readUnit_97, ifF (by decide), ifF (by decide), ifT hin, hix, h54]
  by_cases c1 : a = 8
  · rw [ifT (u1.mpr c1), nm_eq, L_readUnit_97, ifF (by decide), ifF (by decide), ifT hin, hix, h54, show (5 : Int32) * (0 + 1) = 5 * 1 from rfl]
    by_cases c2 : b = 8
    · rw [ifT (u2.mpr c2), nm_eq, L_readUnit_97, ifF (by decide), ifF (by decide), ifT hin, hix, h54, show (5 : Int32) * (0 + 1 + 1) = 5 * 2 from rfl]
      by_cases c3 : v = 8
      · rw [ifT (u3.mpr c3), nm_eq, L_readUnit_97, ifT (by decide), ifT ⟨c1, c2, c3⟩]
      · rw [ifF (fun z => c3 (u3.mp z)), nm_eq, L_readUnit_97, ifT (by decide), ifF (fun z => c3 z.2.2)]
    · rw [ifF (fun z => c2 (u2.mp z)), nm_eq, L_readUnit_97, ifF (by decide), ifT rfl, nm_eq, L_readUnit_97, ifT (by decide), ifF (fun z => c2 z.2.1)]
  · rw [ifF (fun z => c1 (u1.mp z)), nm_eq, L_readUnit_97, ifF (by decide), ifT rfl, nm_eq, L_readUnit_97, ifF (by decide), ifT rfl, nm_eq, L_readUnit_97, ifT (by decide), ifF (fun z => c1 z.1)]
theorem bw_J51 {rec : Int32 → Int32 → TS → Option (Unit × TS)} (he : e < 481) (x2 x3 : Int32) (hr : ∀ s', Br C σ s' → BW C σ (rec (nI e) (x2 + 1) s')) (hb : Br C σ s1) : BW C σ (J_readUnit_51_6 rec (nI e) x2 x3 s1) := by
  have hin : inb (nI e) 481 := inb_nI' he (by decide)
  unfold J_readUnit_51_6
  exact BW.bo (bw_passWhole hb _) fun r s hb => BW.itT hin (BW.ite (BW.itT hin (BW.nmA hb rfl fun s hb => hr s hb)) (BW.itT hin (BW.nmA hb rfl fun s hb => hr s hb)))
theorem bw_J21 {rec : Int32 → Int32 → TS → Option (Unit × TS)} (he : e < 481) (x2 : Int32) (hr : ∀ s', Br C σ s' → BW C σ (rec (nI e) (x2 + 1) s')) (hb : Br C σ s1) : BW C σ (J_readUnit_21_6 rec (nI e) x2 s1) := by
  unfold J_readUnit_21_6
  refine BW.isBad hb ?_
  unfold J_readUnit_41_6 J_readUnit_42_6
  rw [ifT rfl]
  exact bw_J51 he x2 0 hr hb
theorem bw_L6 (he : e < 481) : ∀ (d f k : Nat) (s1 : TS), k + d = 3 → Br C σ s1 → BW C σ (L_readUnit_6 (f + d + 1) (nI e) (nI k) s1) := by
  intro d
  induction d with
  | zero =>
    intro f k s1 hk hb
    rw [L_readUnit_6, ifT (show (3 : Int32) ≤ nI k from by rw [show k = 3 by omega]; decide)]
    exact BW.sm hb
  | succ d ih =>
    intro f k s1 hk hb
    rw [show f + (d + 1) + 1 = (f + d + 1) + 1 by omega, L_readUnit_6, ifF (show ¬ (3 : Int32) ≤ nI k from by rw [show (3 : Int32) = nI 3 from rfl, bI_le (by decide) (by omega)]; omega)]
    have hr : ∀ s', Br C σ s' → BW C σ (L_readUnit_6 (f + d + 1) (nI e) (nI k + 1) s') := fun s' hb => by
      rw [nI_addL]; exact ih f (k + 1) s' (by omega) hb
    exact BW.ite (bw_J21 he _ hr hb) (BW.bo (bw_pass hb _) fun _ s hb => bw_J21 he _ hr hb)
/-- an exponent -/
theorem un_round {recK : Nat → Int32 → CM → Option ((Unit ⊕ (Unit ⊕ Nat)) × CM)} {recT : Int32 → Int32 → TS → Option (Unit × TS)} {acc : Nat} (Pb : Pe C Mb σb ib depb cb' sb' nb') (E : Es Mb σb M σ) (P : Pe C M σ i dep c s n) (hc : 1 ≤ c) (hs : 8 ≤ s) (he : e < 481) (hk : k < 3) (hv : (mn Mb ≤ v ∧ v < mn M) ∧ mk M v = 11) (ha : (mn Mb ≤ a ∧ a < mn M) ∧ mR M 2005 v = a ∧ mk M a = 50 ∧ ml M a = 3) (hva : v ≠ a) (h54 : tA σ 54 e = nI acc) (hacc : ∀ u, u < 16 → nI acc ||| (nI u <<< ((5 * nI k) &&& 31)) = nI (acc + 32 ^ k * u)) (hr : ∀ σ' s', Br C σ' s' → BW C σ' (recT (nI e) (nI k + 1) s')) :
    (∃ M' σ' i' u, KJ_X2_element_177_162 recK v (nI k) M = recK v (nI (k + 1)) M' ∧ J_readUnit_21_6 recT (nI e) (nI k) σ = recT (nI e) (nI (k + 1)) σ' ∧ Pe C M' σ' i' dep c s n ∧ i < i' ∧ Es Mb σb M' σ' ∧ 1 ≤ u ∧ u ≤ 15 ∧ mA M' a k = nI u - 8 ∧ (∀ j, j ≠ k → mA M' a j = mA M a j) ∧ tA σ' 54 e = nI (acc + 32 ^ k * u) ∧ Fz (fun o => o = 90 ∨ o = a) M M' ∧ (∀ g, mI M' g a = mI M g a) ∧ Ft [10, 11, 12, 13, 14, 15, 16, 17, 18, 21, 54] σ σ' ∧ ∀ j, j ≠ e → tA σ' 54 j = tA σ 54 j) ∨
    (∃ w M' y σ', KJ_X2_element_177_162 recK v (nI k) M = some (.inr (.inr w), M') ∧ J_readUnit_21_6 recT (nI e) (nI k) σ = some (y, σ') ∧ FB C Mb σb M' w σ') := by
  have h167 := Pb.n167
  have hin : inb (nI e) 481 := inb_nI' he (by decide)
  have hix : ix (nI e) = e := ix_nI (by omega)
  have hink : inb (nI k) 3 := inb_nI' hk (by decide)
  have hixk : ix (nI k) = k := ix_nI (by omega)
  unfold KJ_X2_element_177_162 J_readUnit_21_6
  rw [t_isBad0 P.g0, ob_some, ifT (rfl : (0 : Int32) = 0)]
  -- the number behind the sign
  have num : ∀ (M1 : CM) (σ1 : TS) (i1 c1 s1 n1 : Nat) (y : Int32), (y = 0 ∨ y = 1) → Pe C M1 σ1 i1 dep c1 s1 n1 → 1 ≤ c1 → 8 ≤ s1 → c ≤ c1 → s ≤ s1 → n ≤ n1 → i ≤ i1 → Es M σ M1 σ1 → (Ft [10, 11, 12, 13, 14, 15, 16, 17, 18, 21, 54] σ σ1 ∧ ∀ j, tA σ1 54 j = tA σ 54 j) → tA σ1 54 e = nI acc →
      (∃ M' σ' i' u, (obS (K_X2_number 0 7 M1) (fun w162 M158 => some ((.inr (.inr w162) : Unit ⊕ (Unit ⊕ Nat)), M158)) fun r159 M158 => if mk M158 v = 11 then if y = 0 then if mk M158 (mR M158 2005 v) = 50 ∧ inb (nI k) (ml M158 (mR M158 2005 v)) then nm (mwA M158 (mR M158 2005 v) (ix (nI k)) r159) fun M165 => nm (nI k + 1) fun v166 => recK v v166 M165 else none else if mk M158 (mR M158 2005 v) = 50 ∧ inb (nI k) (ml M158 (mR M158 2005 v)) then nm (mwA M158 (mR M158 2005 v) (ix (nI k)) (-r159)) fun M168 => nm (nI k + 1) fun v169 => recK v v169 M168 else none else none) = recK v (nI (k + 1)) M' ∧ J_readUnit_51_6 recT (nI e) (nI k) y σ1 = recT (nI e) (nI (k + 1)) σ' ∧ Pe C M' σ' i' dep c s n ∧ i < i' ∧ Es Mb σb M' σ' ∧ 1 ≤ u ∧ u ≤ 15 ∧ mA M' a k = nI u - 8 ∧ (∀ j, j ≠ k → mA M' a j = mA M a j) ∧ tA σ' 54 e = nI (acc + 32 ^ k * u) ∧ Fz (fun o => o = 90 ∨ o = a) M M' ∧ (∀ g, mI M' g a = mI M g a) ∧ Ft [10, 11, 12, 13, 14, 15, 16, 17, 18, 21, 54] σ σ' ∧ ∀ j, j ≠ e → tA σ' 54 j = tA σ 54 j) ∨
      (∃ w M' y' σ', (obS (K_X2_number 0 7 M1) (fun w162 M158 => some ((.inr (.inr w162) : Unit ⊕ (Unit ⊕ Nat)), M158)) fun r159 M158 => if mk M158 v = 11 then if y = 0 then if mk M158 (mR M158 2005 v) = 50 ∧ inb (nI k) (ml M158 (mR M158 2005 v)) then nm (mwA M158 (mR M158 2005 v) (ix (nI k)) r159) fun M165 => nm (nI k + 1) fun v166 => recK v v166 M165 else none else if mk M158 (mR M158 2005 v) = 50 ∧ inb (nI k) (ml M158 (mR M158 2005 v)) then nm (mwA M158 (mR M158 2005 v) (ix (nI k)) (-r159)) fun M168 => nm (nI k + 1) fun v169 => recK v v169 M168 else none else none) = some (.inr (.inr w), M') ∧ J_readUnit_51_6 recT (nI e) (nI k) y σ1 = some (y', σ') ∧ FB C Mb σb M' w σ') := by
    intro M1 σ1 i1 c1 s1 n1 y hy P1 h1 h2 h3 h4 h5 h6 E1 S1 g54
    rcases z_number P1 h1 h2 (x2 := 7) (hi := 7) rfl (by decide) with ⟨x, x', σ2, a1, a2, P2, E2, hi2, ⟨q, hx, hx', hq⟩, n2⟩ | ⟨w, M2, y', σ2, a1, a2, fb⟩
    · left
      have fr2 := fS_F_next _ _ _ n2
      have E12 := E1.tr E2
      have E02 := E.tr E12
      have sv : So M (msI M1 405 90 (nI (i1 + 1))) v := E12.1.so hv.1.2 (by omega)
      have sa : So M (msI M1 405 90 (nI (i1 + 1))) a := E12.1.so ha.1.2 (by omega)
      obtain ⟨u1, u2, u3, u4⟩ := un_n q hq
      have go : ∀ (z : Int32) (u : Nat), 1 ≤ u → u ≤ 15 → z = nI u - 8 → ∃ M', M' = mwA (msI M1 405 90 (nI (i1 + 1))) a k z ∧ Pe C M' (tsA σ2 54 e (nI acc ||| (nI u <<< ((5 * nI k) &&& 31)))) (i1 + 1) dep c s n ∧ Es Mb σb M' (tsA σ2 54 e (nI acc ||| (nI u <<< ((5 * nI k) &&& 31)))) ∧ mA M' a k = nI u - 8 ∧ (∀ j, j ≠ k → mA M' a j = mA M a j) ∧ tA (tsA σ2 54 e (nI acc ||| (nI u <<< ((5 * nI k) &&& 31)))) 54 e = nI (acc + 32 ^ k * u) ∧ Fz (fun o => o = 90 ∨ o = a) M M' ∧ (∀ g, mI M' g a = mI M g a) ∧ (Ft [10, 11, 12, 13, 14, 15, 16, 17, 18, 21, 54] σ (tsA σ2 54 e (nI acc ||| (nI u <<< ((5 * nI k) &&& 31)))) ∧ ∀ j, j ≠ e → tA (tsA σ2 54 e (nI acc ||| (nI u <<< ((5 * nI k) &&& 31)))) 54 j = tA σ 54 j) := by
        intro z u hu1 hu2 hz
        have f3 : Ft [54] σ2 (tsA σ2 54 e (nI acc ||| (nI u <<< ((5 * nI k) &&& 31)))) := (Ft.rf _ _).p_tsA rfl
        obtain ⟨P3, E3⟩ := Pb.re (M' := mwA (msI M1 405 90 (nI (i1 + 1))) a k z) (X := fun o => o = a) (E02.tx f3 (by decide)) (P2.tx f3 (by decide)) (Fz.rf.mwA (fun _ => rfl)) (fun o z => by omega) (c' := c) (s' := s) (by show mn M1 + c ≤ mn M1 + _; omega) (by show ms M1 + s ≤ ms M1 + _; omega)
        refine ⟨_, rfl, P3.wk (Nat.le_refl _) (Nat.le_refl _) (by omega), E3, by rw [mA_mwA, ifT ⟨rfl, rfl⟩]; exact hz, fun j hj => by rw [mA_mwA, ifF (fun q => hj q.2), sa.a], by rw [tA_tsA, ifT ⟨rfl, rfl⟩]; exact hacc u (by omega), (E12.1.mono (fun o _ z => Or.inl z)).mwA (fun _ => Or.inr rfl), fun g => sa.i g, (S1.1.tr (fr2.mono (by decide))).tr (f3.mono (by decide)), fun j hj => by rw [tA_tsA, ifF (by omega), (fr2 54 rfl).2.2.1, S1.2]⟩
      unfold J_readUnit_51_6
      rw [a1, obS_inl, ifT (show mk (msI M1 405 90 (nI (i1 + 1))) v = 11 from by rw [sv.k]; exact hv.2), sv.r, ha.2.1, sa.k, sa.l, a2, ob_some, ifT hin, hix, hixk, (fr2 54 rfl).2.2.1, g54]
      have hg : mk M a = 50 ∧ inb (nI k) (ml M a) := ⟨ha.2.2.1, by rw [ha.2.2.2]; exact hink⟩
      rcases hy with rfl | rfl
      · rw [ifT (rfl : (0 : Int32) = 0), ifT hg, nm_eq, nm_eq, nI_addL, ifT (rfl : (0 : Int32) = 0), ifT hin, hx', u1, nm_eq, nm_eq]
        obtain ⟨M', e1, q1, q2, q3, q4, q5, q6, q7, q8⟩ := go x (8 + q) (by omega) (by omega) (by rw [hx]; exact u3)
        exact ⟨M', _, i1 + 1, 8 + q, by rw [e1], rfl, q1, by omega, q2, by omega, by omega, q3, q4, q5, q6, q7, q8⟩
      · rw [ifF (show ¬ (1 : Int32) = 0 from by decide), ifT hg, nm_eq, nm_eq, nI_addL, ifF (show ¬ (1 : Int32) = 0 from by decide), ifT hin, hx', u2, nm_eq, nm_eq]
        obtain ⟨M', e1, q1, q2, q3, q4, q5, q6, q7, q8⟩ := go (-x) (8 - q) (by omega) (by omega) (by rw [hx]; exact u4)
        exact ⟨M', _, i1 + 1, 8 - q, by rw [e1], rfl, q1, by omega, q2, by omega, by omega, q3, q4, q5, q6, q7, q8⟩
    · right
      unfold J_readUnit_51_6
      have fb := (fb.tr E1).tr E
      rw [a1, obS_inr, a2, ob_some]
      obtain ⟨y2, s2, e2, g2⟩ := (BW.itT hin (BW.ite (BW.itT hin (BW.nmA fb.bd rfl fun s hb => hr _ s hb)) (BW.itT hin (BW.nmA fb.bd rfl fun s hb => hr _ s hb))) : BW C σ2 (if inb (nI e) 481 then if y = 0 then if inb (nI e) 481 then nm (tsA σ2 54 (ix (nI e)) ((tA σ2 54 (ix (nI e))) ||| ((y' + 8) <<< ((5 * nI k) &&& 31)))) fun s15 => nm (nI k + 1) fun v16 => recT (nI e) v16 s15 else none else if inb (nI e) 481 then nm (tsA σ2 54 (ix (nI e)) ((tA σ2 54 (ix (nI e))) ||| (((-y') + 8) <<< ((5 * nI k) &&& 31)))) fun s18 => nm (nI k + 1) fun v19 => recT (nI e) v19 s18 else none else none))
      exact ⟨w, M2, y2, s2, rfl, e2, fb.br g2⟩
  rcases z_take P (x := 45) (by decide) with ⟨σ1, u1, u2, u3, P1, E1, u6⟩ | ⟨u1, u2⟩
  · have fr1 := fS_F_next _ _ _ u3
    rw [u1, ob_some, u2, ob_some, ifF (show ¬ (1 : Int32) = 0 from by decide)]
    unfold J_readUnit_42_6
    rw [ifF (show ¬ (1 : Int32) = 0 from by decide), u3, ob_some]
    exact num _ σ1 (i + 1) _ _ _ 1 (Or.inr rfl) P1 (by omega) (by omega) (by omega) (by omega) (by omega) (by omega) E1 ⟨fr1.mono (by decide), fun j => (fr1 54 rfl).2.2.1 j⟩ (by rw [(fr1 54 rfl).2.2.1]; exact h54)
  · rw [u1, ob_some, u2, ob_some, ifT (rfl : (0 : Int32) = 0)]
    unfold J_readUnit_41_6 J_readUnit_42_6
    rw [ifT (rfl : (0 : Int32) = 0)]
    exact num M σ i c s n 0 (Or.inl rfl) P hc hs (Nat.le_refl _) (Nat.le_refl _) (Nat.le_refl _) (Nat.le_refl _) (Es.rf _ _) ⟨Ft.rf _ _, fun _ => rfl⟩ h54
end UNIT
