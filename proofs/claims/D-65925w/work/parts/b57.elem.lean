/-! Layer B: elements: what they are, prefixes, units -/
set_option maxRecDepth 100000
/-- the exponents of an element -/
def UnR (M : CM) (σ : TS) (a e : Nat) : Prop := mk M a = 50 ∧ ml M a = 3 ∧ ∃ v : Nat → Nat, (∀ k, k < 3 → mA M a k = nI (v k) - 8 ∧ 1 ≤ v k ∧ v k ≤ 15) ∧ tA σ 54 e = (if v 0 = 8 ∧ v 1 = 8 ∧ v 2 = 8 then 0 else nI (v 0 + 32 * v 1 + 1024 * v 2 + 1048576))
/-- the modifications of an element, all of them -/
def MsR (C : PC) (P : Nat → Prop) (M : CM) (σ : TS) (l e : Nat) : Prop := ∃ os k0, LsP P M l os ∧ (1 ≤ k0 ∧ k0 + os.length ≤ ix (tI σ 65) ∧ 3 * os.length ≤ 1280) ∧ tA σ 55 e = (if os.length = 0 then 0 else nI k0) ∧ ∀ j, j < os.length → MdR C P M σ (os.getD j 0) (k0 + j) ∧ tA σ 61 (k0 + j) = if j + 1 < os.length then nI (k0 + j + 1) else 0
/-- no units unless it's a number; not inner and outer at once -/
def ElX (σ : TS) (e : Nat) : Prop := (tB σ 51 e = 0 ∨ tA σ 54 e = 0) ∧ (tA σ 52 e &&& 8 = 0 ∨ tA σ 52 e &&& 16 = 0)
/-- an element, on both sides -/
def ElR (C : PC) (P : Nat → Prop) (M : CM) (σ : TS) (o e : Nat) : Prop := (P o ∧ mk M o = 11 ∧ P (mR M 2005 o)) ∧ MsR C P M σ (mR M 2006 o) e ∧
  ((mI M 2000 o = 1 ∧ tA σ 57 e = 1 ∧ (∃ w, mI M 2002 o = nI w ∧ 38 ≤ w ∧ w < 38 + cm C ∧ tB σ 51 e = wc M w) ∧ mI M 2003 o = -1) ∨
   (mI M 2000 o = 0 ∧ tA σ 57 e = 0 ∧ (∃ w, mI M 2003 o = nI w ∧ 38 ≤ w ∧ w < 38 + cm C ∧ tB σ 50 e = wc M w) ∧ (∃ z, mI M 2004 o = nI z ∧ tA σ 53 e = nI z ∧ z ≤ 9) ∧ (∃ fl, fl < 64 ∧ mI M 2001 o = nI (32 * fl) ∧ tA σ 52 e = nI fl) ∧ ((mI M 2002 o = 12 ∧ tB σ 51 e = 0) ∨ ∃ w, mI M 2002 o = nI w ∧ 38 ≤ w ∧ w < 38 + cm C ∧ tB σ 51 e = wc M w) ∧ UnR M σ (mR M 2005 o) e ∧ ((mR M 2007 o = 0 ∧ tA σ 56 e = 0) ∨ ∃ x d, tA σ 56 e = nI x ∧ 1 ≤ x ∧ x < 9000 ∧ AR P (tN σ) (tQ σ) (cm C) (car C) (cnf C) (cfn C) M σ d 0 (mR M 2007 o) x) ∧ ElX σ e))
section ELEM
variable {C : PC} {M M' M0 Mb : CM} {σ σ' σ0 σb s1 : TS} {i dep c s n so ib depb cb' sb' nb' i0 v l p w m Q Q' N k k0 el le e : Nat} {bs qs bs' os : List Nat} {P P' X : Nat → Prop} {α β : Type}
/-- prefixes -/
theorem pf_bits : ∀ fl, fl < 64 → ∀ j, j < 6 → (((nI (32 * fl) >>> (nI (j + 5) &&& 31)) &&& 1 = 1) ↔ (nI fl &&& nI (2 ^ j) ≠ 0)) ∧ (nI fl &&& nI (2 ^ j) = 0 → nI (32 * fl) ||| (1 <<< (nI (j + 5) &&& 31)) = nI (32 * (fl + 2 ^ j)) ∧ nI fl ||| nI (2 ^ j) = nI (fl + 2 ^ j) ∧ fl + 2 ^ j < 64) := by decide +kernel
/-- the prefix that stands at i, if any -/
theorem z_prefix (P : Pe C M σ i dep c s n) : (∃ j, j < 6 ∧ mA M 91 i = 1 ∧ mA M 92 i = nI (j + 5) ∧ K_X2_isPrefix (mA M 92 i) M = some (1, M) ∧ F_flag σ = some (nI (2 ^ j), σ) ∧ i < ct C) ∨ ((mA M 91 i = 1 → K_X2_isPrefix (mA M 92 i) M = some (0, M)) ∧ F_flag σ = some (0, σ)) := by
  obtain ⟨L, W, h1280⟩ := P.wb
  obtain ⟨kd, s, ⟨b1, b2, b3, b4, b5, b6⟩, b7⟩ := P.px.2.2.2.2.1
  unfold F_flag
  rw [b4]
  have no : ∀ k, k ≠ 1 → kd = k → (if nI kd = 1 then (if lg_cmp (tL σ 16) (-11) = 0 then some ((1 : Int32), σ) else if lg_cmp (tL σ 16) 1718382455 = 0 then some (2, σ) else if lg_cmp (tL σ 16) 7235441147305620581 = 0 then some (4, σ) else if lg_cmp (tL σ 16) 452824294770 = 0 then some (8, σ) else if lg_cmp (tL σ 16) 478711932274 = 0 then some (16, σ) else if lg_cmp (tL σ 16) (-13) = 0 then some (32, σ) else some (0, σ)) else some (0, σ)) = some (0, σ) := fun k h1 h2 => by
    rw [ifF (show ¬ nI kd = 1 from by rw [show (1 : Int32) = nI 1 from rfl, bI_eq (by omega) (by decide)]; omega)]
  rcases b7 with ⟨q, q2⟩ | ⟨q, q2, w, q3, q4, q5⟩ | ⟨q, q2, _⟩ | ⟨q, q2, q3⟩ | ⟨q, q2⟩
  · exact Or.inr ⟨fun z => by rw [z] at q2; exact absurd q2 (by decide), no 0 (by decide) q⟩
  · subst q
    rw [ifT (show nI 1 = (1 : Int32) from rfl), q3]
    unfold K_X2_isPrefix
    have key : ∀ j, j < 38 → (lg_cmp (tL σ 16) (kco j) = 0 ↔ w = j) := fun j hj => by
      rw [lg_eq, ← q5]; exact wc_key W q4 hj
    have k5 := key 5 (by decide)
    have k6 := key 6 (by decide)
    have k7 := key 7 (by decide)
    have k8 := key 8 (by decide)
    have k9 := key 9 (by decide)
    have k10 := key 10 (by decide)
    rw [show kco 5 = -11 from by decide] at k5
    rw [show kco 6 = 1718382455 from by decide] at k6
    rw [show kco 7 = 7235441147305620581 from by decide] at k7
    rw [show kco 8 = 452824294770 from by decide] at k8
    rw [show kco 9 = 478711932274 from by decide] at k9
    rw [show kco 10 = -13 from by decide] at k10
    by_cases h5 : w = 5
    · subst h5; exact Or.inl ⟨0, by decide, q2, rfl, by rw [ifF (by decide), ifF (by decide)], by rw [ifT (k5.mpr rfl)]; rfl, b6.mpr (Or.inl rfl)⟩
    rw [ifF (fun z => h5 (k5.mp z))]
    by_cases h6 : w = 6
    · subst h6; exact Or.inl ⟨1, by decide, q2, rfl, by rw [ifF (by decide), ifF (by decide)], by rw [ifT (k6.mpr rfl)]; rfl, b6.mpr (Or.inl rfl)⟩
    rw [ifF (fun z => h6 (k6.mp z))]
    by_cases h7 : w = 7
    · subst h7; exact Or.inl ⟨2, by decide, q2, rfl, by rw [ifF (by decide), ifF (by decide)], by rw [ifT (k7.mpr rfl)]; rfl, b6.mpr (Or.inl rfl)⟩
    rw [ifF (fun z => h7 (k7.mp z))]
    by_cases h8 : w = 8
    · subst h8; exact Or.inl ⟨3, by decide, q2, rfl, by rw [ifF (by decide), ifF (by decide)], by rw [ifT (k8.mpr rfl)]; rfl, b6.mpr (Or.inl rfl)⟩
    rw [ifF (fun z => h8 (k8.mp z))]
    by_cases h9 : w = 9
    · subst h9; exact Or.inl ⟨4, by decide, q2, rfl, by rw [ifF (by decide), ifF (by decide)], by rw [ifT (k9.mpr rfl)]; rfl, b6.mpr (Or.inl rfl)⟩
    rw [ifF (fun z => h9 (k9.mp z))]
    by_cases h10 : w = 10
    · subst h10; exact Or.inl ⟨5, by decide, q2, rfl, by rw [ifF (by decide), ifF (by decide)], by rw [ifT (k10.mpr rfl)]; rfl, b6.mpr (Or.inl rfl)⟩
    rw [ifF (fun z => h10 (k10.mp z))]
    right
    refine ⟨fun _ => ?_, rfl⟩
    by_cases g : w < 5
    · rw [ifT ((nI_ltL (by omega) (by decide)).mpr g)]
    · rw [ifF (fun z => g ((nI_ltL (by omega) (by decide)).mp z)), ifT ((nI_Llt (by omega) (by decide)).mpr (show 10 < w by omega))]
  · exact Or.inr ⟨fun z => by rw [z] at q2; exact absurd q2 (by decide), no 2 (by decide) q⟩
  · refine Or.inr ⟨fun z => ?_, no 3 (by decide) q⟩
    exfalso
    rw [z] at q2
    rw [← q2] at q3
    rcases q3 with h | h | h | h | h
    · rcases h with h | h | h | h | h | h | h | h | h | h | h | h | h | h | h <;> exact absurd h (by decide)
    all_goals exact absurd h (by decide)
  · exact Or.inr ⟨fun z => by rw [z] at q2; exact absurd q2 (by decide), no 4 (by decide) q⟩
/-- the prefixes -/
theorem prefixes (Pb : Pe C Mb σb ib depb cb' sb' nb') {x1 : Int32} (he : e < 481) :
    ∀ (g : Nat) (M : CM) (σ : TS) (i f f' fl : Nat), ct C - i < g → g < f → g < f' → Es Mb σb M σ → Pe C M σ i dep c s n → 1 ≤ c → 8 ≤ s → (mn Mb ≤ v ∧ v < mn M) → mk M v = 11 → fl < 64 → mI M 2001 v = nI (32 * fl) → tA σ 52 e = nI fl →
    (∃ M' σ' i' fl', KL_X2_element_53 f v M = some (.inl (), M') ∧ L_component_0 f' x1 (nI e) σ = some (.inl (), σ') ∧ Pe C M' σ' i' dep c s n ∧ i ≤ i' ∧ Es Mb σb M' σ' ∧ fl' < 64 ∧ mI M' 2001 v = nI (32 * fl') ∧ tA σ' 52 e = nI fl' ∧ Fz (fun o => o = 90 ∨ o = v) M M' ∧ (∀ g, mR M' g v = mR M g v) ∧ (∀ g, g ≠ 2001 → mI M' g v = mI M g v) ∧ Ft [10, 11, 12, 13, 14, 15, 16, 17, 18, 21, 52] σ σ' ∧ ∀ j, j ≠ e → tA σ' 52 j = tA σ 52 j) ∨
    (∃ w M' y σ', KL_X2_element_53 f v M = some (.inr (.inr w), M') ∧ L_component_0 f' x1 (nI e) σ = some (y, σ') ∧ FB C Mb σb M' w σ') := by
  have h167 := Pb.n167
  intro g
  induction g with
  | zero => intro M σ i f f' fl hg; exact absurd hg (Nat.not_lt_zero _)
  | succ g ih =>
    intro M σ i f f' fl hg hf hf' E P hc hs hv hk hfl h01 h52
    obtain ⟨f, rfl⟩ : ∃ g, f = g + 1 := ⟨f - 1, by omega⟩
    obtain ⟨f', rfl⟩ : ∃ g, f' = g + 1 := ⟨f' - 1, by omega⟩
    have hit := P.it
    obtain ⟨g1, g2⟩ := P.px.in1
    have hin : inb (nI e) 481 := inb_nI' he (by decide)
    have hix : ix (nI e) = e := ix_nI (by omega)
    rw [KL_X2_element_53, L_component_0, t_isBad0 P.g0, ob_some, ifT (rfl : (0 : Int32) = 0)]
    simp only [ifT g1, ifT hin, hix]
    rw [g2]
    rcases z_prefix P with ⟨j, hj, k1, k2, k3, k4, hi⟩ | ⟨k1, k2⟩
    · obtain ⟨p1, p2⟩ := pf_bits fl hfl j hj
      have hf0 : ¬ nI (2 ^ j) = 0 := by
        have : ∀ j, j < 6 → ¬ nI (2 ^ j) = 0 := by decide
        exact this j hj
      rw [ifT k1, k3, ob_some, ifF (show ¬ (1 : Int32) = 0 from by decide), ifT g1, ifT hk, g2, k4, ob_some, ifF hf0, k4, ob_some, h52]
      unfold K_X11_is
      rw [ifT hk, h01, k2]
      by_cases hb : nI fl &&& nI (2 ^ j) = 0
      · obtain ⟨p3, p4, p5⟩ := p2 hb
        have F1 : Fz (fun o => o = 90 ∨ o = v) M (msI M 2001 v (nI (32 * (fl + 2 ^ j)))) := Fz.rf.msI (fun _ => Or.inr rfl)
        obtain ⟨P1, E1⟩ := Pb.re (M' := msI M 2001 v (nI (32 * (fl + 2 ^ j)))) (X := fun o => o = v) E P (Fz.rf.msI (fun _ => rfl)) (fun o z => by omega) (c' := c) (s' := s) (Nat.le_refl _) (Nat.le_refl _)
        have fr1 : Ft [52] σ (tsA σ 52 e (nI (fl + 2 ^ j))) := (Ft.rf _ _).p_tsA rfl
        obtain ⟨σ2, n2, P2, E2⟩ := z_step (P1.tx fr1 (by decide)) hi
        have fr2 := fS_F_next _ _ _ n2
        have E02 := (E1.tx fr1 (by decide)).tr E2
        have e405 : mI (msI M 2001 v (nI (32 * (fl + 2 ^ j)))) 405 90 = nI i := by rw [mI_msI, ifF (by omega)]; exact P.i5
        rw [ifF (show ¬ ((nI (32 * fl) >>> (nI (j + 5) &&& 31)) &&& 1 = 1) from fun z => (p1.mp z) hb), ob_some, ifT (rfl : (0 : Int32) = 0), ifT hk, ifT g1, ifT hk, h01, g2, k2, p3, nm_eq, e405, nI_addL, nm_eq, ifT hb, p4, nm_eq, n2, ob_some]
        have F2 : Fz (fun o => o = 90 ∨ o = v) M (msI (msI M 2001 v (nI (32 * (fl + 2 ^ j)))) 405 90 (nI (i + 1))) := F1.msI (fun _ => Or.inl rfl)
        have S : Ft [10, 11, 12, 13, 14, 15, 16, 17, 18, 21, 52] σ σ2 := (fr1.mono (by decide)).tr (fr2.mono (by decide))
        rcases ih _ σ2 (i + 1) f f' (fl + 2 ^ j) (by omega) (by omega) (by omega) E02 (P2.wk (c' := c) (s' := s) (n' := n) (by omega) (by omega) (by omega)) hc hs ⟨hv.1, hv.2⟩ hk p5 (by rw [mI_msI, ifF (by omega), mI_msI, ifT ⟨rfl, rfl⟩]) (by rw [(fr2 52 rfl).2.2.1, tA_tsA, ifT ⟨rfl, rfl⟩]) with ⟨M3, σ3, i3, fl3, q1, q2, q3, q4, q5, q6, q7, q8, q9, q10, q11, q12⟩ | q
        · exact Or.inl ⟨M3, σ3, i3, fl3, q1, q2, q3, by omega, q5, q6, q7, q8, F2.tr q9, fun g => by rw [q10]; rfl, fun g hg => by rw [q11 g hg, mI_msI, ifF (by omega), mI_msI, ifF (fun z => hg z.1)], S.tr q12.1, fun j hj => by rw [q12.2 j hj, (fr2 52 rfl).2.2.1, tA_tsA, ifF (by omega)]⟩
        · exact Or.inr q
      · obtain ⟨r, p, hr, s1, s2⟩ := y_stop P.px (P.cap (by omega))
        rw [ifT (p1.mpr hb), ob_some, ifF (show ¬ (1 : Int32) = 0 from by decide), s1, ob_some, ifT (wM_k M r p), ifF hb, s2, ob_some]
        exact Or.inr ⟨_, _, _, _, rfl, rfl, (P.fb hc hs (by rcases hr with rfl | rfl <;> decide)).tr E⟩
    · rw [k2, ob_some, ifT (rfl : (0 : Int32) = 0)]
      left
      refine ⟨M, σ, i, fl, ?_, rfl, P, Nat.le_refl _, E, hfl, h01, h52, Fz.rf, fun _ => rfl, fun _ _ => rfl, Ft.rf _ _, fun _ _ => rfl⟩
      by_cases h91 : mA M 91 i = 1
      · rw [ifT h91, k1 h91, ob_some, ifT (rfl : (0 : Int32) = 0)]
      · rw [ifF h91]
end ELEM
