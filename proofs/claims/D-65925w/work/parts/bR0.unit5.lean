/-! Layer B: units: what the component finds of each sort of node -/
set_option maxRecDepth 100000
section UNIT5
variable {M M0 M' M1 M2 : CM} {i j k p q d f a b n h kf v vo x y c : Nat} {r r2 : Int32} {u w : UV} {e e2 : E3} {S : Int}
theorem V3.ne (h : V3 M p e) (g : V3 M (p + 3) e2) (h1 : bU 100000 e) (h2 : bU 100000 e2) : (e = e2 → ∀ i, p ≤ i → i < p + 3 → mA M 116 i = mA M 116 (i + 3)) ∧ (e ≠ e2 → ∃ i, p ≤ i ∧ i < p + 3 ∧ ¬ mA M 116 i = mA M 116 (i + 3)) := by
  obtain ⟨a1, a2, a3⟩ := h
  obtain ⟨b1, b2, b3⟩ := g
  obtain ⟨⟨c1, c2⟩, ⟨c3, c4⟩, c5, c6⟩ := h1
  obtain ⟨⟨d1, d2⟩, ⟨d3, d4⟩, d5, d6⟩ := h2
  refine ⟨fun q i h1 h2 => ?_, fun q => ?_⟩
  · subst q
    have : i = p ∨ i = p + 1 ∨ i = p + 2 := by omega
    rcases this with rfl | rfl | rfl
    · rw [a1, b1]
    · rw [a2, show p + 1 + 3 = p + 3 + 1 by omega, b2]
    · rw [a3, show p + 2 + 3 = p + 3 + 2 by omega, b3]
  · by_cases q1 : e.1 = e2.1
    · by_cases q2 : e.2.1 = e2.2.1
      · by_cases q3 : e.2.2 = e2.2.2
        · exact absurd (Prod.ext q1 (Prod.ext q2 q3)) q
        · exact ⟨p + 2, by omega, by omega, fun z => q3 (by rw [a3, show p + 2 + 3 = p + 3 + 2 by omega, b3] at z; exact (iI_eq (by omega) (by omega)).mp z)⟩
      · exact ⟨p + 1, by omega, by omega, fun z => q2 (by rw [a2, show p + 1 + 3 = p + 3 + 1 by omega, b2] at z; exact (iI_eq (by omega) (by omega)).mp z)⟩
    · exact ⟨p, by omega, by omega, fun z => q1 (by rw [a1, b1] at z; exact (iI_eq (by omega) (by omega)).mp z)⟩
theorem V3.kp (h : V3 M p e) (g : ∀ j, j < p + 3 → mA M' 116 j = mA M 116 j) : V3 M' p e := ⟨(g p (by omega)).trans h.1, (g (p + 1) (by omega)).trans h.2.1, (g (p + 2) (by omega)).trans h.2.2⟩
/-- two that are to be alike -/
theorem CA (g0 : K8 M0) (A : CU M0 h a u) (B : CU M0 h b w) (hu : bV 100000 u) (hw : bV 100000 w) (hk : 2 * h ≤ kf) (hp : p + 3 + 3 * h + 3 ≤ 700) (K : Ku M0 M) : ∃ r M', KB_X0_alike (KG_X0_alike kf).2 a b (nI p) M = some (r, M') ∧ Ku M M' ∧ (∀ j, j < p → mA M' 116 j = mA M 116 j) ∧ UR (uAl u w) p r M M' := by
  obtain ⟨r, M1, a1, a2, a3, a4, a5, a6⟩ := A kf p M hk (by omega) K
  obtain ⟨r6, M5, b1, b2, b3, b4, b5, b6⟩ := B kf (p + 3) M1 hk (by omega) (K.tr a2)
  have K5 := (K.tr a2).tr b2
  have g5 := K5.k8 g0
  have V5 : u ≠ none → V3 M5 p (eZ u) := fun z => (a6 z).2.2.kp b3
  have st : KB_X0_alike (KG_X0_alike kf).2 a b (nI p) M = if r = 0 then ob (KL_X0_alike_45 (KG_X0_alike kf).2 FU (nI p) r6 (nI p) M5) fun q19 M20 => some (0, M20) else if mk M5 116 = 50 ∧ mk M5 116 = 50 ∧ ¬ nI p + 3 < 0 ∧ ¬ nI p < 0 ∧ ¬ (3 : Int32) < 0 ∧ ix (nI p + 3) + ix 3 ≤ ml M5 116 ∧ ix (nI p) + ix 3 ≤ ml M5 116 then nm (mcA M5 116 (ix (nI p + 3)) 116 (ix (nI p)) (ix 3)) fun M24 => some (r6, M24) else none := by
    rw [KB_X0_alike, a1, ob_some, show nI p + 3 = nI (p + 3) from nI_addL p 3, b1, ob_some]
  have fu := fu2
  rw [st]
  by_cases q : r = 0
  · rw [ifT q]
    have lp : ∃ M20, KL_X0_alike_45 (KG_X0_alike kf).2 FU (nI p) r6 (nI p) M5 = some ((), M20) ∧ Ku M5 M20 ∧ (∀ i, mA M20 116 i = mA M5 116 i) ∧ (mI M5 45 1 = 0 → mI M20 45 1 = 0) ∧ (r6 ≠ 0 → mI M20 45 1 = mI M5 45 1) ∧ (r6 = 0 → (∀ i, p ≤ i → i < p + 3 → mA M5 116 i = mA M5 116 (i + 3)) → mI M20 45 1 = mI M5 45 1) ∧ (r6 = 0 → (∃ i, p ≤ i ∧ i < p + 3 ∧ ¬ mA M5 116 i = mA M5 116 (i + 3)) → mI M20 45 1 = 0) := by
      by_cases z : r6 = 0
      · obtain ⟨M20, c1, c2, c3, c4, c5, c6⟩ := k45 (cu := (KG_X0_alike kf).2) (p := p) (by omega) 3 p FU M5 rfl (by omega) g5
        rw [z]
        exact ⟨M20, c1, c2, c6, c5, fun y => absurd rfl y, fun _ => c3, fun _ => c4⟩
      · refine ⟨M5, ?_, Ku.rf g5.2, fun _ => rfl, id, fun _ => rfl, fun y => absurd y z, fun y => absurd y z⟩
        obtain ⟨g, hg⟩ := fu1
        rw [hg, KL_X0_alike_45, nI_addL, ifF (fun y => by have := (bI_le (by omega) (by omega)).mp y; omega), ifF z]
    obtain ⟨M20, c1, c2, c3, c4, c5, c6, c7⟩ := lp
    rw [c1, ob_some]
    refine ⟨0, M20, rfl, (a2.tr b2).tr c2, fun j hj => (c3 j).trans ((b3 j (by omega)).trans (a3 j hj)), ?_, fun z => c4 (b5 (a5 z)), ?_⟩
    · intro z
      cases u with
      | none => exact c4 (b5 (a4 rfl))
      | some u =>
        cases w with
        | none => exact c4 (b4 rfl)
        | some w =>
          cases u with
          | none => cases w <;> cases z
          | some e =>
            cases w with
            | none => cases z
            | some e2 =>
              have z : (if e = e2 then some (some e) else none) = none := z
              by_cases y : e = e2
              · rw [ifT y] at z; cases z
              · obtain ⟨w1, w2, w3⟩ := b6 (by intro z; cases z)
                rw [ifF (by intro z; cases z)] at w2
                exact c7 w2 ((V3.ne (V5 (by intro z; cases z)) w3 hu hw).2 y)
    · intro z
      cases u with
      | none => exact absurd rfl z
      | some u =>
        obtain ⟨v1, v2, v3⟩ := a6 (by intro z; cases z)
        cases u with
        | none => rw [ifT rfl, q] at v2; exact absurd v2 (by decide)
        | some e =>
          cases w with
          | none => exact absurd rfl z
          | some w =>
            obtain ⟨w1, w2, w3⟩ := b6 (by intro z; cases z)
            cases w with
            | none =>
              rw [ifT rfl] at w2
              refine ⟨(c5 (by rw [w2]; decide)).trans (w1.trans v1), rfl, (V5 (by intro z; cases z)).kp (fun j _ => c3 j)⟩
            | some e2 =>
              rw [ifF (by intro z; cases z)] at w2
              have e1 : uAl (some (some e)) (some (some e2)) = if e = e2 then some (some e) else none := rfl
              rw [e1] at z ⊢
              by_cases y : e = e2
              · rw [ifT y]
                exact ⟨(c6 w2 ((V3.ne (V5 (by intro z; cases z)) w3 hu hw).1 y)).trans (w1.trans v1), rfl, (V5 (by intro z; cases z)).kp (fun j _ => c3 j)⟩
              · rw [ifF y] at z; exact absurd rfl z
  · rw [ifF q]
    have i3 : ix (3 : Int32) = 3 := ix_nI (n := 3) (by decide)
    have n0 : ∀ n, n < 2000 → ¬ nI n < 0 := fun n hn z => by
      rw [show (0 : Int32) = nI 0 from rfl, bI_lt (by omega) (by decide)] at z; omega
    rw [ifT ⟨g5.1.1, g5.1.1, by rw [nI_addL]; exact n0 _ (by omega), n0 _ (by omega), by decide, by rw [nI_addL, ix_nI (by omega), i3, g5.1.2]; show p + 3 + 3 ≤ 700; omega, by rw [ix_nI (by omega), i3, g5.1.2]; omega⟩, nm_eq, nI_addL, ix_nI (by omega), ix_nI (by omega), i3]
    have cp : ∀ j, mA (mcA M5 116 (p + 3) 116 p 3) 116 j = if p ≤ j ∧ j < p + 3 then mA M5 116 (p + 3 + (j - p)) else mA M5 116 j := fun j => by
      by_cases z : p ≤ j ∧ j < p + 3
      · rw [ifT z]; exact if_pos ⟨rfl, z⟩
      · rw [ifF z]; exact if_neg (fun y => z y.2)
    have e45 : mI (mcA M5 116 (p + 3) 116 p 3) 45 1 = mI M5 45 1 := rfl
    refine ⟨r6, _, rfl, (a2.tr b2).tr (Ku.rf g5.2).cp, fun j hj => by rw [cp, ifF (by omega), b3 j (by omega), a3 j hj], ?_, fun z => by rw [e45]; exact b5 (a5 z), ?_⟩
    · intro z
      rw [e45]
      cases u with
      | none => exact b5 (a4 rfl)
      | some u =>
        cases w with
        | none => exact b4 rfl
        | some w =>
          obtain ⟨v1, v2, v3⟩ := a6 (by intro z; cases z)
          cases u with
          | none => cases z
          | some e => rw [ifF (by intro z; cases z)] at v2; exact absurd v2 q
    · intro z
      rw [e45]
      cases u with
      | none => exact absurd rfl z
      | some u =>
        obtain ⟨v1, v2, v3⟩ := a6 (by intro z; cases z)
        cases u with
        | some e => rw [ifF (by intro z; cases z)] at v2; exact absurd v2 q
        | none =>
          cases w with
          | none => exact absurd rfl z
          | some w =>
            obtain ⟨w1, w2, w3⟩ := b6 (by intro z; cases z)
            refine ⟨w1.trans v1, w2, ?_⟩
            have e1 : uAl (some none) (some w) = some w := rfl
            rw [e1]
            refine ⟨?_, ?_, ?_⟩
            · rw [cp, ifT ⟨Nat.le_refl _, by omega⟩, Nat.sub_self]; exact w3.1
            · rw [cp, ifT ⟨by omega, by omega⟩, show p + 3 + (p + 1 - p) = p + 3 + 1 by omega]; exact w3.2.1
            · rw [cp, ifT ⟨by omega, by omega⟩, show p + 3 + (p + 2 - p) = p + 3 + 2 by omega]; exact w3.2.2
end UNIT5
