/-! Layer B: K_X0_chooseStates against F_chooseStates -/
set_option maxRecDepth 100000
abbrev chT : List Nat := [0, 1, 191, 192, 193, 198, 199, 200, 205, 206, 207]
abbrev chA : List Nat := [122, 123, 138, 139, 140]
/-- states, both sides -/
def StR (U : Nat) (M : CM) (s : TS) : Prop := ∃ ns, (mI M 74 1 = nI ns ∧ tI s 198 = nI ns ∧ ns ≤ 24 ∧ ns = cnB (fun u => decide (tA s 192 u = 2)) U) ∧ (∀ i, i < ns → ∃ u, u < U ∧ mA M 140 i = nI u ∧ tA s 207 i = nI u ∧ tA s 192 u = 2) ∧ tI s 206 = nI (cnB (fun u => decide (tA s 192 u = 1)) U)
section CHOOSE
variable {D D' : FQ} {M M' M0 M1 : CM} {s s' s0 : TS} {V E U S K N H mode k e u d j kf tf n : Nat}
theorem gvc_cn (g : Nat → Int32) : ∀ n, gvc g n = cnB (fun u => decide (0 ≤ g u)) n
  | 0 => rfl
  | n + 1 => by
    unfold gvc cnB
    rw [gvc_cn g n]
    by_cases z : 0 ≤ g n
    · rw [ifT z, ifT (decide_eq_true z)]
    · rw [ifF z, ifF (fun y => z (of_decide_eq_true y))]
theorem t_c7 (hU : U ≤ 180) : ∀ (d j f : Nat) (s : TS), j + d = U → d < f → tI s 197 = nI U → ∃ s', L_chooseStates_7 f (nI j) s = some ((), s') ∧ Ft [191, 193] s s' ∧ ∀ i, (j ≤ i ∧ i < U → tA s' 191 i = -1) ∧ (¬ (j ≤ i ∧ i < U) → tA s' 191 i = tA s 191 i) := by
  intro d
  induction d with
  | zero =>
    intro j f s hj hf h
    obtain ⟨f, rfl⟩ : ∃ g, f = g + 1 := ⟨f - 1, by omega⟩
    obtain rfl : j = U := by omega
    refine ⟨s, ?_, Ft.rf _ s, fun i => ⟨fun z => by omega, fun _ => rfl⟩⟩
    unfold L_chooseStates_7
    rw [h, ifT ((bI_le (by omega) (by omega)).mpr (Nat.le_refl _))]
  | succ d ih =>
    intro j f s hj hf h
    obtain ⟨f, rfl⟩ : ∃ g, f = g + 1 := ⟨f - 1, by omega⟩
    obtain ⟨s1, hs1⟩ : ∃ q, q = tsA (tsA s 193 j (tA s 191 j)) 191 j (-1) := ⟨_, rfl⟩
    have k1 : Ft [191, 193] s s1 := by rw [hs1]; exact ((Ft.rf _ s).p_tsA rfl).p_tsA rfl
    obtain ⟨s', a1, a2, a3⟩ := ih (j + 1) f s1 (by omega) (by omega) ((k1 197 rfl).1.trans h)
    have ij : inb (nI j) 200 := inb_nI' (by omega) (by decide)
    have v : ∀ i, tA s1 191 i = if i = j then -1 else tA s 191 i := fun i => by
      rw [hs1, tA_tsA]
      by_cases y : i = j
      · rw [ifT ⟨rfl, y⟩, ifT y]
      · rw [ifF (fun q => y q.2), ifF y, tA_tsA, ifF (by omega)]
    refine ⟨s', ?_, k1.tr a2, fun i => ⟨fun z => ?_, fun z => ?_⟩⟩
    · unfold L_chooseStates_7
      rw [h, ifF (fun z => by have := (bI_le (by omega) (by omega)).mp z; omega), ifT ij, ifT ij, ix_nI (by omega), nm_eq, ifT ij, ← hs1, nm_eq, nI_addL, nm_eq, a1]
    · by_cases y : i = j
      · rw [(a3 i).2 (by omega), v, ifT y]
      · exact (a3 i).1 (by omega)
    · rw [(a3 i).2 (by omega), v, ifF (by omega)]
/-- the states, the twin, also behind a fault -/
theorem t_103 (hU : U ≤ 180) (h197 : tI s 197 = nI U) : ∃ s', J_chooseStates_103 s = some ((), s') ∧ TsR s U s' := by
  obtain ⟨s1, hs1⟩ : ∃ q, q = tsI (tsI s 198 0) 206 0 := ⟨_, rfl⟩
  have f1 : Ft [192, 198, 206, 207] s s1 := by rw [hs1]; exact ((Ft.rf _ s).p_tsI rfl).p_tsI rfl
  obtain ⟨s', a1, a2⟩ := t_115 (s0 := s) hU h197 U 0 FU s1 (by omega) (by have := fu2; omega) ⟨f1, fun u hu => by omega, by rw [hs1]; rfl, by rw [hs1]; rfl, fun u hu => by omega⟩
  refine ⟨s', ?_, a2⟩
  unfold J_chooseStates_103
  rw [nm_eq, nm_eq, ← hs1, show L_chooseStates_115 FU 0 s1 = some ((), s') from a1, ob_some]
theorem z_choose (i : IdxR V E U S K N D M s) (hh : hcU s U = H ∧ udc s S = H) :
    (∃ w M' s' M1 r p, K_X0_chooseStates M = some (.inr w, M') ∧ F_chooseStates s = some ((), s') ∧ KF D [74] [] chA [] M M1 ∧ w = mn M1 ∧ M' = wM M1 r p ∧ r ≠ 0 ∧ Ft chT s s' ∧ ((tI s' 0 = r ∧ tI s' 1 = p) ∨ (tI s' 0 = 0 ∧ r = 55 ∧ p = -1 ∧ ¬ tI s' 198 ≤ 24))) ∨
    ∃ M' s', K_X0_chooseStates M = some (.inl (), M') ∧ F_chooseStates s = some ((), s') ∧ KF D [74] [] chA [] M M' ∧ Ft (chT.drop 2) s s' ∧ tI s' 198 ≤ 24 ∧ IdxR V E U S K N D M' s' ∧ RolR M' s' U ∧ StR U M' s' ∧ cnB (fun u => decide (¬ tA s' 192 u = 2)) U = cnB (c2B s') S := by
  have fu := fu2
  have hU := i.2.2.1.1.2.2
  have hS := i.2.1.2.2.1
  obtain ⟨M1, m1, m2, m3⟩ := k_none D M
  obtain ⟨s1, hs1⟩ : ∃ q, q = tsI s 205 1 := ⟨_, rfl⟩
  have f1 : Ft [205] s s1 := by rw [hs1]; exact (Ft.rf _ s).p_tsI rfl
  obtain ⟨s2, n1, n2, n3⟩ := t_c7 hU U 0 FU s1 (by omega) (by omega) ((f1 197 rfl).1.trans i.2.2.1.1.2.1)
  have f2 : Ft [191, 193, 205] s s2 := (f1.mono (by decide)).tr (n2.mono (by decide))
  have i2 : IdxR V E U S K N D M1 s2 := i.kg m2 f2 (fun f o _ => m2.i rfl o) (by decide) (by decide) (by decide)
  have nn : ∀ u, u < U → tA s2 191 u = -1 := fun u hu => (n3 u).1 ⟨Nat.zero_le _, hu⟩
  have mr : MtR 1 U S 0 (c1B s2) M1 s2 := by
    refine ⟨⟨⟨i2.2.2.1.1.1, i2.2.2.1.1.2.1, hU, hS⟩, fun e u he hu => i2.rw_ he (by omega), fun u hu => (i2.2.2.1.2 u hu).2.2.1, fun u hu => by rw [m3 u (by omega), nn u hu], fun u hu => Or.inl (m3 u (by omega)), fun z => by omega⟩, ⟨?_, i2.2.2.2.2.2.2.1, by decide⟩, fun u u' hu hu' hne h0 hee => ?_, fun u x hu hx y => ?_, fun u hu y => ?_, ?_⟩
    · rw [(n2 205 rfl).1, hs1, tI_tsI, ifT rfl]; rfl
    · have h0 : 0 ≤ tA s2 191 u := h0
      rw [nn u hu] at h0; exact absurd h0 (by decide)
    · rw [nn u hu] at y; exact absurd y.symm (nI_m1 (by omega))
    · rw [nn u hu] at y; exact absurd y (by decide)
    · rw [gvc_cn]
      have : ∀ n, n ≤ U → cnB (fun u => decide (0 ≤ tA s2 191 u)) n = 0 := fun n => by
        induction n with
        | zero => intro _; rfl
        | succ n ih =>
          intro hn
          rw [cnB_step, ih (by omega), nn n (by omega), ifF (by decide)]
      rw [this U (Nat.le_refl _)]; rfl
  have eK : K_X0_chooseStates M = obS (KL_X0_chooseStates_6 FU 0 M1) (fun r60 M29 => some (r60, M29)) fun q28 M29 => nm (msI M29 74 1 0) fun M31 => obS (KL_X0_chooseStates_65 FU 0 M31) (fun r58 M55 => some (r58, M55)) fun q54 M55 => some (.inl (), M55) := by
    unfold K_X0_chooseStates
    rw [m1, ob_some]
  have eT : F_chooseStates s = ob (L_chooseStates_42 FU 0 s2) fun q40 s41 => J_chooseStates_103 s41 := by
    unfold F_chooseStates
    rw [← hs1, nm_eq, show L_chooseStates_7 FU 0 s1 = some ((), s2) from n1, ob_some]
  rw [eK, eT]
  rcases z_ms1 (D := D) s2 S 0 FU FU M1 s2 (by omega) (by omega) (by omega) i2 (fun e => ⟨rfl, rfl⟩) mr with ⟨w, M', s3, a1, a2, M2, k, a3, a4, a5, a6, a7, a8⟩ | ⟨M2, s3, a1, a2, a3, a4, a5⟩
  · left
    obtain ⟨s4, b1, b2, -⟩ := t_103 (s := s3) (U := U) hU ((a6 197 rfl).1.trans i2.2.2.1.1.2.1)
    refine ⟨w, M', s4, M2, 53, nI k, by rw [show KL_X0_chooseStates_6 FU 0 M1 = _ from a1, obS_inr], by rw [show L_chooseStates_42 FU 0 s2 = _ from a2, ob_some, b1], (m2.mono (by decide) rfl (by decide) rfl).tr (a3.mono (by decide) rfl (by decide) rfl), a4, a5, by decide, ((f2.mono (by decide)).tr (a6.mono (by decide))).tr (b2.mono (by decide)), Or.inl ⟨(b2 0 rfl).1.trans a7, (b2 1 rfl).1.trans a8⟩⟩
  · obtain ⟨s4, b1, f4, b3, b4, b5, b6⟩ := t_103 (s := s3) (U := U) hU ((a4 197 rfl).1.trans i2.2.2.1.1.2.1)
    have i3 : IdxR V E U S K N D M2 s3 := i2.kf a3 a4
    obtain ⟨M3, hM3⟩ : ∃ q, q = msI M2 74 1 0 := ⟨_, rfl⟩
    have k3 : KF D [74] [] [123, 140] [] M2 M3 := by rw [hM3]; exact KF.rf.wI rfl TZ.one
    have A := i3.1.1
    have cN : mn M2 ≤ rmN D M2 := Nat.le_add_right _ _
    have cS : ms M2 ≤ rmS D M2 := Nat.le_add_right _ _
    have rm := A.2.2.2.2
    have hn := A.2.2.1
    have fx := A.2.1.1 (123, 50, 180) (by decide)
    have cle := cnB_le (rB s3 2) U
    have eK2 : ∀ {q} , KL_X0_chooseStates_65 FU 0 M3 = q → (obS (KL_X0_chooseStates_6 FU 0 M1) (fun r60 M29 => some (r60, M29)) fun q28 M29 => nm (msI M29 74 1 0) fun M31 => obS (KL_X0_chooseStates_65 FU 0 M31) (fun r58 M55 => some (r58, M55)) fun q54 M55 => some ((.inl () : Unit ⊕ Nat), M55)) = obS q (fun r58 M55 => some (r58, M55)) fun q54 M55 => some (.inl (), M55) := fun hq => by
      rw [show KL_X0_chooseStates_6 FU 0 M1 = _ from a1, obS_inl, ← hM3, nm_eq, hq]
    have eT2 : (ob (L_chooseStates_42 FU 0 s2) fun q40 s41 => J_chooseStates_103 s41) = some ((), s4) := by rw [show L_chooseStates_42 FU 0 s2 = _ from a2, ob_some, b1]
    have f04 : Ft (chT.drop 2) s s4 := ((f2.mono (by decide)).tr (a4.mono (by decide))).tr (f4.mono (by decide))
    have k02 : KF D [74] [] chA [] M M2 := (m2.mono (by decide) rfl (by decide) rfl).tr (a3.mono (by decide) rfl (by decide) rfl)
    rcases k_65 (D := D) (s0 := s3) (M0 := M2) hU i3.2.2.1.1.1 (fun u hu => (i3.2.2.1.2 u hu).2.2.1) a5.1.2.2.2.1 fx ⟨by omega, by omega, by omega⟩ U 0 FU M3 (by omega) (by omega) ⟨k3, fun u hu => by omega, ⟨by rw [hM3, mI_msI, ifT ⟨rfl, rfl⟩]; rfl, Nat.zero_le _⟩, fun u hu => by omega, fun f o ho => by rw [hM3, mI_msI, ifF (fun q => ho q.2)]⟩ with ⟨M4, c0, c1, c2⟩ | ⟨M4, c1, k4, c2, ⟨c3, c4⟩, c5, c6⟩
    · left
      refine ⟨mn M4, wM M4 55 (-1), s4, M4, 55, -1, by rw [eK2 c1, obS_inr], eT2, k02.tr (c2.mono (by decide) rfl (by decide) rfl), rfl, rfl, by decide, f04.mono (by decide), Or.inr ⟨((f4 0 rfl).1.trans i3.2.2.2.2.2.2.1), rfl, rfl, ?_⟩⟩
      rw [b4]
      intro z
      have := (bI_le (b := 24) (by omega) (by decide)).mp z
      omega
    · right
      have rs : ∀ u, u < U → (rlU s3 u = 2 ↔ tA s4 192 u = 2) := fun u hu => by
        have := rlU_le s3 u
        rw [b3 u hu]
        exact (bI_eq (b := 2) (by omega) (by decide)).symm
      have rs1 : ∀ u, u < U → (rlU s3 u = 1 ↔ tA s4 192 u = 1) := fun u hu => by
        have := rlU_le s3 u
        rw [b3 u hu]
        exact (bI_eq (b := 1) (by omega) (by decide)).symm
      have e2 : cnB (rB s3 2) U = cnB (fun u => decide (tA s4 192 u = 2)) U := cnB_eq (fun u hu => by
        unfold rB
        exact decide_eq_decide.mpr (rs u hu))
      have e1 : cnB (rB s3 1) U = cnB (fun u => decide (tA s4 192 u = 1)) U := cnB_eq (fun u hu => by
        unfold rB
        exact decide_eq_decide.mpr (rs1 u hu))
      have i4 : IdxR V E U S K N D M4 s4 := i3.kg k4 f4 (fun f o ho => c6 f o (by omega)) (by decide) (by decide) (by decide)
      have v189 : ∀ u, tA s4 189 u = tA s3 189 u := fun u => (f4 189 rfl).2.2.1 u
      have k189 : ∀ u, u < U → tA s3 189 u = -1 ∨ (0 : Int32) ≤ tA s3 189 u := fun u hu => (i3.2.2.1.2 u hu).2.2.2.imp id (fun ⟨w, w1, w2, w3⟩ => by rw [w3]; exact nn_nI (by omega))
      refine ⟨M4, s4, by rw [eK2 c1, obS_inl], eT2, k02.tr (k4.mono (by decide) rfl (by decide) rfl), f04, ?_, i4, fun u hu => ⟨rlU s3 u, rlU_le s3 u, c2 u hu, b3 u hu, ?_⟩, ⟨cnB (rB s3 2) U, ⟨c3, b4, c4, e2⟩, fun j hj => ?_, by rw [b5, e1]⟩, ?_⟩
      · rw [b4]; exact (bI_le (b := 24) (by omega) (by decide)).mpr c4
      · rw [v189]
        unfold rlU
        rcases k189 u hu with z | z
        · rw [z, ifF (by decide)]; decide
        · rw [ifT z]
          refine ⟨fun y => ?_, fun y => absurd z (lt_nn.mp y)⟩
          by_cases q : tA s3 191 u < 0
          · rw [ifT q] at y; omega
          · rw [ifF q] at y; omega
      · obtain ⟨u, u1, u2, u3⟩ := cnB_ex hj
        have u2 : rlU s3 u = 2 := of_decide_eq_true u2
        exact ⟨u, u1, by rw [← u3]; exact c5 u u1 u2, by rw [← u3]; exact b6 u u1 u2, (rs u u1).mp u2⟩
      · obtain ⟨-, -, -, -, g5, g6⟩ := a5
        rw [gvc_cn] at g6
        have h34 : hcU s3 U = H := by rw [show hcU s3 U = hcU s U from cnB_eq (fun u _ => by rw [(a4 189 rfl).2.2.1, (f2 189 rfl).2.2.1])]; exact hh.1
        have h35 : udc s3 S = H := by rw [show udc s3 S = udc s S from cnB_eq (fun u _ => by rw [(a4 180 rfl).2.2.1, (f2 180 rfl).2.2.1, (a4 194 rfl).2.2.1, (f2 194 rfl).2.2.1])]; exact hh.2
        have q1 : cnB (fun u => decide (¬ tA s4 192 u = 2)) U = cnB (fun u => decide (tA s3 189 u = -1) || decide (0 ≤ tA s3 191 u)) U := cnB_eq (fun u hu => by
          rw [← Bool.decide_or]
          refine decide_eq_decide.mpr ?_
          rw [← rs u hu]
          unfold rlU
          rcases k189 u hu with z | z
          · rw [z, ifF (by decide)]
            exact ⟨fun _ => Or.inl rfl, fun _ => by decide⟩
          · have n1 : ¬ tA s3 189 u = -1 := fun y => by rw [y] at z; exact absurd z (by decide)
            rw [ifT z]
            by_cases q : tA s3 191 u < 0
            · rw [ifT q]
              exact ⟨fun y => absurd rfl y, fun y => absurd (y.resolve_left n1) (lt_nn.mp q)⟩
            · rw [ifF q]
              refine ⟨fun _ => Or.inr ?_, fun _ => by decide⟩
              by_cases r : 0 ≤ tA s3 191 u
              · exact r
              · exact absurd (lt_nn.mpr r) q)
        have q2 : cnB (c2B s4) S = cnB (fun e => decide (tA s3 180 e = 0 ∧ tA s3 194 e = -1) || c1B s2 e) S := cnB_eq (fun e he => by
          unfold c2B c1B
          rw [← Bool.decide_or, (f4 180 rfl).2.2.1, (a4 180 rfl).2.2.1, (a4 194 rfl).2.2.1]
          refine decide_eq_decide.mpr ⟨fun z => ?_, fun z => z.elim (fun y => y.1) (fun y => y.1)⟩
          by_cases y : tA s2 194 e = -1
          · exact Or.inl ⟨z, y⟩
          · exact Or.inr ⟨z, y⟩)
        rw [q1, q2, cnB_add _ _ (fun u hu z => ?_), cnB_add _ _ (fun e he z => ?_), ← g6]
        · have : cnB (fun u => decide (tA s3 189 u = -1)) U = H := h34
          have : cnB (fun e => decide (tA s3 180 e = 0 ∧ tA s3 194 e = -1)) S = H := h35
          omega
        · have z1 : tA s3 180 e = 0 ∧ tA s3 194 e = -1 := of_decide_eq_true z.1
          have z2 : tA s2 180 e = 0 ∧ ¬ tA s2 194 e = -1 := of_decide_eq_true z.2
          exact z2.2 (((a4 194 rfl).2.2.1 e).symm.trans z1.2)
        · have z1 : tA s3 189 u = -1 := of_decide_eq_true z.1
          have z2 : (0 : Int32) ≤ tA s3 191 u := of_decide_eq_true z.2
          have := g5 u hu z2
          unfold ctM at this
          rw [ifF (by decide), ifT rfl, (i3.2.2.1.2 u hu).2.2.1, z1] at this
          exact absurd this (by decide)
end CHOOSE
