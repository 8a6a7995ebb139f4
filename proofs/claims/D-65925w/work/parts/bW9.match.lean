/-! Layer B: equations are given unknowns, both sides -/
set_option maxRecDepth 100000
def MtR (mode U S k : Nat) (c : Nat → Bool) (M : CM) (s : TS) : Prop := TryR mode M s S U ∧ (tI s 205 = nI mode ∧ tI s 0 = 0 ∧ mode ≤ 2) ∧ Inj U (fun u => tA s 191 u) ∧ (∀ u x, u < U → x < S → tA s 191 u = nI x → x < k ∧ c x = true) ∧ (∀ u, u < U → 0 ≤ tA s 191 u → ctM M mode u = true) ∧ gvc (fun u => tA s 191 u) U = cnB c k
section MATCH
variable {D D' : FQ} {M M' M1 : CM} {s s' : TS} {V E U S K N mode k e u d j kf tf : Nat} {c : Nat → Bool}
theorem MtR.skip (h : MtR mode U S k c M s) (hc : c k = false) : MtR mode U S (k + 1) c M s := by
  obtain ⟨h1, h2, h3, h4, h5, h6⟩ := h
  refine ⟨h1, h2, h3, fun u x hu hx y => ⟨by have := (h4 u x hu hx y).1; omega, (h4 u x hu hx y).2⟩, h5, ?_⟩
  rw [h6, cnB, hc, ifF (by decide)]; rfl
/-- one more -/
theorem z_match (D : FQ) (h : MtR mode U S k c M s) (hk : k < S) (hc : c k = true) : ∃ r M1 M2 s1 s2, K_X0_unmark M = some ((), M1) ∧ K_X0_find_2 (nI k) (nI mode) M1 = some (bI r, M2) ∧ F_unmark s = some ((), s1) ∧ F_attempt (nI k) s1 = some (bI r, s2) ∧ KF D [] [] fdA [] M M2 ∧ Ft fdT s s2 ∧ (r = true → MtR mode U S (k + 1) c M2 s2) := by
  obtain ⟨⟨⟨h57, h197, hU, hS⟩, hr, h121, h122, hrg, hro⟩, ⟨h205, h0, hm⟩, hI, hP, hC, hG⟩ := h
  obtain ⟨M1, m1, m2, m3⟩ := k_unmark D M
  obtain ⟨s1, n1, n2, n3⟩ := t_unmark s
  have c1 : ∀ u, ctM M1 mode u = ctM M mode u := fun u => by unfold ctM; rw [m2.ga rfl, m2.ga rfl]
  have e122 : ∀ u, mA M1 122 u = mA M 122 u := fun u => m2.ga rfl u
  have e191 : ∀ u, tA s1 191 u = tA s 191 u := fun u => (n2 191 rfl).2.2.1 u
  have t1 : TryR mode M1 s1 S U := by
    refine ⟨⟨(m2.i rfl 1).trans h57, (n2 197 rfl).1.trans h197, hU, hS⟩, fun e u he hu => ?_, fun u hu => ?_, fun u hu => ?_, fun u hu => ?_, fun z u hu => ?_⟩
    · rw [m2.ga rfl, (n2 202 rfl).2.2.1]; exact hr e u he hu
    · rw [m2.ga rfl, (n2 189 rfl).2.2.1]; exact h121 u hu
    · rw [e122, e191]; exact h122 u hu
    · show mA M1 122 u = -1 ∨ ∃ e, e < S ∧ mA M1 122 u = nI e
      rw [e122]; exact hrg u hu
    · obtain ⟨q, q1, q2, q3, q4⟩ := hro z u hu
      exact ⟨q, q1, (m2.ga rfl u).trans q2, ((n2 192 rfl).2.2.1 u).trans q3, by rw [(n2 189 rfl).2.2.1]; exact q4⟩
  obtain ⟨r, g, m, q, M2, s2, hfd, a1, a2, a3, a4, a5, a6, a7⟩ := z_try (D := D) t1 hm ((n2 205 rfl).1.trans h205) hk m3 n3
  have rg : Rg U S (fun u => mA M1 122 u) := t1.2.2.2.2.1
  have fo := fd_o (U := U) (mode := mode) (isn := fun e u => mA M1 132 (180 * e + u)) (ct := ctM M1 mode) hS 300 k (fun u => mA M1 122 u, fun _ => 0, fun _ => 0) hk rg
  have k1 : KF D [] [] fdA [] M M2 := (m2.mono rfl rfl (by decide) rfl).tr a3
  have f1 : Ft fdT s s2 := (n2.mono (by decide)).tr a4
  have bse : ∀ u, u < U → mA M1 122 u = tA s 191 u := fun u hu => (e122 u).trans (h122 u hu)
  refine ⟨r, M1, M2, s1, s2, m1, a1, n1, a2, k1, f1, fun hr1 => ?_⟩
  subst hr1
  have fk := fd_ok (U := U) (mode := mode) (isn := fun e u => mA M1 132 (180 * e + u)) (ct := ctM M1 mode) hS 300 k (fun u => mA M1 122 u, fun _ => 0, fun _ => 0) hk rg (fun u u' hu hu' hne h0 he => by
    have h0 : 0 ≤ mA M1 122 u := h0
    have he : mA M1 122 u = mA M1 122 u' := he
    rw [bse u hu] at h0 he
    rw [bse u' hu'] at he
    exact hI u u' hu hu' hne h0 he) (fun u hu y => by
    have y : mA M1 122 u = nI k := y
    rw [bse u hu] at y
    have := (hP u k hu hk y).1; omega) (fun u hu y => absurd rfl y)
  rw [hfd] at fo fk
  obtain ⟨k1', k2, k3, k4, k5, k6, k7, k8⟩ := fk rfl
  have c2 : ∀ u, ctM M2 mode u = ctM M mode u := fun u => by unfold ctM; rw [k1.ga rfl, k1.ga rfl]
  refine ⟨⟨⟨(k1.i rfl 1).trans h57, (f1 197 rfl).1.trans h197, hU, hS⟩, fun e u he hu => ?_, fun u hu => ?_, fun u hu => ?_, fun u hu => ?_, fun z u hu => ?_⟩, ⟨(f1 205 rfl).1.trans h205, (f1 0 rfl).1.trans h0, hm⟩, fun u u' hu hu' hne y0 ye => ?_, fun u x hu hx y => ?_, fun u hu y => ?_, ?_⟩
  · rw [k1.ga rfl, (f1 202 rfl).2.2.1]; exact hr e u he hu
  · rw [k1.ga rfl, (f1 189 rfl).2.2.1]; exact h121 u hu
  · rw [(a5 u hu).1, (a5 u hu).2]
  · show mA M2 122 u = -1 ∨ ∃ e, e < S ∧ mA M2 122 u = nI e
    rw [(a5 u hu).1]; exact fo.1 u hu
  · obtain ⟨q, q1, q2, q3, q4⟩ := hro z u hu
    exact ⟨q, q1, (k1.ga rfl u).trans q2, ((f1 192 rfl).2.2.1 u).trans q3, by rw [(f1 189 rfl).2.2.1]; exact q4⟩
  · have y0 : 0 ≤ tA s2 191 u := y0
    have ye : tA s2 191 u = tA s2 191 u' := ye
    rw [(a5 u hu).2] at y0 ye
    rw [(a5 u' hu').2] at ye
    exact k2 u u' hu hu' hne rfl rfl y0 ye
  · rw [(a5 u hu).2] at y
    rcases k4 u hu rfl (show 0 ≤ g u by rw [y]; exact nn_nI (by omega)) with z | ⟨u1, z1, -, z3⟩
    · rw [show x = k from nIq (y.symm.trans z) (by omega) (by omega)]
      exact ⟨by omega, hc⟩
    · have z3 : mA M1 122 u1 = g u := z3
      rw [bse u1 z1, y] at z3
      have := hP u1 x z1 hx z3
      exact ⟨by omega, this.2⟩
  · rw [(a5 u hu).2] at y
    rw [c2]
    rcases k7 u hu y with z | z
    · have z : 0 ≤ mA M1 122 u := z
      rw [bse u hu] at z
      exact hC u hu z
    · rw [← c1]; exact z
  · rw [cnB, hc, ifT rfl, ← hG, gvc_eq (g := fun u => tA s2 191 u) (g' := g) (fun u hu => by rw [(a5 u hu).2])]
    rw [show gvc g U = _ from k8, gvc_eq (g := fun u => mA M1 122 u) (g' := fun u => tA s 191 u) (fun u hu => by rw [bse u hu])]
/-- a fault while equations are given unknowns -/
def MaF (D : FQ) (M : CM) (s : TS) (r : Int32) (w : Nat) (M' : CM) (s' : TS) : Prop := ∃ M1 k, KF D [] [] fdA [] M M1 ∧ w = mn M1 ∧ M' = wM M1 r (nI k) ∧ Ft (0 :: 1 :: fdT) s s' ∧ tI s' 0 = r ∧ tI s' 1 = nI k
def c1B (s : TS) (e : Nat) : Bool := decide (tA s 180 e = 0 ∧ ¬ tA s 194 e = -1)
def c2B (s : TS) (e : Nat) : Bool := decide (tA s 180 e = 0)
theorem t_c42b (h : tI s 0 ≠ 0) (n : Nat) (x : Int32) : L_chooseStates_42 (n + 1) x s = some ((), s) := by
  unfold L_chooseStates_42
  by_cases z : tI s 143 ≤ x
  · rw [ifT z]
  · rw [ifF z, t_isBad1 h, ob_some, ifF (by decide)]
theorem t_30b (h : tI s 0 ≠ 0) (n : Nat) (x : Int32) : L_makeBlocks_30 (n + 1) x s = some ((), s) := by
  unfold L_makeBlocks_30
  by_cases z : tI s 143 ≤ x
  · rw [ifT z]
  · rw [ifF z, t_isBad1 h, ob_some, ifF (by decide)]
theorem z_ms1 (s0 : TS) : ∀ (d j kf tf : Nat) (M : CM) (s : TS), j + d = S → d < kf → d < tf → IdxR V E U S K N D M s → (∀ e, tA s 180 e = tA s0 180 e ∧ tA s 194 e = tA s0 194 e) → MtR 1 U S j (c1B s0) M s →
    (∃ w M' s', KL_X0_chooseStates_6 kf (nI j) M = some (.inr (.inr w), M') ∧ L_chooseStates_42 tf (nI j) s = some ((), s') ∧ MaF D M s 53 w M' s') ∨
    ∃ M' s', KL_X0_chooseStates_6 kf (nI j) M = some (.inl (), M') ∧ L_chooseStates_42 tf (nI j) s = some ((), s') ∧ KF D [] [] fdA [] M M' ∧ Ft fdT s s' ∧ MtR 1 U S S (c1B s0) M' s' := by
  intro d
  induction d with
  | zero =>
    intro j kf tf M s hj hkf htf i e0 h
    obtain ⟨kf, rfl⟩ : ∃ g, kf = g + 1 := ⟨kf - 1, by omega⟩
    obtain ⟨tf, rfl⟩ : ∃ g, tf = g + 1 := ⟨tf - 1, by omega⟩
    obtain rfl : j = S := by omega
    have hS := i.2.1.2.2.1
    have le : nI j ≤ nI j := (bI_le (by omega) (by omega)).mpr (Nat.le_refl _)
    refine Or.inr ⟨M, s, ?_, ?_, KF.rf, Ft.rf _ s, h⟩
    · unfold KL_X0_chooseStates_6; rw [i.2.1.1, ifT le]
    · unfold L_chooseStates_42; rw [i.2.1.2.1, ifT le]
  | succ d ih =>
    intro j kf tf M s hj hkf htf i e0 h
    obtain ⟨kf, rfl⟩ : ∃ g, kf = g + 1 := ⟨kf - 1, by omega⟩
    obtain ⟨tf, rfl⟩ : ∃ g, tf = g + 1 := ⟨tf - 1, by omega⟩
    have hS := i.2.1.2.2.1
    have t0 : tI s 0 = 0 := h.2.1.2.1
    have le : ¬ nI S ≤ nI j := fun z => by have := (bI_le (by omega) (by omega)).mp z; omega
    have nx : nI j + 1 = nI (j + 1) := nI_addL j 1
    have ij : inb (nI j) 180 := inb_nI' (by omega) (by decide)
    have ij2 : inb (nI j) 400 := inb_nI' (by omega) (by decide)
    have xj : ix (nI j) = j := ix_nI (by omega)
    have g128 : mA M 128 j = tA s 180 j := (i.2.2.2.2.1 j (by omega)).1.1
    obtain ⟨g129, -, v194⟩ := i.2.2.2.2.2.1 j (by omega)
    have skip : c1B s0 j = false → (KL_X0_chooseStates_6 (kf + 1) (nI j) M = KL_X0_chooseStates_6 kf (nI (j + 1)) M ∧ L_chooseStates_42 (tf + 1) (nI j) s = L_chooseStates_42 tf (nI (j + 1)) s) → ((∃ w M' s', KL_X0_chooseStates_6 (kf + 1) (nI j) M = some (.inr (.inr w), M') ∧ L_chooseStates_42 (tf + 1) (nI j) s = some ((), s') ∧ MaF D M s 53 w M' s') ∨ ∃ M' s', KL_X0_chooseStates_6 (kf + 1) (nI j) M = some (.inl (), M') ∧ L_chooseStates_42 (tf + 1) (nI j) s = some ((), s') ∧ KF D [] [] fdA [] M M' ∧ Ft fdT s s' ∧ MtR 1 U S S (c1B s0) M' s') := fun hc q => by
      rw [q.1, q.2]
      exact ih (j + 1) kf tf M s (by omega) (by omega) (by omega) i e0 (h.skip hc)
    by_cases z : tA s 180 j = 0
    · by_cases y : tA s 194 j = -1
      · refine skip ?_ ⟨?_, ?_⟩
        · unfold c1B; rw [← (e0 j).1, ← (e0 j).2]; exact decide_eq_false (fun q => q.2 y)
        · conv => lhs; unfold KL_X0_chooseStates_6
          rw [i.2.1.1, ifF le, ifT ij, xj, g128, ifT z, ifT ij, g129, y, ifT (by decide), nx, nm_eq]
        · conv => lhs; unfold L_chooseStates_42
          rw [i.2.1.2.1, ifF le, t_isBad0 t0, ob_some, ifT rfl, ifT ij2, xj, ifT z, ifT ij2, y, ifF (by decide), nx, nm_eq]
      · obtain ⟨d0, d1, d2⟩ := v194.resolve_left y
        have nn : (0 : Int32) ≤ tA s 194 j := by rw [d2]; exact nn_nI (by omega)
        have nlt : ¬ mA M 129 j < 0 := by rw [g129, lt_nn]; exact fun q => q nn
        have hc : c1B s0 j = true := by unfold c1B; rw [← (e0 j).1, ← (e0 j).2]; exact decide_eq_true ⟨z, y⟩
        obtain ⟨r, M1, M2, s1, s2, a1, a2, a3, a4, a5, a6, a7⟩ := z_match D h (by omega) hc
        have eK : KL_X0_chooseStates_6 (kf + 1) (nI j) M = if bI r = 0 then (ob (K_X0_wrong 53 (nI j) M2) fun r20 M19 => if mk M19 r20 = 7 then some (.inr (.inr r20), M19) else none) else KL_X0_chooseStates_6 kf (nI (j + 1)) M2 := by
          conv => lhs; unfold KL_X0_chooseStates_6
          rw [i.2.1.1, ifF le, ifT ij, xj, g128, ifT z, ifT ij, ifF nlt, a1, ob_some, show K_X0_find_2 (nI j) 1 M1 = some (bI r, M2) from a2, ob_some, nx]
          rfl
        have eT : L_chooseStates_42 (tf + 1) (nI j) s = if bI r = 0 then (ob (F_bad 53 (nI j) s2) fun r30 s29 => L_chooseStates_42 tf (nI (j + 1)) s29) else L_chooseStates_42 tf (nI (j + 1)) s2 := by
          conv => lhs; unfold L_chooseStates_42
          rw [i.2.1.2.1, ifF le, t_isBad0 t0, ob_some, ifT rfl, ifT ij2, xj, ifT z, ifT ij2, ifT nn, a3, ob_some, a4, ob_some, nx]
          rfl
        have i2 : IdxR V E U S K N D M2 s2 := i.kf a5 a6
        rw [eK, eT]
        by_cases hr : r = true
        · subst hr
          rw [ifF (show ¬ bI true = 0 by decide), ifF (show ¬ bI true = 0 by decide)]
          rcases ih (j + 1) kf tf M2 s2 (by omega) (by omega) (by omega) i2 (fun e => ⟨((a6 180 rfl).2.2.1 e).trans (e0 e).1, ((a6 194 rfl).2.2.1 e).trans (e0 e).2⟩) (a7 rfl) with ⟨w, M', s', b1, b2, M3, k, b3, b4, b5, b6, b7⟩ | ⟨M', s', b1, b2, b3, b4, b5⟩
          · exact Or.inl ⟨w, M', s', b1, b2, M3, k, a5.tr b3, b4, b5, (a6.mono (by decide)).tr b6, b7⟩
          · exact Or.inr ⟨M', s', b1, b2, a5.tr b3, a6.tr b4, b5⟩
        · have hr0 : r = false := by cases r with | true => exact absurd rfl hr | false => rfl
          subst hr0
          left
          obtain ⟨tf', rfl⟩ : ∃ g, tf = g + 1 := ⟨tf - 1, by omega⟩
          have A := i2.1.1
          have cN : mn M2 ≤ rmN D M2 := Nat.le_add_right _ _
          have cS : ms M2 ≤ rmS D M2 := Nat.le_add_right _ _
          have rm := A.2.2.2.2
          have hn := A.2.2.1
          have t02 : tI s2 0 = 0 := (a6 0 rfl).1.trans t0
          refine ⟨mn M2, wM M2 53 (nI j), tsI (tsI s2 0 53) 1 (nI j), ?_, ?_, M2, j, a5, rfl, rfl, (a6.mono (by decide)).tr (((Ft.rf _ _).p_tsI rfl).p_tsI rfl), rfl, rfl⟩
          · rw [ifT (show bI false = 0 by decide), k_wrong (by omega) (by omega), ob_some, ifT (wM_k _ _ _)]
          · rw [ifT (show bI false = 0 by decide), t_bad t02, ob_some, t_c42b (s := tsI (tsI s2 0 53) 1 (nI j)) (by show (53 : Int32) ≠ 0; decide)]
    · refine skip ?_ ⟨?_, ?_⟩
      · unfold c1B; rw [← (e0 j).1, ← (e0 j).2]; exact decide_eq_false (fun q => z q.1)
      · conv => lhs; unfold KL_X0_chooseStates_6
        rw [i.2.1.1, ifF le, ifT ij, xj, g128, ifF z, nx, nm_eq]
      · conv => lhs; unfold L_chooseStates_42
        rw [i.2.1.2.1, ifF le, t_isBad0 t0, ob_some, ifT rfl, ifT ij2, xj, ifF z, nx, nm_eq]
theorem z_ms2 (s0 : TS) : ∀ (d j kf tf : Nat) (M : CM) (s : TS), j + d = S → d < kf → d < tf → IdxR V E U S K N D M s → (∀ e, tA s 180 e = tA s0 180 e) → MtR 2 U S j (c2B s0) M s →
    (∃ w M' s', KL_X0_makeBlocks_6 kf (nI j) M = some (.inr (.inr w), M') ∧ L_makeBlocks_30 tf (nI j) s = some ((), s') ∧ MaF D M s 54 w M' s') ∨
    ∃ M' s', KL_X0_makeBlocks_6 kf (nI j) M = some (.inl (), M') ∧ L_makeBlocks_30 tf (nI j) s = some ((), s') ∧ KF D [] [] fdA [] M M' ∧ Ft fdT s s' ∧ MtR 2 U S S (c2B s0) M' s' := by
  intro d
  induction d with
  | zero =>
    intro j kf tf M s hj hkf htf i e0 h
    obtain ⟨kf, rfl⟩ : ∃ g, kf = g + 1 := ⟨kf - 1, by omega⟩
    obtain ⟨tf, rfl⟩ : ∃ g, tf = g + 1 := ⟨tf - 1, by omega⟩
    obtain rfl : j = S := by omega
    have hS := i.2.1.2.2.1
    have le : nI j ≤ nI j := (bI_le (by omega) (by omega)).mpr (Nat.le_refl _)
    refine Or.inr ⟨M, s, ?_, ?_, KF.rf, Ft.rf _ s, h⟩
    · unfold KL_X0_makeBlocks_6; rw [i.2.1.1, ifT le]
    · unfold L_makeBlocks_30; rw [i.2.1.2.1, ifT le]
  | succ d ih =>
    intro j kf tf M s hj hkf htf i e0 h
    obtain ⟨kf, rfl⟩ : ∃ g, kf = g + 1 := ⟨kf - 1, by omega⟩
    obtain ⟨tf, rfl⟩ : ∃ g, tf = g + 1 := ⟨tf - 1, by omega⟩
    have hS := i.2.1.2.2.1
    have t0 : tI s 0 = 0 := h.2.1.2.1
    have le : ¬ nI S ≤ nI j := fun z => by have := (bI_le (by omega) (by omega)).mp z; omega
    have nx : nI j + 1 = nI (j + 1) := nI_addL j 1
    have ij : inb (nI j) 180 := inb_nI' (by omega) (by decide)
    have ij2 : inb (nI j) 400 := inb_nI' (by omega) (by decide)
    have xj : ix (nI j) = j := ix_nI (by omega)
    have g128 : mA M 128 j = tA s 180 j := (i.2.2.2.2.1 j (by omega)).1.1
    by_cases z : tA s 180 j = 0
    · have hc : c2B s0 j = true := by unfold c2B; rw [← e0 j]; exact decide_eq_true z
      obtain ⟨r, M1, M2, s1, s2, a1, a2, a3, a4, a5, a6, a7⟩ := z_match D h (by omega) hc
      have eK : KL_X0_makeBlocks_6 (kf + 1) (nI j) M = if bI r = 0 then (ob (K_X0_wrong 54 (nI j) M2) fun r20 M19 => if mk M19 r20 = 7 then some (.inr (.inr r20), M19) else none) else KL_X0_makeBlocks_6 kf (nI (j + 1)) M2 := by
        conv => lhs; unfold KL_X0_makeBlocks_6
        rw [i.2.1.1, ifF le, ifT ij, xj, g128, ifT z, a1, ob_some, show K_X0_find_2 (nI j) 2 M1 = some (bI r, M2) from a2, ob_some, nx]
        rfl
      have eT : L_makeBlocks_30 (tf + 1) (nI j) s = if bI r = 0 then (ob (F_bad 54 (nI j) s2) fun r30 s29 => L_makeBlocks_30 tf (nI (j + 1)) s29) else L_makeBlocks_30 tf (nI (j + 1)) s2 := by
        conv => lhs; unfold L_makeBlocks_30
        rw [i.2.1.2.1, ifF le, t_isBad0 t0, ob_some, ifT rfl, ifT ij2, xj, ifT z, a3, ob_some, a4, ob_some, nx]
        rfl
      have i2 : IdxR V E U S K N D M2 s2 := i.kf a5 a6
      rw [eK, eT]
      by_cases hr : r = true
      · subst hr
        rw [ifF (show ¬ bI true = 0 by decide), ifF (show ¬ bI true = 0 by decide)]
        rcases ih (j + 1) kf tf M2 s2 (by omega) (by omega) (by omega) i2 (fun e => ((a6 180 rfl).2.2.1 e).trans (e0 e)) (a7 rfl) with ⟨w, M', s', b1, b2, M3, k, b3, b4, b5, b6, b7⟩ | ⟨M', s', b1, b2, b3, b4, b5⟩
        · exact Or.inl ⟨w, M', s', b1, b2, M3, k, a5.tr b3, b4, b5, (a6.mono (by decide)).tr b6, b7⟩
        · exact Or.inr ⟨M', s', b1, b2, a5.tr b3, a6.tr b4, b5⟩
      · have hr0 : r = false := by cases r with | true => exact absurd rfl hr | false => rfl
        subst hr0
        left
        obtain ⟨tf', rfl⟩ : ∃ g, tf = g + 1 := ⟨tf - 1, by omega⟩
        have A := i2.1.1
        have cN : mn M2 ≤ rmN D M2 := Nat.le_add_right _ _
        have cS : ms M2 ≤ rmS D M2 := Nat.le_add_right _ _
        have rm := A.2.2.2.2
        have hn := A.2.2.1
        have t02 : tI s2 0 = 0 := (a6 0 rfl).1.trans t0
        refine ⟨mn M2, wM M2 54 (nI j), tsI (tsI s2 0 54) 1 (nI j), ?_, ?_, M2, j, a5, rfl, rfl, (a6.mono (by decide)).tr (((Ft.rf _ _).p_tsI rfl).p_tsI rfl), rfl, rfl⟩
        · rw [ifT (show bI false = 0 by decide), k_wrong (by omega) (by omega), ob_some, ifT (wM_k _ _ _)]
        · rw [ifT (show bI false = 0 by decide), t_bad t02, ob_some, t_30b (s := tsI (tsI s2 0 54) 1 (nI j)) (by show (54 : Int32) ≠ 0; decide)]
    · have hc : c2B s0 j = false := by unfold c2B; rw [← e0 j]; exact decide_eq_false z
      have eK : KL_X0_makeBlocks_6 (kf + 1) (nI j) M = KL_X0_makeBlocks_6 kf (nI (j + 1)) M := by
        conv => lhs; unfold KL_X0_makeBlocks_6
        rw [i.2.1.1, ifF le, ifT ij, xj, g128, ifF z, nx, nm_eq]
      have eT : L_makeBlocks_30 (tf + 1) (nI j) s = L_makeBlocks_30 tf (nI (j + 1)) s := by
        conv => lhs; unfold L_makeBlocks_30
        rw [i.2.1.2.1, ifF le, t_isBad0 t0, ob_some, ifT rfl, ifT ij2, xj, ifF z, nx, nm_eq]
      rw [eK, eT]
      exact ih (j + 1) kf tf M s (by omega) (by omega) (by omega) i e0 (h.skip hc)
end MATCH
