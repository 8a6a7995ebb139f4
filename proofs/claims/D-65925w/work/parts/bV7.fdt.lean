/-! Layer B: who is given to whom: the twin searches so -/
set_option maxRecDepth 100000
section FINDT
variable {s s' s0 : TS} {U S mode d e f n u k : Nat} {isn : Nat → Nat → Int32} {ct : Nat → Bool} {g : Nat → Int32} {P : Fs3} {rc : Nat → Fs3 → Bool × Fs3} {ca : Int32 → TS → Option (Int32 × TS)}
theorem TR.set (r : TR U S s P) : TR U S (tsA s 191 u (nI e)) (sA P.1 u (nI e), P.2) := fun j => by
  obtain ⟨ab, c⟩ := r j
  rw [tA_tsA, tA_tsA, tA_tsA, ifF (show ¬ ((199 : Nat) = 191 ∧ j = u) by omega), ifF (show ¬ ((200 : Nat) = 191 ∧ j = u) by omega)]
  refine ⟨fun hj => ⟨?_, (ab hj).2⟩, c⟩
  by_cases z : j = u
  · rw [ifT ⟨rfl, z⟩, z]; exact (sA_eq _ _ _).symm
  · rw [ifF (fun y => z y.2), (ab hj).1]; exact (sA_ne _ _ z).symm
theorem TR.see (r : TR U S s P) : TR U S (tsA s 199 u 1) (P.1, sA P.2.1 u 1, P.2.2) := fun j => by
  obtain ⟨ab, c⟩ := r j
  rw [tA_tsA, tA_tsA, tA_tsA, ifF (show ¬ ((191 : Nat) = 199 ∧ j = u) by omega), ifF (show ¬ ((200 : Nat) = 199 ∧ j = u) by omega)]
  refine ⟨fun hj => ⟨(ab hj).1, ?_⟩, c⟩
  by_cases z : j = u
  · rw [ifT ⟨rfl, z⟩, z]; exact (sA_eq _ _ _).symm
  · rw [ifF (fun y => z y.2), (ab hj).2]; exact (sA_ne _ _ z).symm
theorem TR.eq (r : TR U S s P) : TR U S (tsA s 200 e 1) (P.1, P.2.1, sA P.2.2 e 1) := fun j => by
  obtain ⟨ab, c⟩ := r j
  rw [tA_tsA, tA_tsA, tA_tsA, ifF (show ¬ ((191 : Nat) = 200 ∧ j = e) by omega), ifF (show ¬ ((199 : Nat) = 200 ∧ j = e) by omega)]
  refine ⟨ab, fun hj => ?_⟩
  by_cases z : j = e
  · rw [ifT ⟨rfl, z⟩, z]; exact (sA_eq _ _ _).symm
  · rw [ifF (fun y => z y.2), c hj]; exact (sA_ne _ _ z).symm
theorem t_isIn (h : TH s U S mode isn ct) (he : e < S) (hu : u < U) : F_isIn (nI u) (nI e) s = some (isn e u, s) := by
  obtain ⟨⟨-, -, h2, h3, -⟩, h5, -⟩ := h
  unfold F_isIn
  rw [show nI e * (200 : Int32) + nI u = nI (200 * e + u) from by rw [show (200 : Int32) = nI 200 from rfl, nI_mul, bI_add, Nat.mul_comm], ifT (inb_nI' (by omega) (by decide)), ix_nI (by omega), h5 e u he hu]
/-- the twin's first loop, upward -/
theorem t_fd1 (h : TH s U S mode isn ct) (hm : mode ≠ 1) (he : e < S) (r : TR U S s P) : ∀ (d n : Nat), d ≤ U → d < n → L_attempt_17 ca n (nI e) (nI (U - d)) s = match fd1 U mode isn ct e P.1 d with | some u => some (.inr 1, tsA s 191 u (nI e)) | none => some (.inl (), s)
  | 0, 0, _, hn => absurd hn (Nat.lt_irrefl 0)
  | d + 1, 0, _, hn => absurd hn (Nat.not_lt_zero _)
  | 0, n + 1, _, _ => by
    obtain ⟨⟨h1, -, h2, -⟩, -⟩ := h
    unfold L_attempt_17 fd1
    rw [h1, ifT ((bI_le (by omega) (by omega)).mpr (by omega))]
  | d + 1, n + 1, hd, hn => by
    have ih := t_fd1 h hm he r d n (by omega) (by omega)
    obtain ⟨⟨h1, h1', h2, h3, h4⟩, h5, h6⟩ := id h
    have nx : nI (U - (d + 1)) + 1 = nI (U - d) := by rw [nI_addL]; congr 1; show U - (d + 1) + 1 = _; omega
    have le : ¬ nI U ≤ nI (U - (d + 1)) := fun z => by have := (bI_le (by omega) (by omega)).mp z; omega
    have hu : ixm mode U (U - (d + 1)) = U - (d + 1) := by unfold ixm; rw [ifF hm]
    obtain ⟨u, hu'⟩ : ∃ u, u = U - (d + 1) := ⟨_, rfl⟩
    have uU : u < U := by omega
    unfold fd1
    rw [← hu'] at nx le hu
    rw [← hu', hu]
    conv => lhs; unfold L_attempt_17
    rw [h1, ifF le, t_isIn h he uU, ob_some]
    by_cases z : isn e u = 0
    · rw [ifT z, ifT (Or.inl z), nx, nm_eq]; exact ih
    · rw [ifF z, h6 s (Ft.rf _ s) u uU, ob_some]
      by_cases z2 : ct u = true
      · rw [ifT z2, ifF (by decide), ifT (inb_nI' (by omega) (by decide)), ix_nI (by omega), ((r u).1 uU).1]
        by_cases z3 : 0 ≤ P.1 u
        · rw [ifF (show ¬ P.1 u < 0 from fun y => by
            have a : (0 : Int32) ≤ P.1 u := z3
            rw [Int32.le_iff_toInt_le] at a
            rw [Int32.lt_iff_toInt_lt] at y
            omega), ifT (Or.inr (Or.inr z3)), nx, nm_eq]
          exact ih
        · rw [ifT (show P.1 u < 0 from by
            rw [Int32.lt_iff_toInt_lt]
            have a : ¬ (0 : Int32) ≤ P.1 u := z3
            rw [Int32.le_iff_toInt_le] at a
            omega), ifT (inb_nI' (by omega) (by decide)), nm_eq, ifF (fun y => by
            rcases y with y | y | y
            · exact z y
            · rw [z2] at y; cases y
            · exact z3 y)]
      · have z2' : ct u = false := by cases c : ct u with | true => exact absurd c z2 | false => rfl
        rw [ifF z2, ifT rfl, ifT (Or.inr (Or.inl z2')), nx, nm_eq]; exact ih
/-- the twin's first loop, downward -/
theorem t_fd1d (h : TH s U S 1 isn ct) (he : e < S) (r : TR U S s P) : ∀ (d n : Nat), d ≤ U → d < n → L_attempt_79 ca n (nI e) (nI d + (-1)) s = match fd1 U 1 isn ct e P.1 d with | some u => some (.inr 1, tsA s 191 u (nI e)) | none => some (.inl (), s)
  | 0, 0, _, hn => absurd hn (Nat.lt_irrefl 0)
  | d + 1, 0, _, hn => absurd hn (Nat.not_lt_zero _)
  | 0, n + 1, _, _ => by
    unfold L_attempt_79 fd1
    rw [ifT (show nI 0 + (-1) < (0 : Int32) by decide)]
  | d + 1, n + 1, hd, hn => by
    have ih := t_fd1d h he r d n (by omega) (by omega)
    obtain ⟨⟨h1, h1', h2, h3, h4⟩, h5, h6⟩ := id h
    have e1 : nI (d + 1) + (-1) = nI d := by
      rw [show (-1 : Int32) = -(nI 1) from rfl, ← Int32.sub_eq_add_neg, nI_sub (by omega)]; rfl
    have hu : ixm 1 U (U - (d + 1)) = d := by unfold ixm; rw [ifT rfl]; omega
    unfold fd1
    rw [hu]
    conv => lhs; unfold L_attempt_79
    rw [e1, ifF (n_neg (by omega)), t_isIn h he (by omega), ob_some]
    by_cases z : isn e d = 0
    · rw [ifT z, ifT (Or.inl z), nm_eq]; exact ih
    · rw [ifF z, h6 s (Ft.rf _ s) d (by omega), ob_some]
      by_cases z2 : ct d = true
      · rw [ifT z2, ifF (by decide), ifT (inb_nI' (by omega) (by decide)), ix_nI (by omega), ((r d).1 (by omega)).1]
        by_cases z3 : 0 ≤ P.1 d
        · rw [ifF (show ¬ P.1 d < 0 from fun y => by
            have a : (0 : Int32) ≤ P.1 d := z3
            rw [Int32.le_iff_toInt_le] at a
            rw [Int32.lt_iff_toInt_lt] at y
            omega), ifT (Or.inr (Or.inr z3)), nm_eq]
          exact ih
        · rw [ifT (show P.1 d < 0 from by
            rw [Int32.lt_iff_toInt_lt]
            have a : ¬ (0 : Int32) ≤ P.1 d := z3
            rw [Int32.le_iff_toInt_le] at a
            omega), ifT (inb_nI' (by omega) (by decide)), nm_eq, ifF (fun y => by
            rcases y with y | y | y
            · exact z y
            · rw [z2] at y; cases y
            · exact z3 y)]
      · have z2' : ct d = false := by cases c : ct d with | true => exact absurd c z2 | false => rfl
        rw [ifF z2, ifT rfl, ifT (Or.inr (Or.inl z2')), nm_eq]; exact ih
/-- the twin's second loop -/
theorem t_fd2 (hS : S ≤ 180) (h0 : TH s0 U S mode isn ct) (he : e < S) (hro : ∀ e P, e < S → Rg U S P.1 → FdO U S P (rc e P)) (hrc : ∀ e' P s, e' < S → Rg U S P.1 → Ft fdT s0 s → TR U S s P → cz P.2.1 U < f → ∃ s', ca (nI e') s = some (bI (rc e' P).1, s') ∧ Ft fdT s s' ∧ TR U S s' (rc e' P).2) : ∀ (d n : Nat) (P : Fs3) (s : TS), d ≤ U → d < n → Rg U S P.1 → (∀ u, u < U → ¬ isn e u = 0 → ct u = true → 0 ≤ P.1 u) → Ft fdT s0 s → TR U S s P → cz P.2.1 U < f + 1 → ∃ s', L_attempt_129 ca n (nI e) (nI (U - d)) s = some ((if (fd2 U mode isn ct rc e d P).1 = true then .inr 1 else .inl ()), s') ∧ Ft fdT s s' ∧ TR U S s' (fd2 U mode isn ct rc e d P).2
  | 0, 0, _, _, _, hn, _, _, _, _, _ => absurd hn (Nat.lt_irrefl 0)
  | d + 1, 0, _, _, _, hn, _, _, _, _, _ => absurd hn (Nat.not_lt_zero _)
  | 0, n + 1, P, s, _, _, hR, hg, k0, r, hc => by
    obtain ⟨⟨h1, -, h2, -⟩, -⟩ := h0.mv k0
    refine ⟨s, ?_, Ft.rf _ s, r⟩
    unfold L_attempt_129 fd2
    rw [h1, ifT ((bI_le (by omega) (by omega)).mpr (by omega))]
    rfl
  | d + 1, n + 1, P, s, hd, hn, hR, hg, k0, r, hc => by
    have ih := fun P s => t_fd2 hS h0 he hro hrc d n P s (by omega) (by omega)
    have h := h0.mv k0
    obtain ⟨⟨h1, h1', h2, h3, h4⟩, h5, h6⟩ := id h
    have nx : nI (U - (d + 1)) + 1 = nI (U - d) := by rw [nI_addL]; congr 1; show U - (d + 1) + 1 = _; omega
    have le : ¬ nI U ≤ nI (U - (d + 1)) := fun z => by have := (bI_le (by omega) (by omega)).mp z; omega
    obtain ⟨u, hu⟩ : ∃ u, u = ixm mode U (U - (d + 1)) := ⟨_, rfl⟩
    have uU : u < U := by rw [hu]; exact ixm_lt (by omega)
    have body : L_attempt_129 ca (n + 1) (nI e) (nI (U - (d + 1))) s = J_attempt_157_129 ca (L_attempt_129 ca n) (nI e) (nI (U - (d + 1))) (nI u) s := by
      have q := ixK (mode := mode) (k := U - (d + 1)) (U := U) (by omega)
      rw [ifT h4, ← hu] at q
      conv => lhs; unfold L_attempt_129
      rw [h1, ifF le, h1']
      by_cases z : nI mode = 1
      · rw [ifT ⟨z, h4⟩] at q
        rw [ifT z, q]
      · rw [ifF (fun y => z y.1)] at q
        rw [ifF z, q]
    rw [body]
    unfold fd2 J_attempt_157_129
    rw [← hu, t_isIn h he uU, ob_some]
    by_cases z : isn e u = 0
    · rw [ifT z, ifT (Or.inl z), nx, nm_eq]; exact ih P s hR hg k0 r hc
    · rw [ifF z, h6 s (Ft.rf _ s) u uU, ob_some]
      by_cases z2 : ct u = true
      · have iu : inb (nI u) 200 := inb_nI' (by omega) (by decide)
        have xu : ix (nI u) = u := ix_nI (by omega)
        have e1 : nZ 1 = 1 := by decide
        rw [ifT z2, ifF (by decide), ifT iu, xu, ((r u).1 uU).2]
        by_cases z3 : P.2.1 u = 0
        · rw [ifT z3, ifT iu, e1, nm_eq, ifT iu]
          obtain ⟨e', e2, e3⟩ := hR.nn uU (hg u uU z z2)
          have xe : ix (P.1 u) = e' := by rw [e3]; exact ix_nI (by omega)
          obtain ⟨s1, hs1⟩ : ∃ q, q = tsA s 199 u 1 := ⟨_, rfl⟩
          have k1 : Ft fdT s s1 := by rw [hs1]; exact (Ft.rf _ s).p_tsA rfl
          have r1 : TR U S s1 (P.1, sA P.2.1 u 1, P.2.2) := by rw [hs1]; exact r.see
          have g1 : tA s1 191 u = nI e' := by rw [((r1 u).1 uU).1]; exact e3
          have cs := cz_set (f := P.2.1) uU z3
          obtain ⟨s2, c1, c2, c3⟩ := hrc e' (P.1, sA P.2.1 u 1, P.2.2) s1 e2 hR (k0.tr k1) r1 (by show cz (sA P.2.1 u 1) U < f; omega)
          obtain ⟨o1, o2, o3, o4, o5⟩ := hro e' (P.1, sA P.2.1 u 1, P.2.2) e2 hR
          rw [← hs1, g1, c1, ob_some, xe]
          have nc : ¬ (isn e u = 0 ∨ ct u = false ∨ ¬ P.2.1 u = 0) := fun y => by
            rcases y with y | y | y
            · exact z y
            · rw [z2] at y; cases y
            · exact y z3
          rw [ifF nc]
          by_cases q : (rc e' (P.1, sA P.2.1 u 1, P.2.2)).1 = true
          · rw [ifT q]
            refine ⟨tsA s2 191 u (nI e), ?_, (k1.tr c2).p_tsA rfl, c3.set⟩
            unfold bI
            rw [ifT q, ifF (by decide), ifT iu, nm_eq, ifT rfl]
          · have q' : (rc e' (P.1, sA P.2.1 u 1, P.2.2)).1 = false := by cases c : (rc e' (P.1, sA P.2.1 u 1, P.2.2)).1 with | true => exact absurd c q | false => rfl
            have g2 := o4 q'
            have mono := cz_mono (n := U) (f := sA P.2.1 u 1) (f' := (rc e' (P.1, sA P.2.1 u 1, P.2.2)).2.2.1) (fun j _ y => o2 j y)
            rw [ifF q]
            obtain ⟨s3, d1, d2, d3⟩ := ih (rc e' (P.1, sA P.2.1 u 1, P.2.2)).2 s2 o1 (by rw [g2]; exact hg) ((k0.tr k1).tr c2) c3 (by omega)
            refine ⟨s3, ?_, (k1.tr c2).tr d2, d3⟩
            unfold bI
            rw [ifF q, ifT rfl, nx, nm_eq]; exact d1
        · rw [ifF z3, ifT (Or.inr (Or.inr z3)), nx, nm_eq]; exact ih P s hR hg k0 r hc
      · have z2' : ct u = false := by cases c : ct u with | true => exact absurd c z2 | false => rfl
        rw [ifF z2, ifT rfl, ifT (Or.inr (Or.inl z2')), nx, nm_eq]; exact ih P s hR hg k0 r hc
/-- the twin searches -/
theorem t_fd (hS : S ≤ 180) (h0 : TH s0 U S mode isn ct) : ∀ (f e : Nat) (P : Fs3) (s : TS), e < S → Rg U S P.1 → Ft fdT s0 s → TR U S s P → cz P.2.1 U < f → ∃ s', G_attempt f (nI e) s = some (bI (fd U mode isn ct f e P).1, s') ∧ Ft fdT s s' ∧ TR U S s' (fd U mode isn ct f e P).2
  | 0, _, _, _, _, _, _, _, hc => absurd hc (Nat.not_lt_zero _)
  | f + 1, e, P, s, he, hR, k0, r, hc => by
    have ih := t_fd hS h0 f
    have fu := fu2
    obtain ⟨s1, hs1⟩ : ∃ q, q = tsA s 200 e 1 := ⟨_, rfl⟩
    have k1 : Ft fdT s s1 := by rw [hs1]; exact (Ft.rf _ s).p_tsA rfl
    have r1 : TR U S s1 (P.1, P.2.1, sA P.2.2 e 1) := by rw [hs1]; exact r.eq
    have h1 := h0.mv (k0.tr k1)
    obtain ⟨⟨i1, i2, U180, -, m2⟩, -⟩ := id h1
    have ie : inb (nI e) 400 := inb_nI' (by omega) (by decide)
    have xe : ix (nI e) = e := ix_nI (by omega)
    have e1 : nZ 1 = 1 := by decide
    obtain ⟨X, hX⟩ : ∃ X, X = (if mode = 1 then L_attempt_79 (G_attempt f) FU (nI e) (nI U + (-1)) s1 else L_attempt_17 (G_attempt f) FU (nI e) 0 s1) := ⟨_, rfl⟩
    have hd : G_attempt (f + 1) (nI e) s = obS X (fun r60 s23 => some (r60, s23)) fun q22 s23 => J_attempt_127 (G_attempt f) (nI e) s23 := by
      show B_attempt (G_attempt f) (nI e) s = _
      unfold B_attempt
      rw [ifT ie, xe, e1, ← hs1, nm_eq, i2, hX]
      by_cases z : mode = 1
      · rw [ifT z, ifT (show nI mode = 1 by rw [z]; rfl), i1, nm_eq, Int32.sub_eq_add_neg]
      · have n1 : ¬ nI mode = (1 : Int32) := fun y => z ((bI_eq (b := 1) (by omega) (by decide)).mp y)
        rw [ifF z, ifF n1]
    have l1 : X = match fd1 U mode isn ct e P.1 U with | some u => some (.inr 1, tsA s1 191 u (nI e)) | none => some (.inl (), s1) := by
      rw [hX]
      by_cases z : mode = 1
      · subst z
        rw [ifT rfl]
        exact t_fd1d h1 he r1 U FU (Nat.le_refl _) (by omega)
      · rw [ifF z]
        have := t_fd1 (ca := G_attempt f) h1 z he r1 U FU (Nat.le_refl _) (by omega)
        rw [Nat.sub_self] at this
        exact this
    rw [hd, l1]
    unfold fd
    cases c : fd1 U mode isn ct e P.1 U with
    | some u =>
      have hu := (fd1_some U (Nat.le_refl _) c).1
      exact ⟨tsA s1 191 u (nI e), rfl, k1.p_tsA rfl, r1.set⟩
    | none =>
      obtain ⟨s2, d1, d2, d3⟩ := t_fd2 (f := f) hS h0 he (fun e P => fd_o hS f e P) (fun e' P s a b c d g => ih e' P s a b c d g) U FU (P.1, P.2.1, sA P.2.2 e 1) s1 (Nat.le_refl _) (by omega) hR (fun u hu => fd1_no c hu) (k0.tr k1) r1 hc
      rw [Nat.sub_self] at d1
      refine ⟨s2, ?_, k1.tr d2, d3⟩
      rw [obS_inl]
      unfold J_attempt_127
      rw [show L_attempt_129 (G_attempt f) FU (nI e) 0 s1 = _ from d1]
      by_cases q : (fd2 U mode isn ct (fd U mode isn ct f) e U (P.1, P.2.1, sA P.2.2 e 1)).1 = true
      · rw [ifT q, obS_inr]
        unfold bI
        rw [ifT q]
      · rw [ifF q, obS_inl]
        unfold bI
        rw [ifF q]
end FINDT
