/-! Layer B: who is given to whom: both sides search so -/
set_option maxRecDepth 100000
abbrev fdA : List Nat := [122, 138, 139]
abbrev fdT : List Nat := [191, 199, 200]
def KR (U S : Nat) (M : CM) (P : Fs3) : Prop := ∀ u, (u < U → mA M 122 u = P.1 u ∧ mA M 138 u = P.2.1 u) ∧ (u < S → mA M 139 u = P.2.2 u)
def TR (U S : Nat) (s : TS) (P : Fs3) : Prop := ∀ u, (u < U → tA s 191 u = P.1 u ∧ tA s 199 u = P.2.1 u) ∧ (u < S → tA s 200 u = P.2.2 u)
/-- the component's surroundings -/
def KH (D : FQ) (M : CM) (U S mode : Nat) (isn : Nat → Nat → Int32) (ct : Nat → Bool) : Prop := (mI M 57 1 = nI U ∧ U ≤ 180 ∧ S ≤ 180 ∧ mode ≤ 2) ∧ (∀ e u, e < S → u < U → mA M 132 (180 * e + u) = isn e u) ∧ ∀ M', KF D [] [] fdA [] M M' → ∀ u, u < U → K_X0_counts (nI u) (nI mode) M' = some ((if ct u = true then 1 else 0), M')
def TH (s : TS) (U S mode : Nat) (isn : Nat → Nat → Int32) (ct : Nat → Bool) : Prop := (tI s 197 = nI U ∧ tI s 205 = nI mode ∧ U ≤ 180 ∧ S ≤ 180 ∧ mode ≤ 2) ∧ (∀ e u, e < S → u < U → tA s 202 (200 * e + u) = isn e u) ∧ ∀ s', Ft fdT s s' → ∀ u, u < U → F_counts (nI u) s' = some ((if ct u = true then 1 else 0), s')
section FINDW
variable {D : FQ} {M M' M0 : CM} {s s' s0 : TS} {U S mode d e f n u k : Nat} {isn : Nat → Nat → Int32} {ct : Nat → Bool} {g : Nat → Int32} {P : Fs3} {rc : Nat → Fs3 → Bool × Fs3} {cf : Int32 → Int32 → CM → Option (Int32 × CM)} {ca : Int32 → TS → Option (Int32 × TS)}
theorem ixK (hk : k < U) : (if nI mode = 1 ∧ mode ≤ 2 then (nI U - 1) - nI k else nI k) = if mode ≤ 2 then nI (ixm mode U k) else nI k := by
  unfold ixm
  by_cases z : mode = 1
  · subst z
    rw [ifT ⟨rfl, by decide⟩, ifT (by decide), ifT rfl, show (1 : Int32) = nI 1 from rfl, nI_sub (by omega), nI_sub (by omega)]
  · have h1 : ∀ (h : mode ≤ 2), ¬ nI mode = 1 := fun h y => z ((bI_eq (b := 1) (by omega) (by decide)).mp y)
    by_cases y : mode ≤ 2
    · rw [ifF (fun q => h1 y q.1), ifT y, ifF z]
    · rw [ifF (fun q => y q.2), ifF y]
theorem KH.mv (h : KH D M U S mode isn ct) (k : KF D [] [] fdA [] M M') : KH D M' U S mode isn ct := ⟨⟨(k.i rfl 1).trans h.1.1, h.1.2⟩, fun e u he hu => (k.ga rfl _).trans (h.2.1 e u he hu), fun M2 k2 => h.2.2 M2 (k.tr k2)⟩
theorem TH.mv (h : TH s U S mode isn ct) (f : Ft fdT s s') : TH s' U S mode isn ct := ⟨⟨(f 197 rfl).1.trans h.1.1, (f 205 rfl).1.trans h.1.2.1, h.1.2.2⟩, fun e u he hu => ((f 202 rfl).2.2.1 _).trans (h.2.1 e u he hu), fun s2 f2 => h.2.2 s2 (f.tr f2)⟩
/-- the component's first loop -/
theorem k_fd1 (h : KH D M U S mode isn ct) (he : e < S) (r : KR U S M P) : ∀ (d n : Nat), d ≤ U → d < n → KL_X0_find_2_9 cf n (nI e) (nI mode) (nI (U - d)) M = match fd1 U mode isn ct e P.1 d with | some u => some (.inr 1, mwA M 122 u (nI e)) | none => some (.inl (), M)
  | 0, 0, _, hn => absurd hn (Nat.lt_irrefl 0)
  | d + 1, 0, _, hn => absurd hn (Nat.not_lt_zero _)
  | 0, n + 1, _, _ => by
    obtain ⟨⟨h1, h2, -⟩, -⟩ := h
    unfold KL_X0_find_2_9 fd1
    rw [h1, ifT ((bI_le (by omega) (by omega)).mpr (by omega))]
  | d + 1, n + 1, hd, hn => by
    have ih := k_fd1 h he r d n (by omega) (by omega)
    obtain ⟨⟨h1, h2, h3, h4⟩, h5, h6⟩ := id h
    have nx : nI (U - (d + 1)) + 1 = nI (U - d) := by rw [nI_addL]; congr 1; show U - (d + 1) + 1 = _; omega
    have le : ¬ nI U ≤ nI (U - (d + 1)) := fun z => by have := (bI_le (by omega) (by omega)).mp z; omega
    obtain ⟨u, hu⟩ : ∃ u, u = ixm mode U (U - (d + 1)) := ⟨_, rfl⟩
    have uU : u < U := by rw [hu]; exact ixm_lt (by omega)
    have body : KL_X0_find_2_9 cf (n + 1) (nI e) (nI mode) (nI (U - (d + 1))) M = KJ_X0_find_2_34_9 cf (KL_X0_find_2_9 cf n) (nI e) (nI mode) (nI (U - (d + 1))) (nI u) M := by
      have q := ixK (mode := mode) (k := U - (d + 1)) (U := U) (by omega)
      rw [ifT h4, ← hu] at q
      conv => lhs; unfold KL_X0_find_2_9
      rw [h1, ifF le]
      by_cases z : nI mode = 1
      · rw [ifT ⟨z, h4⟩] at q
        rw [ifT z, q]
      · rw [ifF (fun y => z y.1)] at q
        rw [ifF z, q]
    rw [body]
    unfold fd1 KJ_X0_find_2_34_9
    rw [← hu, show (180 : Int32) * nI e + nI u = nI (180 * e + u) from by rw [show (180 : Int32) = nI 180 from rfl, nI_mul, bI_add], ifT (inb_nI' (by omega) (by decide)), ix_nI (by omega), h5 e u he uU]
    by_cases z : isn e u = 0
    · rw [ifT z, ifT (Or.inl z), nx, nm_eq]; exact ih
    · rw [ifF z, h6 M KF.rf u uU, ob_some]
      by_cases z2 : ct u = true
      · rw [ifT z2, ifF (by decide), ifT (inb_nI' (by omega) (by decide)), ix_nI (by omega), ((r u).1 (by omega)).1]
        by_cases z3 : 0 ≤ P.1 u
        · rw [ifT z3, ifT (Or.inr (Or.inr z3)), nx, nm_eq]; exact ih
        · rw [ifF z3, ifT (inb_nI' (by omega) (by decide)), nm_eq, ifF (fun y => by
            rcases y with y | y | y
            · exact z y
            · rw [z2] at y; cases y
            · exact z3 y)]
      · have z2' : ct u = false := by cases c : ct u with | true => exact absurd c z2 | false => rfl
        rw [ifF z2, ifT rfl, ifT (Or.inr (Or.inl z2')), nx, nm_eq]; exact ih
theorem KR.set (r : KR U S M P) : KR U S (mwA M 122 u (nI e)) (sA P.1 u (nI e), P.2) := fun j => by
  obtain ⟨ab, c⟩ := r j
  rw [mA_mwA, mA_mwA, mA_mwA, ifF (show ¬ ((138 : Nat) = 122 ∧ j = u) by omega), ifF (show ¬ ((139 : Nat) = 122 ∧ j = u) by omega)]
  refine ⟨fun hj => ⟨?_, (ab hj).2⟩, c⟩
  by_cases z : j = u
  · rw [ifT ⟨rfl, z⟩, z]; exact (sA_eq _ _ _).symm
  · rw [ifF (fun y => z y.2), (ab hj).1]; exact (sA_ne _ _ z).symm
theorem KR.see (r : KR U S M P) : KR U S (mwA M 138 u 1) (P.1, sA P.2.1 u 1, P.2.2) := fun j => by
  obtain ⟨ab, c⟩ := r j
  rw [mA_mwA, mA_mwA, mA_mwA, ifF (show ¬ ((122 : Nat) = 138 ∧ j = u) by omega), ifF (show ¬ ((139 : Nat) = 138 ∧ j = u) by omega)]
  refine ⟨fun hj => ⟨(ab hj).1, ?_⟩, c⟩
  by_cases z : j = u
  · rw [ifT ⟨rfl, z⟩, z]; exact (sA_eq _ _ _).symm
  · rw [ifF (fun y => z y.2), (ab hj).2]; exact (sA_ne _ _ z).symm
theorem KR.eq (r : KR U S M P) : KR U S (mwA M 139 e 1) (P.1, P.2.1, sA P.2.2 e 1) := fun j => by
  obtain ⟨ab, c⟩ := r j
  rw [mA_mwA, mA_mwA, mA_mwA, ifF (show ¬ ((122 : Nat) = 139 ∧ j = e) by omega), ifF (show ¬ ((138 : Nat) = 139 ∧ j = e) by omega)]
  refine ⟨ab, fun hj => ?_⟩
  by_cases z : j = e
  · rw [ifT ⟨rfl, z⟩, z]; exact (sA_eq _ _ _).symm
  · rw [ifF (fun y => z y.2), c hj]; exact (sA_ne _ _ z).symm
def bI (b : Bool) : Int32 := if b = true then 1 else 0
/-- the component's second loop -/
theorem k_fd2 (hS : S ≤ 180) (h0 : KH D M0 U S mode isn ct) (he : e < S) (hro : ∀ e P, e < S → Rg U S P.1 → FdO U S P (rc e P)) (hrc : ∀ e' P M, e' < S → Rg U S P.1 → KF D [] [] fdA [] M0 M → KR U S M P → cz P.2.1 U < f → ∃ M', cf (nI e') (nI mode) M = some (bI (rc e' P).1, M') ∧ KF D [] [] fdA [] M M' ∧ KR U S M' (rc e' P).2) : ∀ (d n : Nat) (P : Fs3) (M : CM), d ≤ U → d < n → Rg U S P.1 → (∀ u, u < U → ¬ isn e u = 0 → ct u = true → 0 ≤ P.1 u) → KF D [] [] fdA [] M0 M → KR U S M P → cz P.2.1 U < f + 1 → ∃ M', KL_X0_find_2_90 cf n (nI e) (nI mode) (nI (U - d)) M = some ((if (fd2 U mode isn ct rc e d P).1 = true then .inr 1 else .inl ()), M') ∧ KF D [] [] fdA [] M M' ∧ KR U S M' (fd2 U mode isn ct rc e d P).2
  | 0, 0, _, _, _, hn, _, _, _, _, _ => absurd hn (Nat.lt_irrefl 0)
  | d + 1, 0, _, _, _, hn, _, _, _, _, _ => absurd hn (Nat.not_lt_zero _)
  | 0, n + 1, P, M, _, _, hR, hg, k0, r, hc => by
    obtain ⟨⟨h1, h2, -⟩, -⟩ := h0.mv k0
    refine ⟨M, ?_, KF.rf, r⟩
    unfold KL_X0_find_2_90 fd2
    rw [h1, ifT ((bI_le (by omega) (by omega)).mpr (by omega))]
    rfl
  | d + 1, n + 1, P, M, hd, hn, hR, hg, k0, r, hc => by
    have ih := fun P M => k_fd2 hS h0 he hro hrc d n P M (by omega) (by omega)
    have h := h0.mv k0
    obtain ⟨⟨h1, h2, h3, h4⟩, h5, h6⟩ := id h
    have nx : nI (U - (d + 1)) + 1 = nI (U - d) := by rw [nI_addL]; congr 1; show U - (d + 1) + 1 = _; omega
    have le : ¬ nI U ≤ nI (U - (d + 1)) := fun z => by have := (bI_le (by omega) (by omega)).mp z; omega
    obtain ⟨u, hu⟩ : ∃ u, u = ixm mode U (U - (d + 1)) := ⟨_, rfl⟩
    have uU : u < U := by rw [hu]; exact ixm_lt (by omega)
    have body : KL_X0_find_2_90 cf (n + 1) (nI e) (nI mode) (nI (U - (d + 1))) M = KJ_X0_find_2_115_90 cf (KL_X0_find_2_90 cf n) (nI e) (nI mode) (nI (U - (d + 1))) (nI u) M := by
      have q := ixK (mode := mode) (k := U - (d + 1)) (U := U) (by omega)
      rw [ifT h4, ← hu] at q
      conv => lhs; unfold KL_X0_find_2_90
      rw [h1, ifF le]
      by_cases z : nI mode = 1
      · rw [ifT ⟨z, h4⟩] at q
        rw [ifT z, q]
      · rw [ifF (fun y => z y.1)] at q
        rw [ifF z, q]
    rw [body]
    unfold fd2 KJ_X0_find_2_115_90
    rw [← hu, show (180 : Int32) * nI e + nI u = nI (180 * e + u) from by rw [show (180 : Int32) = nI 180 from rfl, nI_mul, bI_add], ifT (inb_nI' (by omega) (by decide)), ix_nI (n := 180 * e + u) (by omega), h5 e u he uU]
    by_cases z : isn e u = 0
    · rw [ifT z, ifT (Or.inl z), nx, nm_eq]; exact ih P M hR hg k0 r hc
    · rw [ifF z, h6 M KF.rf u uU, ob_some]
      by_cases z2 : ct u = true
      · have iu : inb (nI u) 180 := inb_nI' (by omega) (by decide)
        have xu : ix (nI u) = u := ix_nI (by omega)
        have e1 : nZ 1 = 1 := by decide
        rw [ifT z2, ifF (by decide), ifT iu, xu, ((r u).1 (by omega)).2]
        by_cases z3 : P.2.1 u = 0
        · rw [ifT z3, ifT iu, e1, nm_eq, ifT iu]
          obtain ⟨e', e2, e3⟩ := hR.nn uU (hg u uU z z2)
          have xe : ix (P.1 u) = e' := by rw [e3]; exact ix_nI (by omega)
          obtain ⟨M1, hM1⟩ : ∃ q, q = mwA M 138 u 1 := ⟨_, rfl⟩
          have k1 : KF D [] [] fdA [] M M1 := by rw [hM1]; exact KF.rf.wA rfl ⟨by decide, by decide⟩
          have r1 : KR U S M1 (P.1, sA P.2.1 u 1, P.2.2) := by rw [hM1]; exact r.see
          have g1 : mA M1 122 u = nI e' := by rw [((r1 u).1 uU).1]; exact e3
          have cs := cz_set (f := P.2.1) uU z3
          obtain ⟨M2, c1, c2, c3⟩ := hrc e' (P.1, sA P.2.1 u 1, P.2.2) M1 e2 hR (k0.tr k1) r1 (by show cz (sA P.2.1 u 1) U < f; omega)
          obtain ⟨o1, o2, o3, o4, o5⟩ := hro e' (P.1, sA P.2.1 u 1, P.2.2) e2 hR
          rw [← hM1, g1, c1, ob_some, xe]
          have nc : ¬ (isn e u = 0 ∨ ct u = false ∨ ¬ P.2.1 u = 0) := fun y => by
            rcases y with y | y | y
            · exact z y
            · rw [z2] at y; cases y
            · exact y z3
          rw [ifF nc]
          by_cases q : (rc e' (P.1, sA P.2.1 u 1, P.2.2)).1 = true
          · rw [ifT q]
            refine ⟨mwA M2 122 u (nI e), ?_, (k1.tr c2).wA rfl ⟨by decide, by decide⟩, c3.set⟩
            unfold bI
            rw [ifT q, ifF (by decide), ifT iu, nm_eq, ifT rfl]
          · have q' : (rc e' (P.1, sA P.2.1 u 1, P.2.2)).1 = false := by cases c : (rc e' (P.1, sA P.2.1 u 1, P.2.2)).1 with | true => exact absurd c q | false => rfl
            have g2 := o4 q'
            have mono := cz_mono (n := U) (f := sA P.2.1 u 1) (f' := (rc e' (P.1, sA P.2.1 u 1, P.2.2)).2.2.1) (fun j _ y => o2 j y)
            rw [ifF q]
            obtain ⟨M3, d1, d2, d3⟩ := ih (rc e' (P.1, sA P.2.1 u 1, P.2.2)).2 M2 o1 (by rw [g2]; exact hg) ((k0.tr k1).tr c2) c3 (by omega)
            refine ⟨M3, ?_, (k1.tr c2).tr d2, d3⟩
            unfold bI
            rw [ifF q, ifT rfl, nx, nm_eq]; exact d1
        · rw [ifF z3, ifT (Or.inr (Or.inr z3)), nx, nm_eq]; exact ih P M hR hg k0 r hc
      · have z2' : ct u = false := by cases c : ct u with | true => exact absurd c z2 | false => rfl
        rw [ifF z2, ifT rfl, ifT (Or.inr (Or.inl z2')), nx, nm_eq]; exact ih P M hR hg k0 r hc
/-- the component searches -/
theorem k_fd (hS : S ≤ 180) (h0 : KH D M0 U S mode isn ct) : ∀ (f e : Nat) (P : Fs3) (M : CM), e < S → Rg U S P.1 → KF D [] [] fdA [] M0 M → KR U S M P → cz P.2.1 U < f → ∃ M', KG_X0_find_2 f (nI e) (nI mode) M = some (bI (fd U mode isn ct f e P).1, M') ∧ KF D [] [] fdA [] M M' ∧ KR U S M' (fd U mode isn ct f e P).2
  | 0, _, _, _, _, _, _, _, hc => absurd hc (Nat.not_lt_zero _)
  | f + 1, e, P, M, he, hR, k0, r, hc => by
    have ih := k_fd hS h0 f
    have fu := fu2
    obtain ⟨M1, hM1⟩ : ∃ q, q = mwA M 139 e 1 := ⟨_, rfl⟩
    have k1 : KF D [] [] fdA [] M M1 := by rw [hM1]; exact KF.rf.wA rfl ⟨by decide, by decide⟩
    have r1 : KR U S M1 (P.1, P.2.1, sA P.2.2 e 1) := by rw [hM1]; exact r.eq
    have U180 := h0.1.2.1
    have ie : inb (nI e) 180 := inb_nI' (by omega) (by decide)
    have xe : ix (nI e) = e := ix_nI (by omega)
    have e1 : nZ 1 = 1 := by decide
    have l1 := k_fd1 (cf := KG_X0_find_2 f) (h0.mv (k0.tr k1)) he r1 U FU (Nat.le_refl _) (by omega)
    rw [Nat.sub_self] at l1
    have hd : KG_X0_find_2 (f + 1) (nI e) (nI mode) M = obS (KL_X0_find_2_9 (KG_X0_find_2 f) FU (nI e) (nI mode) 0 M1) (fun r56 M21 => some (r56, M21)) fun q20 M21 => obS (KL_X0_find_2_90 (KG_X0_find_2 f) FU (nI e) (nI mode) 0 M21) (fun r54 M51 => some (r54, M51)) fun q50 M51 => some (0, M51) := by
      show KB_X0_find_2 (KG_X0_find_2 f) (nI e) (nI mode) M = _
      unfold KB_X0_find_2
      rw [ifT ie, xe, e1, ← hM1, nm_eq]
    rw [hd]
    unfold fd
    have l1' : KL_X0_find_2_9 (KG_X0_find_2 f) FU (nI e) (nI mode) 0 M1 = _ := l1
    cases c : fd1 U mode isn ct e P.1 U with
    | some u =>
      have hu := (fd1_some U (Nat.le_refl _) c).1
      rw [show fd1 U mode isn ct e (P.1, P.2.1, sA P.2.2 e 1).1 U = some u from c] at l1'
      rw [l1']
      exact ⟨mwA M1 122 u (nI e), rfl, k1.wA rfl ⟨by decide, by decide⟩, r1.set⟩
    | none =>
      rw [show fd1 U mode isn ct e (P.1, P.2.1, sA P.2.2 e 1).1 U = none from c] at l1'
      rw [l1']
      obtain ⟨M2, d1, d2, d3⟩ := k_fd2 (f := f) hS h0 he (fun e P => fd_o hS f e P) (fun e' P M a b c d g => ih e' P M a b c d g) U FU (P.1, P.2.1, sA P.2.2 e 1) M1 (Nat.le_refl _) (by omega) hR (fun u hu => fd1_no c hu) (k0.tr k1) r1 hc
      rw [Nat.sub_self] at d1
      refine ⟨M2, ?_, k1.tr d2, d3⟩
      rw [obS_inl, show KL_X0_find_2_90 (KG_X0_find_2 f) FU (nI e) (nI mode) 0 M1 = _ from d1]
      by_cases q : (fd2 U mode isn ct (fd U mode isn ct f) e U (P.1, P.2.1, sA P.2.2 e 1)).1 = true
      · rw [ifT q, obS_inr]
        unfold bI
        rw [ifT q]
      · rw [ifF q, obS_inl]
        unfold bI
        rw [ifF q]
end FINDW
