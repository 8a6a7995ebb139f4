/-! Layer B: the index: what a round needs -/
set_option maxRecDepth 100000
section ROUND
variable {D D' : FQ} {M M' M1 : CM} {s s' : TS} {V E U U' S K N mode d e f n u k : Nat} {isn : Nat → Nat → Int32} {ct : Nat → Bool} {P : Fs3} {rc : Nat → Fs3 → Bool × Fs3} {Q : Nat → Prop}
/-- what is given is one of the equations that were, or the one searched for -/
def RgQ (U S : Nat) (Q : Nat → Prop) (g : Nat → Int32) : Prop := ∀ u x, u < U → x < S → g u = nI x → Q x
theorem RgQ.set {g : Nat → Int32} (hS : S ≤ 180) (h : RgQ U S Q g) (he : e < S) (q : Q e) : RgQ U S Q (sA g u (nI e)) := fun j x hj hx y => by
  by_cases z : j = u
  · rw [z, sA_eq] at y
    rw [show x = e from nIq y.symm (by omega) (by omega)]; exact q
  · rw [sA_ne g _ z] at y; exact h j x hj hx y
theorem fd2_q (hS : S ≤ 180) (he : e < S) (qe : Q e) (hro : ∀ e P, e < S → Rg U S P.1 → FdO U S P (rc e P)) (hrc : ∀ e P, e < S → Rg U S P.1 → Q e → RgQ U S Q P.1 → RgQ U S Q (rc e P).2.1) : ∀ (d : Nat) (P : Fs3), d ≤ U → Rg U S P.1 → RgQ U S Q P.1 → (∀ u, u < U → ¬ isn e u = 0 → ct u = true → 0 ≤ P.1 u) → RgQ U S Q (fd2 U mode isn ct rc e d P).2.1
  | 0, P, _, _, h, _ => h
  | d + 1, P, hd, hR, h, hg => by
    have ih := fd2_q hS he qe hro hrc d
    have hk : ixm mode U (U - (d + 1)) < U := ixm_lt (by omega)
    unfold fd2
    obtain ⟨u, hu⟩ : ∃ u, u = ixm mode U (U - (d + 1)) := ⟨_, rfl⟩
    rw [← hu] at hk ⊢
    by_cases z : isn e u = 0 ∨ ct u = false ∨ ¬ P.2.1 u = 0
    · rw [ifT z]; exact ih P (by omega) hR h hg
    · rw [ifF z]
      have c1 : ct u = true := ctT (fun y => z (Or.inr (Or.inl y)))
      obtain ⟨e', e1, e2⟩ := hR.nn hk (hg u hk (fun y => z (Or.inl y)) c1)
      have xe : ix (P.1 u) = e' := by rw [e2]; exact ix_nI (by omega)
      rw [xe]
      obtain ⟨r, hr⟩ : ∃ r, r = rc e' (P.1, sA P.2.1 u 1, P.2.2) := ⟨_, rfl⟩
      obtain ⟨o1, o2, o3, o4, o5⟩ := hro e' (P.1, sA P.2.1 u 1, P.2.2) e1 hR
      have q1 := hrc e' (P.1, sA P.2.1 u 1, P.2.2) e1 hR (h u e' hk e1 e2) h
      rw [← hr] at o1 o2 o3 o4 o5 q1 ⊢
      by_cases q : r.1 = true
      · rw [ifT q]; exact q1.set hS he qe
      · rw [ifF q]
        have q' : r.1 = false := by cases c : r.1 with | true => exact absurd c q | false => rfl
        have g1 : r.2.1 = P.1 := o4 q'
        exact ih r.2 (by omega) o1 q1 (by rw [g1]; exact hg)
theorem fd_q (hS : S ≤ 180) : ∀ (f e : Nat) (P : Fs3), e < S → Rg U S P.1 → Q e → RgQ U S Q P.1 → RgQ U S Q (fd U mode isn ct f e P).2.1
  | 0, _, _, _, _, _, h => h
  | f + 1, e, P, he, hR, qe, h => by
    have ih := fun e P => fd_q hS f e P
    unfold fd
    cases c : fd1 U mode isn ct e P.1 U with
    | some u => exact h.set hS he qe
    | none => exact fd2_q (mode := mode) (isn := isn) (ct := ct) hS he qe (fun e P => fd_o hS f e P) ih U (P.1, P.2.1, sA P.2.2 e 1) (Nat.le_refl _) hR h (fun u hu => fd1_no c hu)
/-- the same, of unknowns that count -/
def RgC (U S : Nat) (ct : Nat → Bool) (Q : Nat → Prop) (g : Nat → Int32) : Prop := ∀ u x, u < U → x < S → ct u = true → g u = nI x → Q x
theorem RgC.set {g : Nat → Int32} (hS : S ≤ 180) (h : RgC U S ct Q g) (he : e < S) (q : Q e) : RgC U S ct Q (sA g u (nI e)) := fun j x hj hx c y => by
  by_cases z : j = u
  · rw [z, sA_eq] at y
    rw [show x = e from nIq y.symm (by omega) (by omega)]; exact q
  · rw [sA_ne g _ z] at y; exact h j x hj hx c y
theorem fd2_qc (hS : S ≤ 180) (he : e < S) (qe : Q e) (hro : ∀ e P, e < S → Rg U S P.1 → FdO U S P (rc e P)) (hrc : ∀ e P, e < S → Rg U S P.1 → Q e → RgC U S ct Q P.1 → RgC U S ct Q (rc e P).2.1) : ∀ (d : Nat) (P : Fs3), d ≤ U → Rg U S P.1 → RgC U S ct Q P.1 → (∀ u, u < U → ¬ isn e u = 0 → ct u = true → 0 ≤ P.1 u) → RgC U S ct Q (fd2 U mode isn ct rc e d P).2.1
  | 0, P, _, _, h, _ => h
  | d + 1, P, hd, hR, h, hg => by
    have ih := fd2_qc hS he qe hro hrc d
    have hk : ixm mode U (U - (d + 1)) < U := ixm_lt (by omega)
    unfold fd2
    obtain ⟨u, hu⟩ : ∃ u, u = ixm mode U (U - (d + 1)) := ⟨_, rfl⟩
    rw [← hu] at hk ⊢
    by_cases z : isn e u = 0 ∨ ct u = false ∨ ¬ P.2.1 u = 0
    · rw [ifT z]; exact ih P (by omega) hR h hg
    · rw [ifF z]
      have c1 : ct u = true := ctT (fun y => z (Or.inr (Or.inl y)))
      obtain ⟨e', e1, e2⟩ := hR.nn hk (hg u hk (fun y => z (Or.inl y)) c1)
      have xe : ix (P.1 u) = e' := by rw [e2]; exact ix_nI (by omega)
      rw [xe]
      obtain ⟨r, hr⟩ : ∃ r, r = rc e' (P.1, sA P.2.1 u 1, P.2.2) := ⟨_, rfl⟩
      obtain ⟨o1, o2, o3, o4, o5⟩ := hro e' (P.1, sA P.2.1 u 1, P.2.2) e1 hR
      have q1 := hrc e' (P.1, sA P.2.1 u 1, P.2.2) e1 hR (h u e' hk e1 c1 e2) h
      rw [← hr] at o1 o2 o3 o4 o5 q1 ⊢
      by_cases q : r.1 = true
      · rw [ifT q]; exact q1.set hS he qe
      · rw [ifF q]
        have q' : r.1 = false := by cases c : r.1 with | true => exact absurd c q | false => rfl
        have g1 : r.2.1 = P.1 := o4 q'
        exact ih r.2 (by omega) o1 q1 (by rw [g1]; exact hg)
theorem fd_qc (hS : S ≤ 180) : ∀ (f e : Nat) (P : Fs3), e < S → Rg U S P.1 → Q e → RgC U S ct Q P.1 → RgC U S ct Q (fd U mode isn ct f e P).2.1
  | 0, _, _, _, _, _, h => h
  | f + 1, e, P, he, hR, qe, h => by
    have ih := fun e P => fd_qc hS f e P
    unfold fd
    cases c : fd1 U mode isn ct e P.1 U with
    | some u => exact h.set hS he qe
    | none => exact fd2_qc (mode := mode) (isn := isn) (ct := ct) hS he qe (fun e P => fd_o hS f e P) ih U (P.1, P.2.1, sA P.2.2 e 1) (Nat.le_refl _) hR h (fun u hu => fd1_no c hu)
theorem fd2_s (hS : S ≤ 180) (he : e < S) (hro : ∀ e P, e < S → Rg U S P.1 → FdO U S P (rc e P)) (hrs : ∀ e' P, e' < S → Rg U S P.1 → (rc e' P).1 = false → ∀ x, x < S → ¬ (rc e' P).2.2.2 x = 0 → ¬ P.2.2 x = 0 ∨ x = e' ∨ ∃ u, u < U ∧ ct u = true ∧ ¬ (rc e' P).2.2.1 u = 0 ∧ P.1 u = nI x) : ∀ (d : Nat) (P : Fs3), d ≤ U → Rg U S P.1 → (∀ u, u < U → ¬ isn e u = 0 → ct u = true → 0 ≤ P.1 u) → (fd2 U mode isn ct rc e d P).1 = false → ∀ x, x < S → ¬ (fd2 U mode isn ct rc e d P).2.2.2 x = 0 → ¬ P.2.2 x = 0 ∨ ∃ u, u < U ∧ ct u = true ∧ ¬ (fd2 U mode isn ct rc e d P).2.2.1 u = 0 ∧ P.1 u = nI x
  | 0, P, _, _, _, _, x, _, z => Or.inl z
  | d + 1, P, hd, hR, hg, hf, x, hx, w => by
    have ih := fd2_s hS he hro hrs d
    have hk : ixm mode U (U - (d + 1)) < U := ixm_lt (by omega)
    unfold fd2 at w hf ⊢
    obtain ⟨u, hu⟩ : ∃ u, u = ixm mode U (U - (d + 1)) := ⟨_, rfl⟩
    rw [← hu] at hk w hf ⊢
    by_cases z : isn e u = 0 ∨ ct u = false ∨ ¬ P.2.1 u = 0
    · rw [ifT z] at w hf ⊢; exact ih P (by omega) hR hg hf x hx w
    · rw [ifF z] at w hf ⊢
      have c1 : ct u = true := ctT (fun y => z (Or.inr (Or.inl y)))
      obtain ⟨e', e1, e2⟩ := hR.nn hk (hg u hk (fun y => z (Or.inl y)) c1)
      have xe : ix (P.1 u) = e' := by rw [e2]; exact ix_nI (by omega)
      rw [xe] at w hf ⊢
      have o := (hro e' (P.1, sA P.2.1 u 1, P.2.2) e1 hR)
      have m1 := hrs e' (P.1, sA P.2.1 u 1, P.2.2) e1 hR
      obtain ⟨r, hr⟩ : ∃ r, r = rc e' (P.1, sA P.2.1 u 1, P.2.2) := ⟨_, rfl⟩
      rw [← hr] at w o m1 hf ⊢
      by_cases q : r.1 = true
      · rw [ifT q] at hf; cases hf
      · rw [ifF q] at w hf ⊢
        have q' : r.1 = false := by cases c : r.1 with | true => exact absurd c q | false => rfl
        have g1 : r.2.1 = P.1 := o.2.2.2.1 q'
        have o2 := fd2_o (mode := mode) (isn := isn) (ct := ct) hS hro he d r.2 (by omega) o.1 (by rw [g1]; exact hg)
        have mu := o2.2.1
        rcases ih r.2 (by omega) o.1 (by rw [g1]; exact hg) hf x hx w with y | ⟨u1, y1, y2, y3, y4⟩
        · rcases m1 q' x hx y with y | y | ⟨u1, y1, y2, y3, y4⟩
          · exact Or.inl y
          · refine Or.inr ⟨u, hk, c1, mu u (o.2.1 u ?_), by rw [y]; exact e2⟩
            show ¬ sA P.2.1 u 1 u = 0
            rw [sA_eq]; decide
          · exact Or.inr ⟨u1, y1, y2, mu u1 y3, y4⟩
        · exact Or.inr ⟨u1, y1, y2, y3, by rw [← g1]; exact y4⟩
/-- a search that fails: what was seen was given to one that was seen, or is the one searched for -/
theorem fd_s (hS : S ≤ 180) : ∀ (f e : Nat) (P : Fs3), e < S → Rg U S P.1 → (fd U mode isn ct f e P).1 = false → ∀ x, x < S → ¬ (fd U mode isn ct f e P).2.2.2 x = 0 → ¬ P.2.2 x = 0 ∨ x = e ∨ ∃ u, u < U ∧ ct u = true ∧ ¬ (fd U mode isn ct f e P).2.2.1 u = 0 ∧ P.1 u = nI x
  | 0, _, _, _, _, _, x, _, z => Or.inl z
  | f + 1, e, P, he, hR, hf, x, hx, w => by
    have ih := fun e P => fd_s hS f e P
    have st : ¬ sA P.2.2 e 1 x = 0 → ¬ P.2.2 x = 0 ∨ x = e := fun y => by
      by_cases q : x = e
      · exact Or.inr q
      · rw [sA_ne _ _ q] at y; exact Or.inl y
    unfold fd at w hf ⊢
    cases c : fd1 U mode isn ct e P.1 U with
    | some u => rw [c] at hf; cases hf
    | none =>
      rw [c] at w hf
      rcases fd2_s (mode := mode) (isn := isn) (ct := ct) (e := e) hS he (fun e P => fd_o hS f e P) ih U (P.1, P.2.1, sA P.2.2 e 1) (Nat.le_refl _) hR (fun u hu => fd1_no c hu) hf x hx w with y | y
      · exact (st y).imp id Or.inl
      · exact Or.inr (Or.inr y)
/-- unknowns are made: an equation stays -/
theorem EqI.mu (h : EqI D M s V K N e) (g : SnK D M D' M' 134 K) (x : NdU s s' N U) (b : UX s U (ix (tA s 141 e)) ∧ UX s U (ix (tA s 142 e))) (h4 : tI s' 154 = tI s 154) (h7 : N ≤ 70000) (x6 : mX M' 126 e = mX M 126 e) (x7 : mX M' 127 e = mX M 127 e) (t1 : tA s' 141 e = tA s 141 e) (t2 : tA s' 142 e = tA s 142 e) (r : ∀ u, u < 180 → mA M' 132 (180 * e + u) = mA M 132 (180 * e + u)) (t : ∀ u, u < 180 → tA s' 202 (200 * e + u) = tA s 202 (200 * e + u)) : EqI D' M' s' V K N e ∧ UX s' U (ix (tA s' 141 e)) ∧ UX s' U (ix (tA s' 142 e)) := by
  obtain ⟨n1, n2, ⟨a1, a2, a3, a4⟩, ⟨b1, b2, b3, b4⟩, c⟩ := h
  obtain ⟨uw1, uw2⟩ := b
  have w1 := SxR.tw _ _ _ _ a2
  have w2 := SxR.tw _ _ _ _ b2
  have w1' := w1.nb
  have w2' := w2.nb
  rw [a1, ix_nI (by omega)] at uw1
  rw [b1, ix_nI (by omega)] at uw2
  have p1 := TwT.psu x h7 200 200 0 n1 (Nat.le_refl _) w1
  have p2 := TwT.psu x h7 200 200 0 n2 (Nat.le_refl _) w2
  have y1 := SxR.mu g x (Nat.le_refl _) (Nat.le_refl _) h7 _ _ _ _ a2 uw1.1
  have y2 := SxR.mu g x (Nat.le_refl _) (Nat.le_refl _) h7 _ _ _ _ b2 uw2.1
  refine ⟨⟨n1, n2, ⟨t1.trans a1, by rw [x6]; exact y1, by rw [p1.2]; exact a3, by rw [p1.1]; exact a4⟩, ⟨t2.trans b1, by rw [x7]; exact y2, by rw [p2.2]; exact b3, by rw [p2.1]; exact b4⟩, fun u hu => ?_⟩, ?_, ?_⟩
  · rw [OcU.ndu h7 x _ _ _ _ w1 uw1.1, OcU.ndu h7 x _ _ _ _ w2 uw2.1, r u hu, t u hu]
    exact c u hu
  · rw [t1, a1, ix_nI (by omega)]; exact uw1.mv h7 x h4 w1 (SxR.tw _ _ _ _ y1)
  · rw [t2, b1, ix_nI (by omega)]; exact uw2.mv h7 x h4 w2 (SxR.tw _ _ _ _ y2)
/-- a step that makes no node -/
theorem IdxR.up (h : IdxR V E U S K N D M s) (A : ArS 133 134 40000 D' M' K) (r69 : mR M' 69 1 = 133) (m65 : mI M' 65 1 = mI M 65 1) (sn : SnK D M D' M' 134 K) (x : NdU s s' N U) (uk : UkR V M' s' U') (hU : U ≤ U') (a : ∀ o j, (o = 128 ∨ o = 129 ∨ o = 130 ∨ o = 132) → mA M' o j = mA M o j) (m : ∀ o j, (o = 126 ∨ o = 127) → mX M' o j = mX M o j) (ti : ∀ k, k ∈ [0, 126, 129, 130, 143, 154] → tI s' k = tI s k) (tl : tL s' 203 = tL s 203) (t : ∀ k j, k ∈ [141, 142, 180, 194, 195, 202] → tA s' k j = tA s k j) : IdxR V E U' S K N D' M' s' := by
  obtain ⟨-, ⟨b1, b2, b3⟩, -, ⟨c1, c2, c3, c4⟩, eqs, dv, t0, ⟨z1, z2⟩, rb, uwE⟩ := h
  have h7 : N ≤ 70000 := by have := A.2.2.2.1.2.2; omega
  refine ⟨⟨A, r69⟩, ⟨m65.trans b1, (ti 143 (by decide)).trans b2, b3⟩, uk, ⟨(ti 126 (by decide)).trans c1, c2, c3, tl.trans c4⟩, fun e he => ?_, fun e he => ?_, (ti 0 (by decide)).trans t0, ⟨(ti 129 (by decide)).trans z1, (ti 130 (by decide)).trans z2⟩, fun e u he h1 h2 => ?_, fun e he z0 => ?_⟩
  · obtain ⟨p1, p2, p3⟩ := eqs e he
    rw [a 128 e (by omega), t 180 e (by decide)]
    refine ⟨p1, fun z => ((p2 z).mu sn x (uwE e he z) (ti 154 (by decide)) h7 (m _ _ (by omega)) (m _ _ (by omega)) (t _ _ (by decide)) (t _ _ (by decide)) (fun u hu => a _ _ (by omega)) (fun u hu => t _ _ (by decide))).1, fun z u hu => ?_⟩
    rw [a 132 _ (by omega), t 202 _ (by decide)]; exact p3 z u hu
  · rw [a 129 e (by omega), a 130 e (by omega), t 194 e (by decide), t 195 e (by decide)]; exact dv e he
  · rw [t 202 _ (by decide)]; exact rb e u he (by omega) h2
  · rw [t 180 e (by decide)] at z0
    obtain ⟨-, y1, y2⟩ := ((eqs e he).2.1 z0).mu sn x (uwE e he z0) (ti 154 (by decide)) h7 (m _ _ (by omega)) (m _ _ (by omega)) (t _ _ (by decide)) (t _ _ (by decide)) (fun u hu => a _ _ (by omega)) (fun u hu => t _ _ (by decide))
    exact ⟨y1.up hU, y2.up hU⟩
/-- rows of equations are alike -/
theorem IdxR.rw_ (h : IdxR V E U S K N D M s) (he : e < S) (hu : u < 180) : mA M 132 (180 * e + u) = tA s 202 (200 * e + u) := by
  obtain ⟨-, -, -, -, eqs, -⟩ := h
  obtain ⟨⟨-, p1⟩, p2, p3⟩ := eqs e he
  rcases p1 with z | z
  · obtain ⟨n1, n2, -, -, c⟩ := p2 z
    by_cases o : OcU s 200 n1 u ∨ OcU s 200 n2 u
    · rw [((c u hu).1 o).1, ((c u hu).1 o).2]
    · rw [((c u hu).2 o).1, ((c u hu).2 o).2]
  · rw [(p3 z u hu).1, (p3 z u hu).2]
end ROUND
