/-! Layer B: who is given to whom: what a search leaves -/
set_option maxRecDepth 100000
/-- seen unknowns are given to seen equations -/
def FdA (U S : Nat) (ct : Nat → Bool) (P : Fs3) : Prop := ∀ u, u < U → ¬ P.2.1 u = 0 → ct u = true ∧ ∃ e, e < S ∧ P.1 u = nI e ∧ ¬ P.2.2 e = 0
def FdD (U : Nat) (isn : Nat → Nat → Int32) (ct : Nat → Bool) (m : Nat → Int32) (e : Nat) : Prop := ∀ u, u < U → ¬ isn e u = 0 → ct u = true → ¬ m u = 0
/-- how many are given -/
def gvc (g : Nat → Int32) : Nat → Nat
  | 0 => 0
  | n + 1 => gvc g n + if 0 ≤ g n then 1 else 0
/-- no two are given to one equation -/
def Inj (U : Nat) (g : Nat → Int32) : Prop := ∀ u u', u < U → u' < U → u ≠ u' → 0 ≤ g u → g u ≠ g u'
def FdG (U e : Nat) (ct : Nat → Bool) (P : Fs3) (g' : Nat → Int32) : Prop :=
  (∀ u, u < U → ¬ P.2.1 u = 0 → g' u = P.1 u) ∧
  (∀ u u', u < U → u' < U → u ≠ u' → P.2.1 u = 0 → P.2.1 u' = 0 → 0 ≤ g' u → g' u ≠ g' u') ∧
  (∀ u u', u < U → u' < U → ¬ P.2.1 u = 0 → P.2.1 u' = 0 → g' u = g' u' → g' u = nI e) ∧
  (∀ u, u < U → P.2.1 u = 0 → 0 ≤ g' u → g' u = nI e ∨ ∃ u1, u1 < U ∧ P.2.1 u1 = 0 ∧ P.1 u1 = g' u) ∧
  (∃ u, u < U ∧ P.2.1 u = 0 ∧ g' u = nI e) ∧ (∀ u, u < U → 0 ≤ P.1 u → 0 ≤ g' u) ∧ (∀ u, u < U → 0 ≤ g' u → 0 ≤ P.1 u ∨ ct u = true) ∧ gvc g' U = gvc P.1 U + 1
section FINDL
variable {U mode S d e f n u k : Nat} {isn : Nat → Nat → Int32} {ct : Nat → Bool} {g g' : Nat → Int32} {P P' : Fs3} {rc : Nat → Fs3 → Bool × Fs3} {v : Int32}
theorem ctT (h : ¬ ct u = false) : ct u = true := by cases c : ct u with | true => rfl | false => exact absurd c h
theorem fd2_cl (hS : S ≤ 180) (he : e < S) (hro : ∀ e P, e < S → Rg U S P.1 → FdO U S P (rc e P)) (hrc : ∀ e' P, e' < S → Rg U S P.1 → (∀ u, u < U → ¬ P.2.1 u = 0 → ct u = true ∧ ∃ x, x < S ∧ P.1 u = nI x ∧ (¬ P.2.2 x = 0 ∨ x = e')) → cz P.2.1 U < f → (rc e' P).1 = false → FdA U S ct (rc e' P).2 ∧ (∀ x, x < S → ¬ (rc e' P).2.2.2 x = 0 → ¬ P.2.2 x = 0 ∨ FdD U isn ct (rc e' P).2.2.1 x) ∧ ¬ (rc e' P).2.2.2 e' = 0) : ∀ (d : Nat) (P : Fs3), d ≤ U → Rg U S P.1 → (∀ u, u < U → ¬ isn e u = 0 → ct u = true → 0 ≤ P.1 u) → FdA U S ct P → cz P.2.1 U < f + 1 → (fd2 U mode isn ct rc e d P).1 = false → FdA U S ct (fd2 U mode isn ct rc e d P).2 ∧ (∀ x, x < S → ¬ (fd2 U mode isn ct rc e d P).2.2.2 x = 0 → ¬ P.2.2 x = 0 ∨ FdD U isn ct (fd2 U mode isn ct rc e d P).2.2.1 x) ∧ ∀ k, U - d ≤ k → k < U → isn e (ixm mode U k) = 0 ∨ ct (ixm mode U k) = false ∨ ¬ (fd2 U mode isn ct rc e d P).2.2.1 (ixm mode U k) = 0
  | 0, P, _, hR, hg, a, hc, _ => ⟨a, fun _ _ z => Or.inl z, fun k h1 h2 => by omega⟩
  | d + 1, P, hd, hR, hg, a, hc, hf => by
    have ih := fd2_cl hS he hro hrc d
    have hk : ixm mode U (U - (d + 1)) < U := ixm_lt (by omega)
    unfold fd2 at hf ⊢
    obtain ⟨u, hu⟩ : ∃ u, u = ixm mode U (U - (d + 1)) := ⟨_, rfl⟩
    rw [← hu] at hk hf ⊢
    by_cases z : isn e u = 0 ∨ ct u = false ∨ ¬ P.2.1 u = 0
    · rw [ifT z] at hf ⊢
      obtain ⟨i1, i2, i3⟩ := ih P (by omega) hR hg a hc hf
      refine ⟨i1, i2, fun k h1 h2 => ?_⟩
      by_cases y : k = U - (d + 1)
      · subst y
        rw [← hu]
        have mono := (fd2_o (mode := mode) (isn := isn) (ct := ct) hS hro he d P (by omega) hR hg).2.1
        rcases z with z | z | z
        · exact Or.inl z
        · exact Or.inr (Or.inl z)
        · exact Or.inr (Or.inr (mono u z))
      · exact i3 k (by omega) h2
    · rw [ifF z] at hf ⊢
      have c1 : ct u = true := ctT (fun y => z (Or.inr (Or.inl y)))
      have m0 : P.2.1 u = 0 := Classical.byContradiction (fun y => z (Or.inr (Or.inr y)))
      obtain ⟨e', e1, e2⟩ := hR.nn hk (hg u hk (fun y => z (Or.inl y)) c1)
      have xe : ix (P.1 u) = e' := by rw [e2]; exact ix_nI (by omega)
      rw [xe] at hf ⊢
      obtain ⟨r, hr⟩ : ∃ r, r = rc e' (P.1, sA P.2.1 u 1, P.2.2) := ⟨_, rfl⟩
      obtain ⟨o1, o2, o3, o4, o5⟩ := hro e' (P.1, sA P.2.1 u 1, P.2.2) e1 hR
      have cl := hrc e' (P.1, sA P.2.1 u 1, P.2.2) e1 hR (fun j hj y => by
        by_cases q : j = u
        · subst q; exact ⟨c1, e', e1, e2, Or.inr rfl⟩
        · have y : ¬ P.2.1 j = 0 := by
            have : sA P.2.1 u 1 j = P.2.1 j := sA_ne _ _ q
            rw [← this]; exact y
          obtain ⟨b1, x, b2, b3, b4⟩ := a j hj y
          exact ⟨b1, x, b2, b3, Or.inl b4⟩) (by
        have := cz_set (f := P.2.1) hk m0
        show cz (sA P.2.1 u 1) U < f
        omega)
      rw [← hr] at hf o1 o2 o3 o4 o5 cl ⊢
      by_cases q : r.1 = true
      · rw [ifT q] at hf; cases hf
      · rw [ifF q] at hf ⊢
        have q' : r.1 = false := by cases c : r.1 with | true => exact absurd c q | false => rfl
        obtain ⟨l1, l2, l3⟩ := cl q'
        have g1 : r.2.1 = P.1 := o4 q'
        have mono := cz_mono (n := U) (f := sA P.2.1 u 1) (f' := r.2.2.1) (fun j _ y => o2 j y)
        have cs := cz_set (f := P.2.1) hk m0
        have hg' : ∀ u, u < U → ¬ isn e u = 0 → ct u = true → 0 ≤ r.2.1 u := by rw [g1]; exact hg
        obtain ⟨i1, i2, i3⟩ := ih r.2 (by omega) o1 hg' l1 (by omega) hf
        have mo2 := (fd2_o (mode := mode) (isn := isn) (ct := ct) hS hro he d r.2 (by omega) o1 hg').2.1
        refine ⟨i1, fun x hx y => ?_, fun k h1 h2 => ?_⟩
        · rcases i2 x hx y with t | t
          · rcases l2 x hx t with t | t
            · exact Or.inl t
            · exact Or.inr (fun j hj w1 w2 => mo2 j (t j hj w1 w2))
          · exact Or.inr t
        · by_cases y : k = U - (d + 1)
          · subst y
            rw [← hu]
            refine Or.inr (Or.inr (mo2 u (o2 u ?_)))
            show ¬ sA P.2.1 u 1 u = 0
            rw [sA_eq]; decide
          · exact i3 k (by omega) h2
/-- a search that fails has seen all there is -/
theorem fd_cl (hS : S ≤ 180) : ∀ (f e : Nat) (P : Fs3), e < S → Rg U S P.1 → (∀ u, u < U → ¬ P.2.1 u = 0 → ct u = true ∧ ∃ x, x < S ∧ P.1 u = nI x ∧ (¬ P.2.2 x = 0 ∨ x = e)) → cz P.2.1 U < f → (fd U mode isn ct f e P).1 = false → FdA U S ct (fd U mode isn ct f e P).2 ∧ (∀ x, x < S → ¬ (fd U mode isn ct f e P).2.2.2 x = 0 → ¬ P.2.2 x = 0 ∨ FdD U isn ct (fd U mode isn ct f e P).2.2.1 x) ∧ ¬ (fd U mode isn ct f e P).2.2.2 e = 0
  | 0, _, _, _, _, _, hc, _ => absurd hc (Nat.not_lt_zero _)
  | f + 1, e, P, he, hR, a, hc, hf => by
    have ih := fd_cl hS f
    unfold fd at hf ⊢
    cases c : fd1 U mode isn ct e P.1 U with
    | some u => rw [c] at hf; cases hf
    | none =>
      rw [c] at hf
      have hg := fun u hu => fd1_no (u := u) c hu
      have a1 : FdA U S ct (P.1, P.2.1, sA P.2.2 e 1) := fun u hu y => by
        obtain ⟨b1, x, b2, b3, b4⟩ := a u hu y
        refine ⟨b1, x, b2, b3, ?_⟩
        show ¬ sA P.2.2 e 1 x = 0
        by_cases q : x = e
        · rw [q, sA_eq]; decide
        · rw [sA_ne _ _ q]; exact b4.resolve_right q
      obtain ⟨i1, i2, i3⟩ := fd2_cl (f := f) (mode := mode) hS he (fun e P => fd_o hS f e P) ih U (P.1, P.2.1, sA P.2.2 e 1) (Nat.le_refl _) hR hg a1 hc hf
      have mo := (fd2_o (mode := mode) (isn := isn) (ct := ct) hS (fun e P => fd_o (U := U) (mode := mode) (isn := isn) (ct := ct) hS f e P) he U (P.1, P.2.1, sA P.2.2 e 1) (Nat.le_refl _) hR hg).2.2.1
      refine ⟨i1, fun x hx y => ?_, mo e (by show ¬ sA P.2.2 e 1 e = 0; rw [sA_eq]; decide)⟩
      by_cases q : x = e
      · subst q
        refine Or.inr (fun u hu w1 w2 => ?_)
        obtain ⟨k, k1, k2⟩ := ixm_ex (mode := mode) hu
        rcases i3 k (by omega) k1 with t | t | t
        · rw [k2] at t; exact absurd t w1
        · rw [k2, w2] at t; cases t
        · rw [k2] at t; exact t
      · rcases i2 x hx y with t | t
        · left
          have : sA P.2.2 e 1 x = P.2.2 x := sA_ne _ _ q
          rw [← this]; exact t
        · exact Or.inr t
theorem gvc_eq (h : ∀ u, u < n → (0 ≤ g u ↔ 0 ≤ g' u)) : gvc g n = gvc g' n := by
  induction n with
  | zero => rfl
  | succ n ih =>
    unfold gvc
    rw [ih (fun u hu => h u (by omega))]
    by_cases z : 0 ≤ g n
    · rw [ifT z, ifT ((h n (by omega)).mp z)]
    · rw [ifF z, ifF (fun y => z ((h n (by omega)).mpr y))]
theorem gvc_new (hu : u < n) (h0 : ¬ 0 ≤ g u) (hv : 0 ≤ v) : gvc (sA g u v) n = gvc g n + 1 := by
  induction n with
  | zero => omega
  | succ n ih =>
    unfold gvc
    by_cases z : n = u
    · subst z
      have : gvc (sA g n v) n = gvc g n := gvc_eq (fun j hj => by rw [sA_ne _ _ (by omega)])
      rw [sA_eq, ifT hv, ifF h0, this]
    · rw [sA_ne _ _ z, ih (by omega)]; omega
theorem nn_nI (h : e < 1000) : (0 : Int32) ≤ nI e := (bI_le (a := 0) (by decide) (by omega)).mpr (Nat.zero_le _)
/-- the first free one is taken -/
theorem FdG.one (hR : Rg U S P.1) (he : e < 1000) (hi : Inj U P.1) (hp : ∀ u, u < U → P.1 u = nI e → ¬ P.2.1 u = 0) (hm : ∀ u, u < U → ¬ P.2.1 u = 0 → 0 ≤ P.1 u) (hu : u < U) (h0 : ¬ 0 ≤ P.1 u) (hc : ct u = true) : FdG U e ct P (sA P.1 u (nI e)) := by
  have mu : P.2.1 u = 0 := Classical.byContradiction (fun y => h0 (hm u hu y))
  have ne : ∀ {j}, j ≠ u → sA P.1 u (nI e) j = P.1 j := fun h => sA_ne _ _ h
  refine ⟨fun j hj y => ne (fun q => y (by rw [q]; exact mu)), fun i j hi' hj hne mi mj h1 => ?_, fun i j hi' hj mi mj h1 => ?_, fun j hj mj h1 => ?_, ⟨u, hu, mu, sA_eq _ _ _⟩, fun j hj h1 => ?_, fun j hj h1 => ?_, gvc_new hu h0 (nn_nI he)⟩
  · by_cases y : i = u
    · subst y
      rw [sA_eq, ne (fun q => hne q.symm)]
      intro q
      exact absurd mj (hp j hj q.symm)
    · by_cases y2 : j = u
      · subst y2
        rw [sA_eq, ne y]
        intro q
        exact absurd mi (hp i hi' q)
      · rw [ne y] at h1 ⊢
        rw [ne y2]
        exact hi i j hi' hj hne h1
  · have iu : i ≠ u := fun q => mi (by rw [q]; exact mu)
    by_cases y2 : j = u
    · subst y2; rw [h1, sA_eq]
    · rw [ne iu, ne y2] at h1
      exact absurd h1 (hi i j hi' hj (fun q => mi (by rw [q]; exact mj)) (hm i hi' mi))
  · by_cases y : j = u
    · left; rw [y, sA_eq]
    · right; exact ⟨j, hj, mj, (ne y).symm⟩
  · by_cases y : j = u
    · rw [y, sA_eq]; exact nn_nI he
    · rw [ne y]; exact h1
  · by_cases y : j = u
    · right; rw [y]; exact hc
    · left; rw [ne y] at h1; exact h1
/-- from the one seen next -/
theorem FdG.two {e' : Nat} {M : Nat → Int32} {q : Nat → Int32} (he : e < 1000) (he' : e' < 1000) (hi : Inj U P.1) (hp : ∀ j, j < U → P.1 j = nI e → ¬ P.2.1 j = 0) (hm : ∀ j, j < U → ¬ P.2.1 j = 0 → 0 ≤ P.1 j) (hM : ∀ j, ¬ P.2.1 j = 0 → ¬ M j = 0) (hM2 : ∀ j, j < U → ¬ M j = 0 → 0 ≤ P.1 j) (hu : u < U) (m0 : P.2.1 u = 0) (mu : M u = 0) (g0 : P.1 u = nI e') (h : FdG U e' ct (P.1, sA M u 1, q) g') : FdG U e ct P (sA g' u (nI e)) := by
  obtain ⟨h1, h2, h3, h4, h5, h6, h7, h8⟩ := h
  have ne : ∀ {j}, j ≠ u → sA g' u (nI e) j = g' j := fun h => sA_ne _ _ h
  have mk : ∀ j, ¬ M j = 0 → ¬ sA M u 1 j = 0 := fun j y => by
    by_cases t : j = u
    · rw [t, sA_eq]; decide
    · rw [sA_ne _ _ t]; exact y
  have mk2 : ∀ j, j ≠ u → ¬ sA M u 1 j = 0 → ¬ M j = 0 := fun j t y => by rw [sA_ne _ _ t] at y; exact y
  have mu1 : ¬ sA M u 1 u = 0 := by rw [sA_eq]; decide
  have eu : g' u = nI e' := (h1 u hu mu1).trans g0
  have nn := nn_nI he'
  -- no other is given to e
  have noE : ∀ j, j < U → j ≠ u → P.2.1 j = 0 → g' j ≠ nI e := fun j hj t mj y => by
    by_cases w : sA M u 1 j = 0
    · rcases h4 j hj w (by rw [y]; exact nn_nI he) with z | ⟨u1, z1, z2, z3⟩
      · rw [y] at z
        exact absurd m0 (hp u hu (g0.trans z.symm))
      · have : ¬ P.2.1 u1 = 0 := hp u1 z1 (z3.trans y)
        exact mk u1 (hM u1 this) z2
    · have := h1 j hj w
      exact absurd mj (hp j hj (this.symm.trans y))
  refine ⟨fun j hj y => ?_, fun i j hi' hj hne mi mj t => ?_, fun i j hi' hj mi mj t => ?_, fun j hj mj t => ?_, ⟨u, hu, m0, sA_eq _ _ _⟩, fun j hj t => ?_, fun j hj t => ?_, ?_⟩
  · have t : j ≠ u := fun q => y (by rw [q]; exact m0)
    rw [ne t]; exact h1 j hj (mk j (hM j y))
  · by_cases y : i = u
    · subst y
      rw [sA_eq, ne (fun q => hne q.symm)]
      exact fun z => noE j hj (fun q => hne q.symm) mj z.symm
    · by_cases y2 : j = u
      · subst y2
        rw [sA_eq, ne y]
        exact noE i hi' y mi
      · rw [ne y] at t ⊢
        rw [ne y2]
        by_cases wi : sA M u 1 i = 0
        · by_cases wj : sA M u 1 j = 0
          · exact h2 i j hi' hj hne wi wj t
          · intro z
            have := h3 j i hj hi' wj wi z.symm
            have gj := h1 j hj wj
            have gj : g' j = P.1 j := gj
            have : P.1 j = P.1 u := by rw [← gj, this, g0]
            exact hi j u hj hu y2 (hM2 j hj (mk2 j y2 wj)) this
        · by_cases wj : sA M u 1 j = 0
          · intro z
            have := h3 i j hi' hj wi wj z
            have gi : g' i = P.1 i := h1 i hi' wi
            have : P.1 i = P.1 u := by rw [← gi, this, g0]
            exact hi i u hi' hu y (hM2 i hi' (mk2 i y wi)) this
          · have gi : g' i = P.1 i := h1 i hi' wi
            have gj : g' j = P.1 j := h1 j hj wj
            rw [gi, gj]
            exact hi i j hi' hj hne (by rw [← gi]; exact t)
  · have iu : i ≠ u := fun q => mi (by rw [q]; exact m0)
    have wi := mk i (hM i mi)
    have gi : g' i = P.1 i := h1 i hi' wi
    by_cases y2 : j = u
    · subst y2; rw [t, sA_eq]
    · rw [ne iu, ne y2] at t
      exfalso
      by_cases wj : sA M u 1 j = 0
      · have z := h3 i j hi' hj wi wj t
        have : P.1 i = P.1 u := by rw [← gi, z, g0]
        exact hi i u hi' hu iu (hm i hi' mi) this
      · have gj : g' j = P.1 j := h1 j hj wj
        exact hi i j hi' hj (fun q => mi (by rw [q]; exact mj)) (hm i hi' mi) (by rw [← gi, ← gj]; exact t)
  · by_cases y : j = u
    · left; rw [y, sA_eq]
    · right
      rw [ne y] at t ⊢
      by_cases wj : sA M u 1 j = 0
      · rcases h4 j hj wj t with z | ⟨u1, z1, z2, z3⟩
        · exact ⟨u, hu, m0, by rw [z]; exact g0⟩
        · have : P.2.1 u1 = 0 := Classical.byContradiction (fun w => mk u1 (hM u1 w) z2)
          exact ⟨u1, z1, this, z3⟩
      · exact ⟨j, hj, mj, (h1 j hj wj).symm⟩
  · by_cases y : j = u
    · rw [y, sA_eq]; exact nn_nI he
    · rw [ne y]; exact h6 j hj t
  · by_cases y : j = u
    · left; rw [y, g0]; exact nn
    · rw [ne y] at t; exact h7 j hj t
  · rw [← h8]
    refine gvc_eq (fun j hj => ?_)
    by_cases y : j = u
    · rw [y, sA_eq, eu]; exact ⟨fun _ => nn, fun _ => nn_nI he⟩
    · rw [ne y]
theorem fd2_ok (hS : S ≤ 180) (he : e < S) (hro : ∀ e P, e < S → Rg U S P.1 → FdO U S P (rc e P)) (hrc : ∀ e' P, e' < S → Rg U S P.1 → Inj U P.1 → (∀ u, u < U → P.1 u = nI e' → ¬ P.2.1 u = 0) → (∀ u, u < U → ¬ P.2.1 u = 0 → 0 ≤ P.1 u) → (rc e' P).1 = true → FdG U e' ct P (rc e' P).2.1) (Q : Fs3) (hR : Rg U S Q.1) (hi : Inj U Q.1) (hp : ∀ u, u < U → Q.1 u = nI e → ¬ Q.2.1 u = 0) (hm : ∀ u, u < U → ¬ Q.2.1 u = 0 → 0 ≤ Q.1 u) (hg : ∀ u, u < U → ¬ isn e u = 0 → ct u = true → 0 ≤ Q.1 u) : ∀ (d : Nat) (P : Fs3), d ≤ U → P.1 = Q.1 → (∀ j, ¬ Q.2.1 j = 0 → ¬ P.2.1 j = 0) → (∀ j, j < U → ¬ P.2.1 j = 0 → 0 ≤ Q.1 j) → (fd2 U mode isn ct rc e d P).1 = true → FdG U e ct Q (fd2 U mode isn ct rc e d P).2.1
  | 0, P, _, _, _, _, hf => by cases hf
  | d + 1, P, hd, eg, hM, hM2, hf => by
    have ih := fd2_ok hS he hro hrc Q hR hi hp hm hg d
    have hk : ixm mode U (U - (d + 1)) < U := ixm_lt (by omega)
    unfold fd2 at hf ⊢
    obtain ⟨u, hu⟩ : ∃ u, u = ixm mode U (U - (d + 1)) := ⟨_, rfl⟩
    rw [← hu] at hk hf ⊢
    by_cases z : isn e u = 0 ∨ ct u = false ∨ ¬ P.2.1 u = 0
    · rw [ifT z] at hf ⊢
      exact ih P (by omega) eg hM hM2 hf
    · rw [ifF z] at hf ⊢
      have c1 : ct u = true := ctT (fun y => z (Or.inr (Or.inl y)))
      have m0 : P.2.1 u = 0 := Classical.byContradiction (fun y => z (Or.inr (Or.inr y)))
      have mQ : Q.2.1 u = 0 := Classical.byContradiction (fun y => hM u y m0)
      have gu := hg u hk (fun y => z (Or.inl y)) c1
      obtain ⟨e', e1, e2⟩ := hR.nn hk gu
      have xe : ix (P.1 u) = e' := by rw [eg, e2]; exact ix_nI (by omega)
      rw [xe, eg] at hf ⊢
      obtain ⟨r, hr⟩ : ∃ r, r = rc e' (Q.1, sA P.2.1 u 1, P.2.2) := ⟨_, rfl⟩
      obtain ⟨o1, o2, o3, o4, o5⟩ := hro e' (Q.1, sA P.2.1 u 1, P.2.2) e1 hR
      have mk2 : ∀ j, j ≠ u → ¬ sA P.2.1 u 1 j = 0 → ¬ P.2.1 j = 0 := fun j t y => by rw [sA_ne _ _ t] at y; exact y
      have ok := hrc e' (Q.1, sA P.2.1 u 1, P.2.2) e1 hR hi (fun j hj y => by
        have : j = u := Classical.byContradiction (fun t => hi j u hj hk t (by rw [show Q.1 j = nI e' from y]; exact nn_nI (by omega)) ((show Q.1 j = nI e' from y).trans e2.symm))
        subst this
        show ¬ sA P.2.1 j 1 j = 0
        rw [sA_eq]; decide) (fun j hj y => by
        by_cases t : j = u
        · subst t; exact gu
        · exact hM2 j hj (mk2 j t y))
      rw [← hr] at hf o1 o2 o3 o4 o5 ok ⊢
      by_cases q : r.1 = true
      · rw [ifT q]
        exact FdG.two (q := P.2.2) (M := P.2.1) (by omega) (by omega) hi hp hm hM hM2 hk mQ m0 e2 (ok q)
      · rw [ifF q] at hf ⊢
        have q' : r.1 = false := by cases c : r.1 with | true => exact absurd c q | false => rfl
        have g1 : r.2.1 = Q.1 := o4 q'
        refine ih r.2 (by omega) g1 (fun j y => o2 j ?_) (fun j hj y => ?_) hf
        · show ¬ sA P.2.1 u 1 j = 0
          by_cases t : j = u
          · rw [t, sA_eq]; decide
          · rw [sA_ne _ _ t]; exact hM j y
        · by_cases t : j = u
          · subst t; exact gu
          · rcases o5 j hj y with w | w
            · exact hM2 j hj (mk2 j t w)
            · exact w
/-- a search that finds gives one more -/
theorem fd_ok (hS : S ≤ 180) : ∀ (f e : Nat) (P : Fs3), e < S → Rg U S P.1 → Inj U P.1 → (∀ u, u < U → P.1 u = nI e → ¬ P.2.1 u = 0) → (∀ u, u < U → ¬ P.2.1 u = 0 → 0 ≤ P.1 u) → (fd U mode isn ct f e P).1 = true → FdG U e ct P (fd U mode isn ct f e P).2.1
  | 0, _, _, _, _, _, _, _, hf => by cases hf
  | f + 1, e, P, he, hR, hi, hp, hm, hf => by
    have ih := fd_ok hS f
    unfold fd at hf ⊢
    cases c : fd1 U mode isn ct e P.1 U with
    | some u =>
      obtain ⟨u1, u2, u3, u4⟩ := fd1_some U (Nat.le_refl _) c
      exact FdG.one hR (by omega) hi hp hm u1 u4 u3
    | none =>
      rw [c] at hf
      exact fd2_ok (mode := mode) (isn := isn) hS he (fun e P => fd_o hS f e P) ih (P.1, P.2.1, P.2.2) hR hi hp hm (fun u hu => fd1_no c hu) U (P.1, P.2.1, sA P.2.2 e 1) (Nat.le_refl _) rfl (fun _ y => y) hm hf
end FINDL
