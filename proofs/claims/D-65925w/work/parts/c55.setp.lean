/-! Layer B: set: parameters and starts are worked out again -/
set_option maxRecDepth 100000
abbrev seI : List Nat := [33, 3212, 3213, 3215, 3216]
abbrev seT : List Nat := [104, 105, 160, 161, 170, 171]
/-- while set works: since M0, σ0 -/
def SeS (D : FQ) (V : Nat) (M0 : CM) (σ0 : TS) (M : CM) (σ : TS) : Prop := (KF D seI [] [] [] M0 M ∧ Ft seT σ0 σ) ∧ (tI σ 0 = 0 ∧ tI σ 171 = nI 0) ∧ (mI M 33 1 = nI 0 ∧ tI σ 161 = nI 0) ∧ ∀ v, v < V → tA σ 94 v = 1 → Fl1 D M σ v
/-- a fault meanwhile -/
def SeF (D : FQ) (M0 : CM) (σ0 : TS) (M' : CM) (σ' : TS) (w : Nat) : Prop := ∃ M1 r, r ≠ 0 ∧ KF D seI [] [] [] M0 M1 ∧ M' = wM M1 r 0 ∧ w = mn M1 ∧ tI σ' 0 = r ∧ tI σ' 1 = 0 ∧ tI σ' 171 = nI 0 ∧ Ft ([0, 1] ++ seT) σ0 σ'
/-- where it works -/
def SeB (C : PC) (B : Nat) (P : Nat → Prop) (mss fss : List Nat) (D : FQ) (V K N : Nat) (M0 : CM) (σ0 : TS) : Prop := FW C B P mss fss D M0 σ0 ∧ (V ≤ (pl D 98).length ∧ V ≤ 96) ∧ (K ≤ (pl D 106).length ∧ N ≤ 70000) ∧ (∀ v, v < V → Vx1 D M0 σ0 V K N v ∧ Vs1 D M0 σ0 V K N v ∧ ∃ k, k < 3 ∧ mI M0 3203 ((pl D 98).getD v 0) = nI k ∧ tA σ0 94 v = nI k) ∧ mI M0 15 1 = nI V ∧ tI σ0 107 = nI V
section SETP
variable {C : PC} {B : Nat} {P : Nat → Prop} {mss fss : List Nat} {D : FQ} {V K N v k w : Nat} {M M' M0 : CM} {σ σ' σ0 : TS} {x1 x3 y : Int32} {t : Nat → Int32}
theorem SeS.at_ (b : SeB C B P mss fss D V K N M0 σ0) (h : SeS D V M0 σ0 M σ) : SeB C B P mss fss D V K N M σ := by
  obtain ⟨W, hV, hl, hx, h15, h107⟩ := b
  obtain ⟨⟨kf, f⟩, -⟩ := h
  have W' := (W.kf kf rfl rfl rfl f (by decide)).1
  have nk : NdK D M0 σ0 D M σ 106 K N := ⟨fun j _ => ⟨rfl, fun f hf => kf.i (by
    have : ∀ f, f ∈ [3400, 3401, 3402, 3403, 3404] → seI.contains f = false := by decide
    exact this f hf) _, fun f _ => kf.r rfl _⟩, fun g hg n _ => (f g (by
    have : ∀ f, f ∈ [121, 122, 123, 124, 134, 162] → seT.contains f = false := by decide
    exact this g hg)).2.2.1 n, fun v => (f 94 rfl).2.2.1 v⟩
  refine ⟨W', hV, hl, fun v hv => ?_, by rw [kf.i rfl]; exact h15, by rw [(f 107 rfl).1]; exact h107⟩
  obtain ⟨a1, a2, k, a3, a4, a5⟩ := hx v hv
  exact ⟨a1.mv nk (Nat.le_refl _) (Nat.le_refl _) (kf.r rfl _) ((f 158 rfl).2.2.1 v), a2.mv nk (Nat.le_refl _) (Nat.le_refl _) (kf.r rfl _) ((f 159 rfl).2.2.1 v), k, a3, by rw [kf.i rfl]; exact a4, by rw [(f 94 rfl).2.2.1]; exact a5⟩
theorem SeS.prq (h : SeS D V M0 σ0 M σ) : PrQ (fun v => tA σ 94 v = 1) D V M σ 0 0 (fun _ => 0) M σ := ⟨⟨KF.rf, Ft.rf _ _⟩, ⟨h.2.1.1, h.2.1.2, fun j hj => absurd hj (Nat.not_lt_zero _)⟩, h.2.2.1, h.2.2.2⟩
theorem SeS.of (h : SeS D V M0 σ0 M σ) (g : PrQ (fun v => tA σ 94 v = 1) D V M σ 0 0 t M' σ') : SeS D V M0 σ0 M' σ' := by
  obtain ⟨⟨k, f⟩, ⟨i1, i2, -⟩, i4, i6⟩ := g
  exact ⟨⟨h.1.1.tr (k.mono (by decide) rfl rfl rfl), h.1.2.tr (f.mono (by decide))⟩, ⟨i1, i2⟩, i4, fun v hv z => i6 v hv (by rw [← (f 94 rfl).2.2.1]; exact z)⟩
theorem SeS.flt (h : SeS D V M0 σ0 M σ) (g : PrC D M σ 0 t M' σ' w) : SeF D M0 σ0 M' σ' w := by
  obtain ⟨⟨M1, r, r1, r2, r3, r4, r5, r6⟩, i2, f⟩ := g
  exact ⟨M1, r, r1, h.1.1.tr (r2.mono (by decide) rfl rfl rfl), r3, r4, r5, r6, i2, (h.1.2.mono (by decide)).tr (f.mono (by decide))⟩
theorem SeF.ne (h : SeF D M0 σ0 M' σ' w) : tI σ' 0 ≠ 0 := by
  obtain ⟨M1, r, r1, -, -, -, r5, -⟩ := h
  rw [r5]; exact r1
/-- one parameter -/
theorem se_par1 (b : SeB C B P mss fss D V K N M0 σ0) (h : SeS D V M0 σ0 M σ) (hv : v < V) (z : tA σ 94 v = 1) : (∃ M' σ' w, K_X0_parameter (nI v) M = some (.inr w, M') ∧ F_parameter (nI v) σ = some ((), σ') ∧ SeF D M0 σ0 M' σ' w) ∨ ∃ x M' σ', K_X0_parameter (nI v) M = some (.inl x, M') ∧ F_parameter (nI v) σ = some ((), σ') ∧ SeS D V M0 σ0 M' σ' ∧ tA σ' 160 v = 2 := by
  obtain ⟨W, hV, hl, hx, -⟩ := h.at_ b
  have hX : ∀ v, v < V → Vx1 D M σ V K N v := fun v hv => (hx v hv).1
  have recE := (fq_all (Q := fun v => tA σ 94 v = 1) (D := D) (M0 := M) (σ0 := σ) (K := K) (N := N) (K2 := 0) (N2 := 0) W hV ⟨hl, Nat.zero_le _, Nat.zero_le _⟩ hX (fun _ _ z => z) 7 1 rfl 100).1
  have := zq_par (kf := 1000) (tf := 1900) (u := 0) (s := 0) (K2 := 0) (N2 := 0) W hV hl hX (Nat.zero_le _) (fun _ => recE) hv z ⟨by decide, fun _ => by decide⟩ ⟨by decide, fun _ => by decide⟩ (fun _ => by decide) h.prq
  rcases this with ⟨M', σ', w, e1, e2, g⟩ | ⟨x, M', σ', e1, e2, g, -, e3⟩
  · exact Or.inl ⟨M', σ', w, e1, e2, h.flt g⟩
  · exact Or.inr ⟨x, M', σ', e1, e2, h.of g, e3⟩
theorem t_121c (h : tI σ 0 ≠ 0) (x : Int32) : L_set_121 (k + 1) x1 x3 x σ = some ((), σ) := by
  unfold L_set_121
  by_cases q : tI σ 107 ≤ x
  · rw [ifT q]
  · rw [ifF q, t_isBad1 h, ob_some, ifF (show ¬ (1 : Int32) = 0 by decide)]
theorem t_163c (h : tI σ 0 ≠ 0) (x : Int32) : L_set_163 (k + 1) x1 x3 x σ = some ((), σ) := by
  unfold L_set_163
  by_cases q : tI σ 107 ≤ x
  · rw [ifT q]
  · rw [ifF q, t_isBad1 h, ob_some, ifF (show ¬ (1 : Int32) = 0 by decide)]
/-- all parameters -/
theorem se_params (b : SeB C B P mss fss D V K N M0 σ0) : ∀ (m j kf tf : Nat) (M : CM) (σ : TS), j + m = V → m < kf → m < tf → SeS D V M0 σ0 M σ → (∀ v, v < j → tA σ 94 v = 1 → tA σ 160 v = 2) →
    (∃ M' σ' w, KL_X0_workParameters_53 kf (nI j) M = some (.inr (.inr w), M') ∧ L_set_121 tf x1 x3 (nI j) σ = some ((), σ') ∧ SeF D M0 σ0 M' σ' w) ∨ ∃ M' σ', KL_X0_workParameters_53 kf (nI j) M = some (.inl (), M') ∧ L_set_121 tf x1 x3 (nI j) σ = some ((), σ') ∧ SeS D V M0 σ0 M' σ' ∧ Kn V σ' := by
  intro m
  induction m with
  | zero =>
    intro j kf tf M σ hj hk ht h kn
    obtain ⟨kf, rfl⟩ : ∃ g, kf = g + 1 := ⟨kf - 1, by omega⟩
    obtain ⟨tf, rfl⟩ : ∃ g, tf = g + 1 := ⟨tf - 1, by omega⟩
    obtain ⟨W, hV, hl, hx, c2, c1⟩ := h.at_ b
    have le : nI V ≤ nI j := (bI_le (by omega) (by omega)).mpr (by omega)
    exact Or.inr ⟨M, σ, by rw [KL_X0_workParameters_53, c2, ifT le], by rw [L_set_121, c1, ifT le], h, fun v hv => kn v (by omega)⟩
  | succ m ih =>
    intro j kf tf M σ hj hk ht h kn
    obtain ⟨kf, rfl⟩ : ∃ g, kf = g + 1 := ⟨kf - 1, by omega⟩
    obtain ⟨tf, rfl⟩ : ∃ g, tf = g + 1 := ⟨tf - 1, by omega⟩
    obtain ⟨W, hV, hl, hx, c2, c1⟩ := h.at_ b
    have le : ¬ nI V ≤ nI j := fun z => by have := (bI_le (by omega) (by omega)).mp z; omega
    obtain ⟨-, -, x, x1', x2, x4⟩ := hx j (by omega)
    have g1 : K_J2_get 98 (nI j) M = some ((pl D 98).getD j 0, M) := ls_get (W.2.1.1 98 (by decide)).1 (by omega)
    have g2 : mk M ((pl D 98).getD j 0) = 17 := (W.2.1.2.1 98 (by decide) j (by omega)).1
    have hj96 : inb (nI j) 96 := inb_nI' (by omega) (by decide)
    have ej : ix (nI j) = j := ix_nI (by omega)
    have nx : nI j + 1 = nI (j + 1) := nI_addL j 1
    rw [KL_X0_workParameters_53, L_set_121, c2, c1, ifF le, ifF le, g1, ob_some, ifT (Or.inr g2), ifT g2, t_isBad0 h.2.1.1, ob_some, ifT (rfl : (0 : Int32) = 0), ifT hj96, ej]
    by_cases kd : x = 1
    · have e1 : mI M 3203 ((pl D 98).getD j 0) = 1 := by rw [x2, kd]; rfl
      have e2 : tA σ 94 j = 1 := by rw [x4, kd]; rfl
      rw [ifT e1, ifT e2]
      rcases se_par1 b h (v := j) (by omega) e2 with ⟨M', σ', w, a1, a2, a3⟩ | ⟨y, M', σ', a1, a2, a3, a4⟩
      · obtain ⟨tf', rfl⟩ : ∃ g, tf = g + 1 := ⟨tf - 1, by omega⟩
        rw [a1, obS_inr, a2, ob_some, nm_eq, t_121c a3.ne]
        exact Or.inl ⟨M', σ', w, rfl, rfl, a3⟩
      · have mo : MoK σ σ' := mS_F_parameter _ _ _ _ a2
        have e94 : ∀ v, tA σ' 94 v = tA σ 94 v := fun v => by rw [(a3.1.2 94 rfl).2.2.1, (h.1.2 94 rfl).2.2.1]
        rw [a1, obS_inl, a2, ob_some, nm_eq, nm_eq, nx]
        exact ih (j + 1) kf tf M' σ' (by omega) (by omega) (by omega) a3 (fun v hv z => by
          rw [e94] at z
          by_cases q : v = j
          · rw [q]; exact a4
          · exact mo v (kn v (by omega) z))
    · have e1 : ¬ mI M 3203 ((pl D 98).getD j 0) = 1 := fun z => kd ((bI_eq (b := 1) (by omega) (by decide)).mp (x2 ▸ z))
      have e2 : ¬ tA σ 94 j = 1 := fun z => kd ((bI_eq (b := 1) (by omega) (by decide)).mp (x4 ▸ z))
      rw [ifF e1, ifF e2, nx, nm_eq, nm_eq]
      exact ih (j + 1) kf tf M σ (by omega) (by omega) (by omega) h (fun v hv z => by
        by_cases q : v = j
        · rw [q] at z; exact absurd z e2
        · exact kn v (by omega) z)
theorem SeS.w12 (b : SeB C B P mss fss D V K N M0 σ0) (h : SeS D V M0 σ0 M σ) (hv : v < V) : SeS D V M0 σ0 (msI M 3212 ((pl D 98).getD v 0) y) (tsA σ 105 v y) := by
  obtain ⟨W, hV, -⟩ := b
  obtain ⟨⟨k, f⟩, h1, ⟨h2, h3⟩, h4⟩ := h
  have n167 := (W.2.1.2.1 98 (by decide) v (by omega)).2.1.1
  refine ⟨⟨k.wI rfl (TZ.vr W.2.1 (by omega)), f.p_tsA rfl⟩, h1, ⟨by rw [mI_msI, ifF (by omega)]; exact h2, h3⟩, fun u hu z => ?_⟩
  have := h4 u hu z
  unfold Fl1 at this ⊢
  rw [mI_msI, mI_msI, mI_msI, ifF (by omega), ifF (by omega), ifF (by omega)]
  exact this
/-- all starts -/
theorem se_starts (b : SeB C B P mss fss D V K N M0 σ0) : ∀ (m j kf tf : Nat) (M : CM) (σ : TS), j + m = V → m < kf → m < tf → SeS D V M0 σ0 M σ → Kn V σ → St12 D M σ j →
    (∃ M' σ' w, KL_X0_workStarts_2 kf (nI j) M = some (.inr (.inr w), M') ∧ L_set_163 tf x1 x3 (nI j) σ = some ((), σ') ∧ SeF D M0 σ0 M' σ' w) ∨ ∃ M' σ', KL_X0_workStarts_2 kf (nI j) M = some (.inl (), M') ∧ L_set_163 tf x1 x3 (nI j) σ = some ((), σ') ∧ SeS D V M0 σ0 M' σ' ∧ Kn V σ' ∧ St12 D M' σ' V := by
  intro m
  induction m with
  | zero =>
    intro j kf tf M σ hj hk ht h kn hs
    obtain ⟨kf, rfl⟩ : ∃ g, kf = g + 1 := ⟨kf - 1, by omega⟩
    obtain ⟨tf, rfl⟩ : ∃ g, tf = g + 1 := ⟨tf - 1, by omega⟩
    obtain ⟨W, hV, hl, hx, c2, c1⟩ := h.at_ b
    have le : nI V ≤ nI j := (bI_le (by omega) (by omega)).mpr (by omega)
    exact Or.inr ⟨M, σ, by rw [KL_X0_workStarts_2, c2, ifT le], by rw [L_set_163, c1, ifT le], h, kn, by rw [show V = j by omega]; exact hs⟩
  | succ m ih =>
    intro j kf tf M σ hj hk ht h kn hs
    obtain ⟨kf, rfl⟩ : ∃ g, kf = g + 1 := ⟨kf - 1, by omega⟩
    obtain ⟨tf, rfl⟩ : ∃ g, tf = g + 1 := ⟨tf - 1, by omega⟩
    obtain ⟨W, hV, hl, hx, c2, c1⟩ := h.at_ b
    have le : ¬ nI V ≤ nI j := fun z => by have := (bI_le (by omega) (by omega)).mp z; omega
    obtain ⟨-, xs, -⟩ := hx j (by omega)
    have g1 : K_J2_get 98 (nI j) M = some ((pl D 98).getD j 0, M) := ls_get (W.2.1.1 98 (by decide)).1 (by omega)
    have g2 : mk M ((pl D 98).getD j 0) = 17 := (W.2.1.2.1 98 (by decide) j (by omega)).1
    have hj96 : inb (nI j) 96 := inb_nI' (by omega) (by decide)
    have ej : ix (nI j) = j := ix_nI (by omega)
    have nx : nI j + 1 = nI (j + 1) := nI_addL j 1
    have inj : ∀ u, u < V → (pl D 98).getD u 0 = (pl D 98).getD j 0 → u = j := fun u hu e => (W.2.1.inj (by decide) (by decide) (by omega) (by omega) e).2
    have wst : ∀ M' σ' y, (∀ u, u < j → mI M' 3212 ((pl D 98).getD u 0) = tA σ' 105 u) → St12 D (msI M' 3212 ((pl D 98).getD j 0) y) (tsA σ' 105 j y) (j + 1) := fun M' σ' y hh u hu => by
      rw [mI_msI, tA_tsA]
      by_cases q : u = j
      · rw [ifT ⟨rfl, by rw [q]⟩, ifT ⟨rfl, q⟩]
      · rw [ifF (fun z => q (inj u (by omega) z.2)), ifF (fun z => q z.2)]
        exact hh u (by omega)
    have kst : ∀ σ' y, Kn V σ' → Kn V (tsA σ' 105 j y) := fun σ' y k => k.ft ((Ft.rf [105] σ').p_tsA rfl) rfl rfl
    have tl : ∀ s : TS, tI s 0 ≠ 0 → ∀ x, L_set_163 tf x1 x3 x s = some ((), s) := fun s hs x => by
      obtain ⟨tf', rfl⟩ : ∃ g, tf = g + 1 := ⟨tf - 1, by omega⟩
      exact t_163c hs x
    rw [KL_X0_workStarts_2, L_set_163, c2, c1, ifF le, ifF le, g1, ob_some, ifT (Or.inr g2), ifT g2, t_isBad0 h.2.1.1, ob_some, ifT (rfl : (0 : Int32) = 0)]
    unfold F_startOf
    rw [ifT hj96, ej]
    rcases xs with ⟨a1, a2⟩ | ⟨n, a1, a2⟩
    · rw [ifT a1, ifT g2, nm_eq, nm_eq, nx, a2, ifT (rfl : (0 : Int32) = 0), ifT hj96, nm_eq, ob_some, nm_eq]
      exact ih (j + 1) kf tf _ _ (by omega) (by omega) (by omega) (h.w12 b (v := j) (y := 0) (by omega)) (kst σ 0 kn) (wst M σ 0 hs)
    · have a0 : ¬ mR M 3211 ((pl D 98).getD j 0) = 0 := by
        obtain ⟨⟨⟨k, k1, k2, -⟩, -⟩, -⟩ := a2
        have := (W.2.1.2.1 106 (by decide) k (by omega)).2.1.1
        rw [k2]; omega
      have n0 : 1 ≤ n ∧ n < N := a2.1.2
      have nn : ¬ nI n = 0 := fun z => by have := (bI_eq (b := 0) (by omega) (by decide)).mp z; omega
      have hX : ∀ v, v < V → Vx1 D M σ V K N v := fun v hv => (hx v hv).1
      have ev := (fq_all (Q := fun v => tA σ 94 v = 1) (D := D) (M0 := M) (σ0 := σ) (K := K) (N := N) (K2 := 0) (N2 := 0) W hV ⟨hl, Nat.zero_le _, Nat.zero_le _⟩ hX (fun _ _ z => z) 8 0 rfl 100).1
      have := ev 1000 1900 0 (fun _ => 0) M σ (mR M 3211 ((pl D 98).getD j 0)) n (by decide) (by decide) (Or.inl a2) h.prq (by decide)
      rw [ifF a0, ifT g2, a1, ifF nn, ifT hj96]
      rcases this with ⟨M2, s2, w, y, e1, e2, e3⟩ | ⟨r, M2, s2, e1, e2, e3⟩
      · have e1' : K_X0_fixed (mR M 3211 ((pl D 98).getD j 0)) M = some (.inr w, M2) := e1
        have e2' : F_worth (nI n) 0 σ = some (y, s2) := e2
        have g := h.flt e3
        rw [e1', obS_inr, e2', ob_some, ifT hj96, nm_eq, ob_some, nm_eq, tl (tsA s2 105 j y) g.ne]
        obtain ⟨M1, r, r1, r2, r3, r4, r5, r6, r7, r8⟩ := g
        exact Or.inl ⟨M2, _, w, rfl, rfl, M1, r, r1, r2, r3, r4, r5, r6, r7, r8.p_tsA rfl⟩
      · have e1' : K_X0_fixed (mR M 3211 ((pl D 98).getD j 0)) M = some (.inl r, M2) := e1
        have e2' : F_worth (nI n) 0 σ = some (r, s2) := e2
        have h2 := h.of e3
        have mo : MoK σ s2 := mS_F_worth _ _ _ _ _ e2'
        have kn2 : Kn V s2 := fun v hv z => mo v (kn v hv (by rw [← (e3.1.2 94 rfl).2.2.1]; exact z))
        have g2' : mk M2 ((pl D 98).getD j 0) = 17 := by rw [e3.1.1.k]; exact g2
        rw [e1', obS_inl, ifT g2', nm_eq, nm_eq, nx, e2', ob_some, ifT hj96, nm_eq, ob_some, nm_eq]
        have hs2 : ∀ u, u < j → mI M2 3212 ((pl D 98).getD u 0) = tA s2 105 u := fun u hu => by
          rw [e3.1.1.i rfl, (e3.1.2 105 rfl).2.2.1]; exact hs u hu
        exact ih (j + 1) kf tf _ _ (by omega) (by omega) (by omega) (h2.w12 b (v := j) (y := r) (by omega)) (kst s2 r kn2) (wst M2 s2 r hs2)
end SETP
