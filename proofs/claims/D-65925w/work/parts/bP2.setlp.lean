/-! Layer B: the flat model: equations of one set of faces, of a face alone -/
set_option maxRecDepth 100000
/-- the twin's equations of one variable of a set -/
def tVarO (f k v : Int32) (σ : TS) : Option (Unit × TS) :=
  if tA σ 99 (ix v) = 0 then L_setEquations_43 FU f k v (f + 1) σ else ob (F_make 0 0 0 0 σ) fun r15 s14 => ob (F_make 0 0 0 0 s14) fun r19 s18 => ob (L_setEquations_138 FU f k r15 r19 f s18) fun q43 s44 => F_addEquation r15 q43 s44
/-- and of a face that is alone -/
def tAl (v : Int32) (σ : TS) : Option (Unit × TS) :=
  ob (F_make 2 v 0 0 σ) fun r38 s37 => ob (F_make 0 0 0 0 s37) fun r42 s41 => F_addEquation r38 r42 s41
section SETLP
variable {zb : Nat} {C : PC} {D D' D1 : FQ} {M M' M1 M2 : CM} {σ σ' σ0 σ1 σ2 s s1 : TS} {mss fss : List Nat} {B V I Bm K N K' N' K1 N1 E A Wn v l w d m i n k f g Lp hh tf : Nat} {P : Nat → Prop} {x3 x y r op x2 x3' y4 x5 : Int32} {z7 : Nat → Nat} {S : List Nat}
theorem fS_tVarO {a b c : Int32} : FS sF_setEquations σ (tVarO a b c σ) := by
  unfold tVarO
  exact FS.ite (FS.call (Ft.rf _ _) (fS_L_setEquations_43 _ _ _ _ _ _) (by decide)) (FS.ob (Ft.rf _ _) (fS_F_make _ _ _ _ _) (by decide) fun _ _ f1 => FS.ob f1 (fS_F_make _ _ _ _ _) (by decide) fun _ _ f2 => FS.ob f2 (fS_L_setEquations_138 _ _ _ _ _ _ _) (by decide) fun _ _ f3 => FS.call f3 (fS_F_addEquation _ _ _) (by decide))
theorem fS_tAl {a : Int32} : FS sF_setEquations σ (tAl a σ) := by
  unfold tAl
  exact FS.ob (Ft.rf _ _) (fS_F_make _ _ _ _ _) (by decide) fun _ _ f1 => FS.ob f1 (fS_F_make _ _ _ _ _) (by decide) fun _ _ f2 => FS.call f2 (fS_F_addEquation _ _ _) (by decide)
theorem n_neg (hv : v ≤ 1000) : ¬ nI v < 0 := fun z => by
  rw [nI_ltL (by omega) (by decide)] at z; exact absurd z (Nat.not_lt_zero _)
theorem n_odd : ∀ f, f < 400 → nI f - nI f / 2 * 2 = nI (f % 2) := by decide +kernel
theorem OwV.lt (h : OwV σ V n k v) : k < cnt σ n 0 V := by
  have h1 := cnt_cut (σ := σ) (n := n) (V := 0) (V1 := v + 1) (V2 := V) (Nat.zero_le _) h.1
  rw [Nat.sub_zero, Nat.sub_zero, cnt_s, ifT h.2.1, h.2.2] at h1
  omega
theorem t_2b (h : tI s 0 ≠ 0) (h107 : tI s 107 = nI V) (hV : V ≤ 96) (hk : k ≤ 1000) (hf : f < 400) : L_setEquations_2 (tf + 1) (nI f) (nI k) s = some ((), s) := by
  unfold L_setEquations_2
  obtain ⟨y, b⟩ := t_mvA (n := f / 2) (k := k) h107 hV hk
  rw [n_half f hf, b, ob_some]
  by_cases q : y < 0
  · rw [ifT q]
  · rw [ifF q, t_isBad1 h, ob_some, ifF (show ¬ (1 : Int32) = 0 by decide)]
theorem t_134b (h : tI s 0 ≠ 0) (h107 : tI s 107 = nI V) (hV : V ≤ 96) (hk : k ≤ 1000) : L_connections_134 (tf + 1) x (nI n) (nI k) s = some ((), s) := by
  unfold L_connections_134
  obtain ⟨y, b⟩ := t_mvA (n := n) (k := k) h107 hV hk
  rw [b, ob_some]
  by_cases q : y < 0
  · rw [ifT q]
  · rw [ifF q, t_isBad1 h, ob_some, ifF (show ¬ (1 : Int32) = 0 by decide)]
theorem t_two (h0 : tI σ 0 = 0) (hm : F_memberVariable (nI f / 2) (nI k) σ = some (nI v, σ)) (hv : v < 96) : L_setEquations_2 (tf + 1) (nI f) (nI k) σ = ob (tVarO (nI f) (nI k) (nI v) σ) fun _ s => L_setEquations_2 tf (nI f) (nI (k + 1)) s := by
  have e : nI k + 1 = nI (k + 1) := nI_addL k 1
  rw [← e]
  unfold tVarO
  conv => lhs; unfold L_setEquations_2
  rw [hm, ob_some, ifF (n_neg (by omega)), t_isBad0 h0, ob_some, ifT (rfl : (0 : Int32) = 0), hm, ob_some, ifT (inb_nI' hv (by decide))]
  by_cases q : tA σ 99 (ix (nI v)) = 0
  · rw [ifT q, ifT q]; rfl
  · rw [ifF q, ifF q]; simp only [ob_assoc]; rfl
theorem t_one (h0 : tI σ 0 = 0) (hm : F_memberVariable (nI n) (nI k) σ = some (nI v, σ)) (hv : v < 96) : L_connections_134 (tf + 1) x (nI n) (nI k) σ = if tA σ 99 v = 0 then L_connections_134 tf x (nI n) (nI (k + 1)) σ else ob (tAl (nI v) σ) fun _ s => L_connections_134 tf x (nI n) (nI (k + 1)) s := by
  have e : nI k + 1 = nI (k + 1) := nI_addL k 1
  rw [← e]
  unfold tAl
  conv => lhs; unfold L_connections_134
  rw [hm, ob_some, ifF (n_neg (by omega)), t_isBad0 h0, ob_some, ifT (rfl : (0 : Int32) = 0), hm, ob_some, ifT (inb_nI' hv (by decide)), ix_nI (by omega)]
  by_cases q : tA σ 99 v = 0
  · rw [ifT q, ifT q]; rfl
  · rw [ifF q, ifF q]; simp only [ob_assoc]; rfl
/-- one variable of a set, both sides -/
theorem z_one (hf : f < 400 ∧ f / 2 < I) (hk : k ≤ 1000) (hr : ¬ tA σ 74 (f / 2) = tA σ 74 0) (h : BS zb z7 C B P mss fss V I Bm Lp 0 D M σ K N E A Wn) (ho : OwV σ V (f / 2) k v) : BO (γ := Unit) (δ := Nat) (β := Unit) zb z7 C B P mss fss V I Bm Lp 0 id D M σ K N E A Wn (K_X0_joinOne (nI f) (nI k) (mI M 3205 ((pl D 98).getD v 0)) M) (tVarO (nI f) (nI k) (nI v) σ) := by
  obtain ⟨-, -, -, -, fl, -⟩ := h.fx.1.2.2.2 v ho.1
  obtain ⟨G, hG, hGl⟩ := FUg
  have hG : FU = G + 1 := hG
  have V96 := h.hV.2
  have hvV := ho.1
  have I200 := h.fx.2.1.2.1
  have c1 := h.fx.2.2.1.2.1
  have c2 := h.fx.2.2.2.1.2
  have c7 := h.fx.2.2.1.1
  have J := h.2.2.2.2.2.1.1
  rcases fl with ⟨e1, e2⟩ | ⟨e1, e2⟩
  · obtain ⟨-, q1, -, -, -⟩ := z_hd J (f := f) hf.1
    have nf : nI f + 1 = nI (f + 1) := nI_addL f 1
    have PL := pair_lp hf (x4 := 0) (x5 := 0) hk (2 * I - (f + 1)) (f + 1) G FU D M σ K N E A Wn (by omega) (by omega) (by omega) (by omega) h ho
    have eK : KL_X0_joinOne_39 FU (nI f) (nI k) 0 0 0 (nI f) M = KL_X0_joinOne_39 G (nI f) (nI k) 0 0 0 (nI (f + 1)) M := by
      rw [hG]
      conv => lhs; unfold KL_X0_joinOne_39
      rw [c2, n_dbl, ifF (fun z => by have := (bI_le (by omega) (by omega)).mp z; omega), q1, ob_some, nf]
      by_cases e : nI (hdT σ f) = nI f
      · rw [ifT e, ifT (rfl : (0 : Int32) = 0), ifT (rfl : nI f = nI f)]; rfl
      · rw [ifF e]; rfl
    rw [e1]
    unfold K_X0_joinOne tVarO
    rw [ifT (rfl : (0 : Int32) = 0), ix_nI (by omega), ifT e2, nf]
    unfold KJ_X0_joinOne_16
    rw [ifT (rfl : (0 : Int32) = 0)]
    unfold KJ_X0_joinOne_34
    rw [eK]
    rcases PL with ⟨M', σ', w, y, b1, b2, b3⟩ | ⟨D', M', σ', K', N', E', A', Wn', r, y, b1, b2, b3, b4, b5⟩
    · rw [b1, obS_inr, b2]
      exact Or.inl ⟨M', σ', w, y, rfl, rfl, b3⟩
    · rw [b1, obS_inl, b2, ifT (rfl : (0 : Int32) = 0)]
      exact Or.inr ⟨D', M', σ', K', N', E', A', Wn', (), y, rfl, rfl, b3, b4, b5⟩
  · have hx : ¬ (1 : Int32) = 0 := by decide
    obtain ⟨r1, r2⟩ := h.r27
    have tb : ∀ M' s w (y4 x5 : Int32), FfB C B P mss fss M M' σ s w → Ft sF_make σ s → inb x5 70000 → ∃ y s', L_setEquations_138 FU (nI f) (nI k) y4 x5 (nI f) s = some (y, s') ∧ FfB C B P mss fss M M' σ s' w := fun M' s w y4 x5 hF f5 h5 => by
      obtain ⟨y3, s3, d1, d2, -⟩ := t_138b (x4 := y4) J I200 V96 hk c1 c7 (2 * I - f) f FU x5 s (by omega) (by omega) hF f5 h5
      exact ⟨y3, s3, d1, d2⟩
    rw [e1]
    unfold K_X0_joinOne tVarO
    rw [ifF hx, r1, ifT r2, ix_nI (by omega), ifF (show ¬ tA σ 99 v = 0 by rw [e2]; decide)]
    rcases h.num1 0 (by decide) with ⟨M1, s1, w1, y1, a1, a2, a3, a4, a5⟩ | ⟨D1, M1, s1, K1, N1, n1, m1, a1, a2, h1, le1, bt1, nd1, a5, z1, sz1, sz2⟩
    · obtain ⟨y2, s2, b2, b5, b3, b4⟩ := a3.mk1 (op := 0) (x2 := 0) (x3 := 0) (x4 := 0) (Or.inl (by decide))
      obtain ⟨y3, s3, d1, d2⟩ := tb _ _ _ y1 y2 b3 (a5.tr (b4.mono (by decide))) b5
      rw [a1, obS_inr, a2, ob_some, b2, ob_some, d1, ob_some, t_addB d2.ne]
      exact Or.inl ⟨_, s3, _, (), rfl, rfl, d2⟩
    · obtain ⟨r3, r4⟩ := h1.r27
      rw [a1, obS_inl, a2, ob_some]
      unfold KJ_X0_joinOne_16
      rw [ifF hx, r3, ifT r4]
      refine BO.pre bt1 ⟨le1.1, le1.2, Nat.le_refl _, Nat.le_refl _, Nat.le_refl _⟩ ?_
      rcases h1.num1 0 (by decide) with ⟨M2, s2, w1, y1, b1, b2, b3, b4, b5⟩ | ⟨D2, M2, s2, K2, N2, n2, m2, b1, b2, h2, le2, bt2, nd2, b5, z2, sz3, sz4⟩
      · have J1 := h1.2.2.2.2.2.1.1
        obtain ⟨y4, s4, g1, g2, -⟩ := t_138b (x4 := nI m1) J1 I200 V96 hk (show tI s1 82 = nI I by rw [(a5 82 rfl).1]; exact c1) (show tI s1 107 = nI V by rw [(a5 107 rfl).1]; exact c7) (2 * I - f) f FU y1 s2 (by omega) (by omega) b3 b5 b4
        rw [b1, obS_inr, b2, ob_some, g1, ob_some, t_addB g2.ne]
        exact Or.inl ⟨_, s4, _, (), rfl, rfl, g2⟩
      · rw [b1, obS_inl, b2, ob_some]
        unfold KJ_X0_joinOne_34
        refine BO.pre bt2 ⟨le2.1, le2.2, Nat.le_refl _, Nat.le_refl _, Nat.le_refl _⟩ ?_
        have ho2 : OwV s2 V (f / 2) k v := (ho.vk (bt1.2.2.2.2.2 96 (by decide))).vk (bt2.2.2.2.2.2 96 (by decide))
        have hr2 : ¬ tA s2 74 (f / 2) = tA s2 74 0 := by
          rw [(b5 74 rfl).2.2.1, (b5 74 rfl).2.2.1, (a5 74 rfl).2.2.1, (a5 74 rfl).2.2.1]; exact hr
        have SL := sum_lp (L := N1) (FSt.n1 h1.1) (y4 := nI m1) (x4 := n1) hf hk hx hr2 (2 * I - f) f FU FU 0 D2 M2 s2 K2 N2 n2 m2 (by omega) (Nat.le_refl _) (by omega) (by omega) h2 (Ft.rf _ _) ho2 (Nat.zero_le _) nd2 ⟨z2, sz3, sz4⟩
        rcases SL with ⟨M3, s3, w, y, d1, d2, d3⟩ | ⟨D3, M3, s3, K3, N3, n3, m3, d1, d2, h3, le3, bt3, nd3, f23, sz5⟩
        · rw [d1, obS_inr, d2, ob_some, t_addB d3.ne]
          exact Or.inl ⟨_, s3, _, (), rfl, rfl, d3⟩
        · rw [d1, obS_inl, d2, ob_some, ifF hx]
          refine BO.pre bt3 ⟨le3.1, le3.2, Nat.le_refl _, Nat.le_refl _, Nat.le_refl _⟩ ?_
          have nd1' := NdR.mv bt2.2.2.1 le2.1 le2.2 (Nat.le_refl V) 1 100 0 _ _ (by decide) nd1
          have nd1'' := NdR.mv bt3.2.2.1 le3.1 le3.2 (Nat.le_refl V) 100 100 0 _ _ (by decide) nd1'
          rcases z_equation h3 (fun zz => pd2 (h.sm zz) bt1.2.2.1.n4 a5 (by decide) le1.2 (bt2.tr bt3 le2.1 le2.2).2.2.1.n4 (b5.tr f23) (by decide) (Nat.le_trans le2.2 le3.2) (sz_up ⟨z1, sz1, sz2⟩) sz5) nd1'' nd3 with ⟨M4, s4, w1, y1, g1, g2, g3⟩ | ⟨D4, M4, s4, K4, N4, E4, A4, W4, u0, y0, g1, g2, h4, le4, bt4⟩
          · rw [g1, obS_inr, g2]
            exact Or.inl ⟨_, _, _, _, rfl, rfl, g3⟩
          · rw [g1, obS_inl, g2]
            exact Or.inr ⟨D4, M4, s4, K4, N4, E4, A4, W4, (), y0, rfl, rfl, h4, le4, bt4⟩
/-- the end of an instance's variables -/
theorem set_end {o kf : Nat} {x3 : Int32} (ho : o = (pl D 99).getD n 0) (h : K_X0_varIn ((pl D 99).getD n 0) (nI k) M = some (-1, M)) : KL_X0_connections_80 (kf + 1) x o x3 (nI k) M = some (.inl (), M) := by
  unfold KL_X0_connections_80
  rw [ho, h, ob_some, ifT (show (-1 : Int32) < 0 by decide)]
/-- one set -/
theorem set_lp (hf : f < 400 ∧ f / 2 < I) : ∀ (d k kf tf o : Nat) D M σ K N E A Wn, cnt σ (f / 2) 0 V ≤ k + d → k + d ≤ 96 → d < kf → d < tf → o = (pl D 99).getD (f / 2) 0 → ¬ tA σ 74 (f / 2) = tA σ 74 0 → BS zb z7 C B P mss fss V I Bm Lp 0 D M σ K N E A Wn → BO (γ := Unit) (δ := Unit ⊕ Nat) (β := Unit) zb z7 C B P mss fss V I Bm Lp 0 Sum.inr D M σ K N E A Wn (KL_X0_connections_80 kf (nI f) o 0 (nI k) M) (L_setEquations_2 tf (nI f) (nI k) σ) := by
  have fin : ∀ (k kf tf o : Nat) D M σ K N E A Wn, o = (pl D 99).getD (f / 2) 0 → BS zb z7 C B P mss fss V I Bm Lp 0 D M σ K N E A Wn → K_X0_varIn ((pl D 99).getD (f / 2) 0) (nI k) M = some (-1, M) → F_memberVariable (nI (f / 2)) (nI k) σ = some (-1, σ) → BO (γ := Unit) (δ := Unit ⊕ Nat) (β := Unit) zb z7 C B P mss fss V I Bm Lp 0 Sum.inr D M σ K N E A Wn (KL_X0_connections_80 (kf + 1) (nI f) o 0 (nI k) M) (L_setEquations_2 (tf + 1) (nI f) (nI k) σ) := fun k kf tf o D M σ K N E A Wn ho h e1 e2 => by
    refine Or.inr ⟨D, M, σ, K, N, E, A, Wn, (), (), set_end ho e1, ?_, h, ⟨Nat.le_refl _, Nat.le_refl _, Nat.le_refl _, Nat.le_refl _, Nat.le_refl _⟩, BTr.rf h.cn⟩
    unfold L_setEquations_2
    rw [n_half f hf.1, e2, ob_some, ifT (show (-1 : Int32) < 0 by decide)]
  intro d
  induction d with
  | zero =>
    intro k kf tf o D M σ K N E A Wn hc hk9 hkf htf ho hr h
    obtain ⟨kf, rfl⟩ : ∃ g, kf = g + 1 := ⟨kf - 1, by omega⟩
    obtain ⟨tf, rfl⟩ : ∃ g, tf = g + 1 := ⟨tf - 1, by omega⟩
    rcases z_varIn h hf.2 (k := k) (by omega) with ⟨v, u1, -⟩ | ⟨-, u2, u3⟩
    · have := u1.lt; omega
    · exact fin k kf tf o D M σ K N E A Wn ho h u2 u3
  | succ d ih =>
    intro k kf tf o D M σ K N E A Wn hc hk9 hkf htf ho hr h
    obtain ⟨kf, rfl⟩ : ∃ g, kf = g + 1 := ⟨kf - 1, by omega⟩
    obtain ⟨tf, rfl⟩ : ∃ g, tf = g + 1 := ⟨tf - 1, by omega⟩
    rcases z_varIn h hf.2 (k := k) (by omega) with ⟨v, u1, u2, u3⟩ | ⟨-, u2, u3⟩
    · have V96 := h.hV.2
      have hvV := u1.1
      have c7 := h.fx.2.2.1.1
      have I99 := h.fx.1.1.2.1
      obtain ⟨⟨j1, j2⟩, -⟩ := h.vr hvV
      have nk : nI k + 1 = nI (k + 1) := nI_addL k 1
      rw [t_two h.h0 (by rw [n_half f hf.1]; exact u3) (by omega)]
      unfold KL_X0_connections_80
      rw [ho, u2, ob_some, ifF (n_neg (by omega)), u2, ob_some, ifT (rfl : (0 : Int32) = 0), j1, ob_some, ifT (Or.inr j2), ifT j2, nk]
      rcases z_one hf (by omega) hr h u1 with ⟨M', σ', w, y, b1, b2, b3⟩ | ⟨D', M', σ', K', N', E', A', Wn', r, y, b1, b2, b3, b4, b5⟩
      · obtain ⟨tf', rfl⟩ : ∃ g, tf = g + 1 := ⟨tf - 1, by omega⟩
        have ft := fS_tVarO _ _ b2
        rw [b1, obS_inr, b2, ob_some, t_2b b3.ne (by rw [(ft 107 rfl).1]; exact c7) V96 (by omega) hf.1]
        exact Or.inl ⟨_, _, _, (), rfl, rfl, b3⟩
      · rw [b1, obS_inl, b2, ob_some, nm_eq]
        refine BO.pre b5 b4 (ih (k + 1) kf tf _ D' M' σ' K' N' E' A' Wn' ?_ (by omega) (by omega) (by omega) ?_ ?_ b3)
        · rw [cnt_eq _ _ (fun u _ _ => b5.2.2.2.2.2 96 (by decide) u)]; omega
        · exact ((b5.2.1.1 99 (f / 2) (by omega)).2).symm
        · rw [b5.2.2.2.2.2 74 (by decide), b5.2.2.2.2.2 74 (by decide)]; exact hr
    · exact fin k kf tf o D M σ K N E A Wn ho h u2 u3
/-- one variable of a face that is alone -/
theorem z_al (h : BS zb z7 C B P mss fss V I Bm Lp 0 D M σ K N E A Wn) (hv : v < V) :
    (∃ M' σ' w, FfB C B P mss fss M M' σ σ' w ∧ tAl (nI v) σ = some ((), σ') ∧ ∀ kk : CM → Option ((Unit ⊕ (Unit ⊕ Nat)) × CM), (if mk M (mR M 27 1) = 4 then obS (K_X3_make (mR M 27 1) 1 (nI v) 0 0 0 M) (fun w43 M39 => some (.inr (.inr w43), M39)) fun r40 M39 => if mk M39 (mR M39 27 1) = 4 then obS (K_X3_number (mR M39 27 1) 0 M39) (fun w49 M45 => some (.inr (.inr w49), M45)) fun r46 M45 => obS (K_X0_equation r40 r46 M45) (fun w54 M50 => some (.inr (.inr w54), M50)) fun r51 M50 => kk M50 else none else none) = some (.inr (.inr w), M')) ∨
    (∃ D' M' σ' K' N' E' A' Wn', (BS zb z7 C B P mss fss V I Bm Lp 0 D' M' σ' K' N' E' A' Wn' ∧ (K ≤ K' ∧ N ≤ N' ∧ E ≤ E' ∧ A ≤ A' ∧ Wn ≤ Wn') ∧ BTr V C P K N D M σ D' M' σ') ∧ tAl (nI v) σ = some ((), σ') ∧ ∀ kk : CM → Option ((Unit ⊕ (Unit ⊕ Nat)) × CM), (if mk M (mR M 27 1) = 4 then obS (K_X3_make (mR M 27 1) 1 (nI v) 0 0 0 M) (fun w43 M39 => some (.inr (.inr w43), M39)) fun r40 M39 => if mk M39 (mR M39 27 1) = 4 then obS (K_X3_number (mR M39 27 1) 0 M39) (fun w49 M45 => some (.inr (.inr w49), M45)) fun r46 M45 => obS (K_X0_equation r40 r46 M45) (fun w54 M50 => some (.inr (.inr w54), M50)) fun r51 M50 => kk M50 else none else none) = kk M') := by
  obtain ⟨r1, r2⟩ := h.r27
  rw [r1]
  unfold tAl
  rcases h.var1 hv with ⟨M1, s1, w1, y1, a1, a2, a3, a4, a5⟩ | ⟨D1, M1, s1, K1, N1, n1, m1, a1, a2, h1, le1, bt1, nd1, a5, z1, sz1, sz2⟩
  · left
    obtain ⟨y2, s2, b2, b5, b3, b4⟩ := a3.mk1 (op := 0) (x2 := 0) (x3 := 0) (x4 := 0) (Or.inl (by decide))
    refine ⟨M1, s2, w1, b3, by rw [a2, ob_some, b2, ob_some, t_addB b3.ne], fun kk => ?_⟩
    rw [ifT r2, a1, obS_inr]
  · obtain ⟨r3, r4⟩ := h1.r27
    rcases h1.num1 0 (by decide) with ⟨M2, s2, w1, y1, b1, b2, b3, b4, b5⟩ | ⟨D2, M2, s2, K2, N2, n2, m2, b1, b2, h2, le2, bt2, nd2, b5, z2, sz3, sz4⟩
    · left
      refine ⟨M2, s2, w1, b3.pre bt1.2.2.2.1, by rw [a2, ob_some, b2, ob_some, t_addB b3.ne], fun kk => ?_⟩
      rw [ifT r2, a1, obS_inl, r3, ifT r4, b1, obS_inr]
    · have nd1' := NdR.mv bt2.2.2.1 le2.1 le2.2 (Nat.le_refl V) 1 100 0 _ _ (by decide) nd1
      have nd2' := NdR.mv NdK.rf (Nat.le_refl _) (Nat.le_refl _) (Nat.le_refl V) 1 100 0 _ _ (by decide) nd2
      have bt := bt1.tr bt2 le1.1 le1.2
      rcases z_equation h2 (fun zz => pd2 (h.sm zz) bt1.2.2.1.n4 a5 (by decide) le1.2 bt2.2.2.1.n4 b5 (by decide) le2.2 (sz_up ⟨z1, sz1, sz2⟩) (sz_up ⟨z2, sz3, sz4⟩)) nd1' nd2' with ⟨M3, s3, w1, y1, d1, d2, d3⟩ | ⟨D3, M3, s3, K3, N3, E3, A3, W3, u0, y0, d1, d2, h3, le3, bt3⟩
      · left
        refine ⟨M3, s3, w1, d3.pre bt.2.2.2.1, by rw [a2, ob_some, b2, ob_some, d2], fun kk => ?_⟩
        rw [ifT r2, a1, obS_inl, r3, ifT r4, b1, obS_inl, d1, obS_inr]; rfl
      · right
        refine ⟨D3, M3, s3, K3, N3, E3, A3, W3, ⟨h3, ⟨by omega, by omega, le3.2.2⟩, bt.tr bt3 (by omega) (by omega)⟩, by rw [a2, ob_some, b2, ob_some, d2], fun kk => ?_⟩
        rw [ifT r2, a1, obS_inl, r3, ifT r4, b1, obS_inl, d1, obS_inl]
/-- a face alone, outside -/
theorem al_lp (hf : f < 400 ∧ f / 2 < I) (h2 : f % 2 = 1) : ∀ (d k kf tf o : Nat) D M σ K N E A Wn, cnt σ (f / 2) 0 V ≤ k + d → k + d ≤ 96 → d < kf → d < tf → o = (pl D 99).getD (f / 2) 0 → BS zb z7 C B P mss fss V I Bm Lp 0 D M σ K N E A Wn → BO (γ := Unit) (δ := Unit ⊕ Nat) (β := Unit) zb z7 C B P mss fss V I Bm Lp 0 Sum.inr D M σ K N E A Wn (KL_X0_connections_80 kf (nI f) o 1 (nI k) M) (L_connections_134 tf (nI f) (nI (f / 2)) (nI k) σ) := by
  have fin : ∀ (k kf tf o : Nat) D M σ K N E A Wn, o = (pl D 99).getD (f / 2) 0 → BS zb z7 C B P mss fss V I Bm Lp 0 D M σ K N E A Wn → K_X0_varIn ((pl D 99).getD (f / 2) 0) (nI k) M = some (-1, M) → F_memberVariable (nI (f / 2)) (nI k) σ = some (-1, σ) → BO (γ := Unit) (δ := Unit ⊕ Nat) (β := Unit) zb z7 C B P mss fss V I Bm Lp 0 Sum.inr D M σ K N E A Wn (KL_X0_connections_80 (kf + 1) (nI f) o 1 (nI k) M) (L_connections_134 (tf + 1) (nI f) (nI (f / 2)) (nI k) σ) := fun k kf tf o D M σ K N E A Wn ho h e1 e2 => by
    refine Or.inr ⟨D, M, σ, K, N, E, A, Wn, (), (), set_end ho e1, ?_, h, ⟨Nat.le_refl _, Nat.le_refl _, Nat.le_refl _, Nat.le_refl _, Nat.le_refl _⟩, BTr.rf h.cn⟩
    unfold L_connections_134
    rw [e2, ob_some, ifT (show (-1 : Int32) < 0 by decide)]
  intro d
  induction d with
  | zero =>
    intro k kf tf o D M σ K N E A Wn hc hk9 hkf htf ho h
    obtain ⟨kf, rfl⟩ : ∃ g, kf = g + 1 := ⟨kf - 1, by omega⟩
    obtain ⟨tf, rfl⟩ : ∃ g, tf = g + 1 := ⟨tf - 1, by omega⟩
    rcases z_varIn h hf.2 (k := k) (by omega) with ⟨v, u1, -⟩ | ⟨-, u2, u3⟩
    · have := u1.lt; omega
    · exact fin k kf tf o D M σ K N E A Wn ho h u2 u3
  | succ d ih =>
    intro k kf tf o D M σ K N E A Wn hc hk9 hkf htf ho h
    obtain ⟨kf, rfl⟩ : ∃ g, kf = g + 1 := ⟨kf - 1, by omega⟩
    obtain ⟨tf, rfl⟩ : ∃ g, tf = g + 1 := ⟨tf - 1, by omega⟩
    rcases z_varIn h hf.2 (k := k) (by omega) with ⟨v, u1, u2, u3⟩ | ⟨-, u2, u3⟩
    · have V96 := h.hV.2
      have hvV := u1.1
      have c7 := h.fx.2.2.1.1
      have I99 := h.fx.1.1.2.1
      obtain ⟨⟨j1, j2⟩, -⟩ := h.vr hvV
      obtain ⟨-, -, -, -, fl, -⟩ := h.fx.1.2.2.2 v hvV
      have nk : nI k + 1 = nI (k + 1) := nI_addL k 1
      rw [t_one h.h0 u3 (by omega)]
      unfold KL_X0_connections_80
      rw [ho, u2, ob_some, ifF (n_neg (by omega)), u2, ob_some, ifF (show ¬ (1 : Int32) = 0 by decide), n_odd f hf.1, h2, ifT (show nI 1 = 1 from rfl), j1, ob_some, ifT (Or.inr j2), ifT j2, nk]
      rcases fl with ⟨e1, e2⟩ | ⟨e1, e2⟩
      · rw [ifT e1, ifT e2, nm_eq]
        exact ih (k + 1) kf tf _ D M σ K N E A Wn (by omega) (by omega) (by omega) (by omega) rfl h
      · rw [ifF (show ¬ mI M 3205 ((pl D 98).getD v 0) = 0 by rw [e1]; decide), ifF (show ¬ tA σ 99 v = 0 by rw [e2]; decide)]
        rcases z_al h hvV with ⟨M', σ', w, b3, b2, b1⟩ | ⟨D', M', σ', K', N', E', A', Wn', ⟨b3, b4, b5⟩, b2, b1⟩
        · obtain ⟨tf', rfl⟩ : ∃ g, tf = g + 1 := ⟨tf - 1, by omega⟩
          have ft := fS_tAl _ _ b2
          rw [b1, b2, ob_some, t_134b b3.ne (by rw [(ft 107 rfl).1]; exact c7) V96 (by omega)]
          exact Or.inl ⟨_, _, _, (), rfl, rfl, b3⟩
        · rw [b1, b2, ob_some, nm_eq]
          refine BO.pre b5 b4 (ih (k + 1) kf tf _ D' M' σ' K' N' E' A' Wn' ?_ (by omega) (by omega) (by omega) ?_ b3)
          · rw [cnt_eq _ _ (fun u _ _ => b5.2.2.2.2.2 96 (by decide) u)]; omega
          · exact ((b5.2.1.1 99 (f / 2) (by omega)).2).symm
    · exact fin k kf tf o D M σ K N E A Wn ho h u2 u3
/-- a face alone, inside: nothing -/
theorem al_no (hf : f < 400 ∧ f / 2 < I) (h2 : f % 2 = 0) {o : Nat} (h : BS zb z7 C B P mss fss V I Bm Lp x3' D M σ K N E A Wn) (ho : o = (pl D 99).getD (f / 2) 0) : ∀ (d k kf : Nat), cnt σ (f / 2) 0 V ≤ k + d → k + d ≤ 96 → d < kf → KL_X0_connections_80 kf (nI f) o 1 (nI k) M = some (.inl (), M) := by
  intro d
  induction d with
  | zero =>
    intro k kf hc hk9 hkf
    obtain ⟨kf, rfl⟩ : ∃ g, kf = g + 1 := ⟨kf - 1, by omega⟩
    rcases z_varIn h hf.2 (k := k) (by omega) with ⟨v, u1, -⟩ | ⟨-, u2, u3⟩
    · have := u1.lt; omega
    · exact set_end ho u2
  | succ d ih =>
    intro k kf hc hk9 hkf
    obtain ⟨kf, rfl⟩ : ∃ g, kf = g + 1 := ⟨kf - 1, by omega⟩
    rcases z_varIn h hf.2 (k := k) (by omega) with ⟨v, u1, u2, u3⟩ | ⟨-, u2, u3⟩
    · have V96 := h.hV.2
      have hvV := u1.1
      have nk : nI k + 1 = nI (k + 1) := nI_addL k 1
      unfold KL_X0_connections_80
      rw [ho, u2, ob_some, ifF (n_neg (by omega)), u2, ob_some, ifF (show ¬ (1 : Int32) = 0 by decide), n_odd f hf.1, h2, ifF (show ¬ nI 0 = 1 by decide), nk, nm_eq, ← ho]
      exact ih (k + 1) kf (by omega) (by omega) (by omega)
    · exact set_end ho u2
end SETLP
