/-! Layer B: the flat model: parameters are worked out -/
set_option maxRecDepth 100000
section PARS5
variable {zb : Nat} {C : PC} {D D' D1 D2 : FQ} {M M' M1 M2 M3 M0 : CM} {σ σ' σ1 σ2 σ0 s1 : TS} {mss fss : List Nat} {B V I Bm K N K' N' E A Wn E' A' Wn' v l k x0 dc md X N0 Lp w d s o n i nf R a b n1 n2 f j : Nat} {P T : Nat → Prop} {x3 x3' y r : Int32} {z7 : Nat → Nat} {S : List Nat}
theorem NdK.tws (f : Ft S σ σ') (hS : [94, 121, 122, 123, 124, 134, 162].all (fun k => !S.contains k) = true) : NdK D M σ D M σ' l K N := by
  have hf : ∀ k, k ∈ [94, 121, 122, 123, 124, 134, 162] → S.contains k = false := fun k hk => by simpa using List.all_eq_true.mp hS k hk
  exact ⟨fun _ _ => ⟨rfl, fun _ _ => rfl, fun _ _ => rfl⟩, fun g hg n _ => (f g (hf g (by simp only [List.mem_cons, List.not_mem_nil, or_false] at hg ⊢; omega))).2.2.1 n, fun v => (f 94 (hf 94 (by decide))).2.2.1 v⟩
/-- parameters only, or not -/
theorem FSt.md138 (h : FSt md x0 l X N0 z7 C B P mss fss D M σ V I Bm K N Lp 0 x3) (hy : (x3' = 1 ∧ ¬ y = 0) ∨ (x3' = 0 ∧ y = 0)) : FSt md x0 l X N0 z7 C B P mss fss D M (tsI σ 138 y) V I Bm K N Lp 0 x3' := by
  have f : Ft [138] σ (tsI σ 138 y) := (Ft.rf _ σ).p_tsI rfl
  obtain ⟨W, FX, NS, LP, CA, ⟨h1, h2, h3⟩, h4, h5⟩ := h
  obtain ⟨W', v⟩ := W.wzT f (by decide)
  have FX' := FX.kp W (T := fun _ => False) Fq.rf (fun _ z => z.elim) (fun _ _ => ⟨fun _ _ => rfl, fun _ _ => rfl⟩) v (Dx.rf D M) f (by decide) ⟨rfl, rfl⟩
  exact ⟨W', FX', NS.kp rfl (fun _ => rfl) rfl f (by decide), LP.mv v rfl (fun _ => ⟨rfl, rfl⟩) f (by decide), fun k hk => absurd hk (Nat.not_lt_zero _), ⟨h1, h2, h3⟩, hy, h5⟩
theorem BS.md138 (h : BS zb z7 C B P mss fss V I Bm Lp x3 D M σ K N E A Wn) (hy : (x3' = 1 ∧ ¬ y = 0) ∨ (x3' = 0 ∧ y = 0)) : BS zb z7 C B P mss fss V I Bm Lp x3' D M (tsI σ 138 y) K N E A Wn ∧ BTr V C P K N D M σ D M (tsI σ 138 y) := by
  have f : Ft [138] σ (tsI σ 138 y) := (Ft.rf _ σ).p_tsI rfl
  have nk : NdK D M σ D M (tsI σ 138 y) 106 K N := NdK.tws f (by decide)
  exact ⟨⟨h.1.md138 hy, h.2.mv h.fw h.hV nk (Nat.le_refl _) (Nat.le_refl _) (T := fun _ => False) Fq.rf (fun _ z => z.elim) (Dx.rf D M) (fun _ _ => rfl) f (by decide)⟩, (h.fw.wzT f (by decide)).2, Dx.rf D M, nk, SgX.tw f (by decide), fun _ _ _ _ _ => rfl, fun k hk v => (f k (by
    have : ∀ k, k ∈ vkL → [138].contains k = false := by decide
    exact this k hk)).2.2.1 v⟩
/-- a step of parameters -/
theorem BX.e4 (hz : zb ≤ 1) (h : BX zb D M σ V K N E A Wn) (W : FW C B P mss fss D M σ) (hV : V ≤ (pl D 98).length) (E4 : E4o D V M M') (nk : NdK D M σ D M' σ' 106 K N) (f : Ft prS σ σ') (i : mI M' 33 1 = nI 0 ∧ tI σ' 161 = nI 0 ∧ tI σ' 171 = nI 0) (fl : ∀ v, v < V → Fl1 D M' σ' v) : BX 1 D M' σ' V K N E A Wn := by
  obtain ⟨bv, ⟨b1, b5⟩, ⟨c1, c5⟩, ⟨d1, d5⟩, j1, j2, j3, j4⟩ := h
  rw [show Wn + zb / 2 = Wn + 1 / 2 by omega] at d1
  have rr := E4.2.2.2.1
  have aa := E4.2.2.2.2.2
  have ii : ∀ g o, g ≠ 33 → g ≠ 3213 → g ≠ 3215 → g ≠ 3216 → mI M' g o = mI M g o := fun g o h1 h2 h3 h4 => E4.2.2.1 g o (by omega) (by omega)
  refine ⟨fun u hu => ?_, ⟨⟨(ii _ _ (by decide) (by decide) (by decide) (by decide)).trans b1.1, ((f 143 rfl).1).trans b1.2.1, b1.2.2⟩, fun k hk => ?_⟩, ⟨⟨(ii _ _ (by decide) (by decide) (by decide) (by decide)).trans c1.1, ((f 152 rfl).1).trans c1.2.1, c1.2.2⟩, fun k hk => ?_⟩, ⟨⟨(ii _ _ (by decide) (by decide) (by decide) (by decide)).trans d1.1, ((f 148 rfl).1).trans d1.2.1, d1.2.2⟩, fun k hk => ?_⟩, ⟨j1.1.mv (aa 115) (f 155 rfl).2.2.1 (f 74 rfl).2.2.1 (f 75 rfl).2.2.1, by rw [(f 130 rfl).1]; exact j1.2.1, j1.2.2.mv ⟨ii 32 1 (by decide) (by decide) (by decide) (by decide), ii 41 1 (by decide) (by decide) (by decide) (by decide), ii 43 1 (by decide) (by decide) (by decide) (by decide)⟩ (fun j => (Fz.so (E4.fq W hV) (by have := W.n167; omega) (fun z => by
    rw [tgo_s (by decide)] at z
    rcases z with z | ⟨k, -, z⟩
    · omega
    · unfold tg at z; omega)).x j) (fun _ _ => rfl) (Nat.le_refl _) f (by decide)⟩, fun _ => i.1, i.2.1, i.2.2, fun _ => (j4.2 hz).ft nk.n4 (Nat.le_refl _) (Nat.le_refl _) f (by decide)⟩
  · obtain ⟨x1, x2, x3⟩ := bv u hu
    exact ⟨x1.mv nk (Nat.le_refl _) (Nat.le_refl _) (rr _ _) ((f 158 rfl).2.2.1 u), x2.mv nk (Nat.le_refl _) (Nat.le_refl _) (rr _ _) ((f 159 rfl).2.2.1 u), (fl u hu).1, fun z => absurd z (by decide), fun _ => fl u hu⟩
  · exact (b5 k hk).mv nk (Nat.le_refl _) (Nat.le_refl _) (fun g _ => rr _ _) ⟨(f 141 rfl).2.2.1 k, (f 142 rfl).2.2.1 k⟩
  · exact (c5 k hk).mv nk (Nat.le_refl _) (Nat.le_refl _) (fun g hg => ii _ _ (by omega) (by omega) (by omega) (by omega)) (rr _ _) (fun g hg => (f g (by rcases hg with rfl | rfl | rfl <;> rfl)).2.2.1 k)
  · exact (d5 k hk).mv nk (Nat.le_refl _) (Nat.le_refl _) (Nat.le_refl _) (fun g hg => ii _ _ (by omega) (by omega) (by omega) (by omega)) (rr _ _) (fun g hg => (f g (by rcases hg with rfl | rfl | rfl <;> rfl)).2.2.1 k)
theorem BS.e4 (hz : zb ≤ 1) (h : BS zb z7 C B P mss fss V I Bm Lp x3 D M σ K N E A Wn) (E4 : E4o D V M M') (f : Ft prS σ σ') (i : mI M' 33 1 = nI 0 ∧ tI σ' 161 = nI 0 ∧ tI σ' 171 = nI 0) (fl : ∀ v, v < V → Fl1 D M' σ' v) : BS 1 z7 C B P mss fss V I Bm Lp x3 D M' σ' K N E A Wn ∧ BTr V C P K N D M σ D M' σ' := by
  have W := h.fw
  have hV := h.hV
  obtain ⟨W', vz⟩ := E4.fw W hV f (by decide)
  obtain ⟨Fs', bt⟩ := h.1.bw ⟨rfl, rfl⟩ W' vz (E4.fq W hV.1) (fun t z => by
    rcases z with z | ⟨k, hk, z⟩ <;> rw [z] <;> unfold TW tg <;> omega) (fun k hk => ⟨fun g hg => E4.2.2.1 _ _ (fun z => by
      have := (W.2.1.2.1 98 (by decide) k (by omega)).2.1; omega) (by omega), fun g _ => E4.2.2.2.1 _ _⟩) (Dx.rf D M) ⟨fun g hg => E4.2.2.1 _ _ (fun z => by rw [z.1] at hg; exact absurd hg (by decide)) (by omega), fun g => E4.2.2.2.1 _ _⟩ ⟨rfl, rfl⟩ f (by decide) (by decide) (by decide)
  exact ⟨⟨Fs', h.2.e4 hz W h.hV.1 E4 bt.2.2.1 f i fl⟩, bt⟩
theorem BS.hl (h : BS zb z7 C B P mss fss V I Bm Lp x3 D M σ K N E A Wn) : K ≤ (pl D 106).length ∧ N ≤ 70000 := ⟨h.1.2.2.1.2.1.2.1, by have := h.1.nl; omega⟩
theorem BS.pr0 (h : BS 1 z7 C B P mss fss V I Bm Lp x3 D M σ K N E A Wn) : PrI D V M σ 0 0 (fun _ => 0) M σ := ⟨⟨E4o.rf, Ft.rf _ _⟩, ⟨h.h0, h.2.2.2.2.2.2.2.2.1, fun j hj => absurd hj (Nat.not_lt_zero _)⟩, ⟨h.2.2.2.2.2.2.1 (by decide), h.2.2.2.2.2.2.2.1⟩, fun v hv => (h.2.1 v hv).2.2.2.2 (by decide)⟩
theorem PrB.fb {t : Nat → Int32} (g : PrB C B P mss fss M σ 0 t M' σ' w) (h : BS zb z7 C B P mss fss V I Bm Lp x3 D M σ K N E A Wn) : FfB C B P mss fss M M' σ σ' w := by
  obtain ⟨g1, g2, f⟩ := g
  exact ⟨g1, ⟨N, h.hl.2, by rw [(f 126 rfl).1]; exact h.1.2.2.1.2.2.1.1⟩, ⟨E, h.2.2.1.1.2.2.1, by rw [(f 143 rfl).1]; exact h.2.2.1.1.2.1⟩, g2⟩
/-- one parameter, both sides -/
theorem z_param1 (h : BS 1 z7 C B P mss fss V I Bm Lp x3 D M σ K N E A Wn) (hv : v < V) : BO 1 z7 C B P mss fss V I Bm Lp x3 id D M σ K N E A Wn (K_X0_parameter (nI v) M) (F_parameter (nI v) σ) := by
  have hX : ∀ v, v < V → Vx1 D M σ V K N v := fun v hv => (h.2.1 v hv).1
  have recE := (fx_all (D := D) (M0 := M) (σ0 := σ) (K := K) (N := N) (K2 := 0) (N2 := 0) h.fw h.hV ⟨h.hl, Nat.zero_le _, Nat.zero_le _⟩ hX 7 1 rfl 100).1
  have := z_par (kf := 1000) (tf := 1900) (u := 0) (s := 0) (K2 := 0) (N2 := 0) h.fw h.hV h.hl hX (Nat.zero_le _) (fun _ => recE) hv ⟨by decide, fun _ => by decide⟩ ⟨by decide, fun _ => by decide⟩ (fun _ => by decide) h.pr0
  rcases this with ⟨M', σ', w, e1, e2, g⟩ | ⟨x, M', σ', e1, e2, ⟨⟨E4, f⟩, ⟨i1, i2, i3⟩, ⟨i4, i5⟩, i6⟩, -⟩
  · exact Or.inl ⟨M', σ', w, (), e1, e2, g.fb h⟩
  · obtain ⟨h', bt⟩ := h.e4 (by decide) E4 f ⟨i4, i5, i2⟩ i6
    exact Or.inr ⟨D, M', σ', K, N, E, A, Wn, x, (), e1, e2, h', ⟨Nat.le_refl _, Nat.le_refl _, Nat.le_refl _, Nat.le_refl _, Nat.le_refl _⟩, bt⟩
theorem t_351b (h : tI σ 0 ≠ 0) (x : Int32) : L_makeFlat_351 (k + 1) x σ = some ((), σ) := by
  unfold L_makeFlat_351
  by_cases q : tI σ 107 ≤ x
  · rw [ifT q]
  · rw [ifF q, t_isBad1 h, ob_some, ifF (show ¬ (1 : Int32) = 0 by decide)]
/-- all parameters -/
theorem z_params : ∀ (m j kf tf : Nat) D M σ K N E A Wn, j + m = V → m < kf → m < tf → BS 1 z7 C B P mss fss V I Bm Lp x3 D M σ K N E A Wn → BO (γ := Unit) 1 z7 C B P mss fss V I Bm Lp x3 Sum.inr D M σ K N E A Wn (KL_X0_workParameters_53 kf (nI j) M) (L_makeFlat_351 tf (nI j) σ) := by
  intro m
  induction m with
  | zero =>
    intro j kf tf D M σ K N E A Wn hj hk ht h
    obtain ⟨kf, rfl⟩ : ∃ g, kf = g + 1 := ⟨kf - 1, by omega⟩
    obtain ⟨tf, rfl⟩ : ∃ g, tf = g + 1 := ⟨tf - 1, by omega⟩
    have c1 := h.fx.2.2.1.1
    have c2 := h.fx.2.2.2.1.1
    have hV := h.hV
    have le : nI V ≤ nI j := (bI_le (by omega) (by omega)).mpr (by omega)
    refine Or.inr ⟨D, M, σ, K, N, E, A, Wn, (), (), ?_, ?_, h, ⟨Nat.le_refl _, Nat.le_refl _, Nat.le_refl _, Nat.le_refl _, Nat.le_refl _⟩, BTr.rf h.cn⟩
    · unfold KL_X0_workParameters_53
      rw [c2, ifT le]
    · unfold L_makeFlat_351
      rw [c1, ifT le]
  | succ m ih =>
    intro j kf tf D M σ K N E A Wn hj hk ht h
    obtain ⟨kf, rfl⟩ : ∃ g, kf = g + 1 := ⟨kf - 1, by omega⟩
    obtain ⟨tf, rfl⟩ : ∃ g, tf = g + 1 := ⟨tf - 1, by omega⟩
    have c1 := h.fx.2.2.1.1
    have c2 := h.fx.2.2.2.1.1
    have hV := h.hV
    have le : ¬ nI V ≤ nI j := fun z => by have := (bI_le (by omega) (by omega)).mp z; omega
    obtain ⟨⟨g1, g2⟩, ⟨x, x1, x2, x4⟩, -⟩ := h.vr (v := j) (by omega)
    have hj96 : inb (nI j) 96 := inb_nI' (by omega) (by decide)
    have ej : ix (nI j) = j := ix_nI (by omega)
    have nx : nI j + 1 = nI (j + 1) := nI_addL j 1
    unfold KL_X0_workParameters_53 L_makeFlat_351
    rw [c2, c1, ifF le, ifF le, g1, ob_some, ifT (Or.inr g2), ifT g2, t_isBad0 h.h0, ob_some, ifT (rfl : (0 : Int32) = 0), ifT hj96, ej]
    by_cases kd : x = 1
    · have e1 : mI M 3203 ((pl D 98).getD j 0) = 1 := by rw [x2, kd]; rfl
      have e2 : tA σ 94 j = 1 := by rw [x4, kd]; rfl
      rw [ifT e1, ifT e2]
      refine (z_param1 h (v := j) (by omega)).seq (fun _ _ => rfl) (fun M' σ' w y g => ?_) (fun D' M' σ' K' N' E' A' Wn' r y h' le bt => ?_)
      · obtain ⟨tf', rfl⟩ : ∃ g, tf = g + 1 := ⟨tf - 1, by omega⟩
        exact ⟨(), σ', by rw [nm_eq, t_351b g.ne], g⟩
      · rw [nm_eq, nm_eq, nx]
        exact ih (j + 1) kf tf D' M' σ' K' N' E' A' Wn' (by omega) (by omega) (by omega) h'
    · have e1 : ¬ mI M 3203 ((pl D 98).getD j 0) = 1 := fun z => kd ((bI_eq (b := 1) (by omega) (by decide)).mp (x2 ▸ z))
      have e2 : ¬ tA σ 94 j = 1 := fun z => kd ((bI_eq (b := 1) (by omega) (by decide)).mp (x4 ▸ z))
      rw [ifF e1, ifF e2, nx, nm_eq, nm_eq]
      exact ih (j + 1) kf tf D M σ K N E A Wn (by omega) (by omega) (by omega) h
/-- nothing is known of any variable -/
theorem k_flags (W : FW C B P mss fss D M σ) (hV : V ≤ (pl D 98).length ∧ V ≤ 96) (h15 : mI M 15 1 = nI V) : ∃ M', KL_X0_workParameters_7 FU 0 M = some ((), M') ∧ E4o D V M M' ∧ mI M' 33 1 = mI M 33 1 ∧ ∀ v, v < V → mI M' 3213 ((pl D 98).getD v 0) = mI M 3213 ((pl D 98).getD v 0) ∧ mI M' 3215 ((pl D 98).getD v 0) = 0 ∧ mI M' 3216 ((pl D 98).getD v 0) = 0 := by
  have main : ∀ (m j kf : Nat) M1, j + m = V → m < kf → E4o D V M M1 → mI M1 33 1 = mI M 33 1 → (∀ v, v < V → mI M1 3213 ((pl D 98).getD v 0) = mI M 3213 ((pl D 98).getD v 0) ∧ (v < j → mI M1 3215 ((pl D 98).getD v 0) = 0 ∧ mI M1 3216 ((pl D 98).getD v 0) = 0)) → ∃ M', KL_X0_workParameters_7 kf (nI j) M1 = some ((), M') ∧ E4o D V M M' ∧ mI M' 33 1 = mI M 33 1 ∧ ∀ v, v < V → mI M' 3213 ((pl D 98).getD v 0) = mI M 3213 ((pl D 98).getD v 0) ∧ mI M' 3215 ((pl D 98).getD v 0) = 0 ∧ mI M' 3216 ((pl D 98).getD v 0) = 0 := by
    intro m
    induction m with
    | zero =>
      intro j kf M1 hj hk E4 h33 hh
      obtain ⟨kf, rfl⟩ : ∃ g, kf = g + 1 := ⟨kf - 1, by omega⟩
      refine ⟨M1, ?_, E4, h33, fun v hv => ⟨(hh v hv).1, (hh v hv).2 (by omega)⟩⟩
      unfold KL_X0_workParameters_7
      rw [E4.2.2.1 15 1 (by omega) (by omega), h15, ifT ((bI_le (by omega) (by omega)).mpr (by omega))]
    | succ m ih =>
      intro j kf M1 hj hk E4 h33 hh
      obtain ⟨kf, rfl⟩ : ∃ g, kf = g + 1 := ⟨kf - 1, by omega⟩
      have hp : ∀ v, v < V → 167 ≤ (pl D 98).getD v 0 := fun v hv => (W.2.1.2.1 98 (by decide) v (by omega)).2.1.1
      have ne : ∀ v, v < V → v ≠ j → (pl D 98).getD v 0 ≠ (pl D 98).getD j 0 := fun v hv hj e => hj (W.2.1.inj (by decide) (by decide) (by omega) (by omega) e).2
      obtain ⟨o, ho⟩ : ∃ o, o = (pl D 98).getD j 0 := ⟨_, rfl⟩
      have E5 : E4o D V M (msI M1 3215 o 0) := E4.tr (by rw [ho]; exact E4o.wv (Or.inr (Or.inl rfl)) (by omega) (hp j (by omega)))
      have E6 : E4o D V M (msI (msI M1 3215 o 0) 3216 o 0) := E5.tr (by rw [ho]; exact E4o.wv (Or.inr (Or.inr rfl)) (by omega) (hp j (by omega)))
      have get : ∀ M1, E4o D V M M1 → K_J2_get 98 (nI j) M1 = some (o, M1) ∧ mk M1 o = 17 := fun M1 E4 => by
        obtain ⟨W1, -⟩ := E4.fw W hV (Ft.rf [] σ) (by decide)
        rw [ho]
        exact ⟨ls_get (W1.2.1.1 98 (by decide)).1 (by omega), (W1.2.1.2.1 98 (by decide) j (by omega)).1⟩
      have op := hp j (by omega)
      rw [← ho] at op
      obtain ⟨M', e1, e2⟩ := ih (j + 1) kf (msI (msI M1 3215 o 0) 3216 o 0) (by omega) (by omega) E6 (by rw [mI_msI, ifF (by omega), mI_msI, ifF (by omega)]; exact h33) (fun v hv => by
        refine ⟨by rw [mI_msI, ifF (by omega), mI_msI, ifF (by omega)]; exact (hh v hv).1, fun hv2 => ?_⟩
        by_cases q : v = j
        · rw [q, ← ho]
          exact ⟨by rw [mI_msI, ifF (by omega), mI_msI, ifT ⟨rfl, rfl⟩], by rw [mI_msI, ifT ⟨rfl, rfl⟩]⟩
        · have ne' := ne v hv q
          rw [← ho] at ne'
          obtain ⟨q1, q2⟩ := (hh v hv).2 (by omega)
          exact ⟨by rw [mI_msI, ifF (fun z => ne' z.2), mI_msI, ifF (fun z => ne' z.2)]; exact q1, by rw [mI_msI, ifF (fun z => ne' z.2), mI_msI, ifF (fun z => ne' z.2)]; exact q2⟩)
      refine ⟨M', ?_, e2⟩
      unfold KL_X0_workParameters_7
      have nx : nI j + 1 = nI (j + 1) := nI_addL j 1
      rw [E4.2.2.1 15 1 (by omega) (by omega), h15, ifF (fun z => by have := (bI_le (by omega) (by omega)).mp z; omega), (get M1 E4).1, ob_some, ifT (Or.inr (get M1 E4).2), ifT (get M1 E4).2, nm_eq, (get _ E5).1, ob_some, ifT (Or.inr (get _ E5).2), ifT (get _ E5).2, nm_eq, nm_eq, nx]
      exact e1
  have hFU : 96 < FU := by unfold FU; decide
  exact main V 0 FU M (by omega) (by omega) E4o.rf rfl (fun v hv => ⟨rfl, fun z => absurd z (Nat.not_lt_zero _)⟩)
/-- from trees to values: the head of K_X0_workParameters -/
theorem z_wp0 (h : BS 0 z7 C B P mss fss V I Bm Lp 1 D M σ K N E A Wn) : ∃ M2, K_X0_workParameters M = (obS (KL_X0_workParameters_53 FU 0 M2) (fun r40 M37 => some (r40, M37)) fun q36 M37 => some (.inl (), M37)) ∧ BS 1 z7 C B P mss fss V I Bm Lp 0 D M2 (tsI σ 138 0) K N E A Wn ∧ BTr V C P K N D M σ D M2 (tsI σ 138 0) := by
  obtain ⟨h1, bt1⟩ := h.md138 (x3' := 0) (y := 0) (Or.inr ⟨rfl, rfl⟩)
  have W := h1.fw
  have hV := h1.hV
  have E0 : E4o D V M (msI M 33 1 0) := E4o.w33
  obtain ⟨W0, -⟩ := E0.fw W hV (Ft.rf [] _) (by decide)
  obtain ⟨M2, e1, E2, e33, ef⟩ := k_flags W0 hV (by rw [mI_msI, ifF (by omega)]; exact h1.fx.2.2.2.1.1)
  have i33 : mI M2 33 1 = nI 0 := by rw [e33, mI_msI, ifT ⟨rfl, rfl⟩]; rfl
  obtain ⟨h2, bt2⟩ := h1.e4 (by decide) (E0.tr E2) (Ft.rf _ _) ⟨i33, h1.2.2.2.2.2.2.2.1, h1.2.2.2.2.2.2.2.2.1⟩ (fun v hv => by
    obtain ⟨f1, f2, f3⟩ := ef v hv
    obtain ⟨g1, g2, -⟩ := (h1.2.1 v hv).2.2
    have : mI (msI M 33 1 0) 3213 ((pl D 98).getD v 0) = mI M 3213 ((pl D 98).getD v 0) := by rw [mI_msI, ifF (by omega)]
    exact ⟨by rw [f1, this]; exact g1, Or.inr (Or.inr ⟨f2, f3, g2 rfl⟩)⟩)
  refine ⟨M2, ?_, h2, bt1.tr bt2 (Nat.le_refl _) (Nat.le_refl _)⟩
  unfold K_X0_workParameters
  rw [nm_eq, e1, ob_some]
end PARS5
