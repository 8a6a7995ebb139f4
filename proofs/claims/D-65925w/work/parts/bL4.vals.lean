/-! Layer B: the flat model: parameters' trees, value equations, starts: loops over variables -/
set_option maxRecDepth 100000
section VALS
variable {zb : Nat} {C : PC} {D D' D1 D2 : FQ} {M M' M1 M2 M3 M0 : CM} {σ σ' σ1 σ2 σ0 s1 : TS} {mss fss : List Nat} {B V I Bm K N K' N' E A Wn E' A' Wn' v l k x0 dc md X N0 Lp w d s o n i nf R a b n1 n2 f j : Nat} {P T : Nat → Prop} {x3 y r : Int32} {z7 : Nat → Nat} {S : List Nat}
/-- a variable's tree is written -/
theorem BS.wv (h : BS zb z7 C B P mss fss V I Bm Lp x3 D M σ K N E A Wn) (hv : v < V) (hf : (f = 3210 ∧ k = 158) ∨ (f = 3211 ∧ k = 159)) (nd : NdR 1 D M σ 106 V 100 0 K N a n) : BS zb z7 C B P mss fss V I Bm Lp x3 D (msR M f ((pl D 98).getD v 0) a) (tsA σ k v (nI n)) K N E A Wn ∧ BTr V C P K N D M σ D (msR M f ((pl D 98).getD v 0) a) (tsA σ k v (nI n)) := by
  have W := h.fw
  have hV := h.hV
  obtain ⟨q1, q2, q3⟩ := W.2.1.2.1 98 (by decide) v (by omega)
  obtain ⟨M', hM⟩ : ∃ q, q = msR M f ((pl D 98).getD v 0) a := ⟨_, rfl⟩
  obtain ⟨σ', hσ⟩ : ∃ q, q = tsA σ k v (nI n) := ⟨_, rfl⟩
  rw [← hM, ← hσ]
  have F : Fz (fun o => o = (pl D 98).getD v 0) M M' := by rw [hM]; exact Fz.rf.msR (fun _ => rfl)
  have rr : ∀ g o, ¬ (g = f ∧ o = (pl D 98).getD v 0) → mR M' g o = mR M g o := fun g o z => by rw [hM, mR_msR, ifF z]
  have ii : ∀ g o, mI M' g o = mI M g o := fun g o => by rw [hM]; rfl
  have aa : ∀ o j, mA M' o j = mA M o j := fun o j => by rw [hM]; rfl
  have ft : Ft [158, 159] σ σ' := by rw [hσ]; exact (Ft.rf _ σ).p_tsA (by rcases hf with ⟨-, rfl⟩ | ⟨-, rfl⟩ <;> rfl)
  obtain ⟨W', vz, -⟩ := W.w2 F (fun o _ z => Or.inr (by
    rw [z, q3]
    exact ⟨q2.1, by unfold tg; omega, fun j => by unfold tg; omega⟩)) (by rw [hM]; exact ⟨rfl, rfl⟩) (fun o => ⟨rr _ _ (by omega), rr _ _ (by omega), by rw [hM]; rfl⟩) (fun o => rr _ _ (by omega)) (ii _ _) (fun q hq => rr _ _ (by
      have := fixO q hq
      omega)) (fun q _ => ii _ _) ft (by decide)
  have fq : Fq D (fun t => t = tg 98 v) M M' := F.mono (fun o ho z => by rw [z, W.2.1.tv (by decide) (by omega)])
  obtain ⟨Fs', bt⟩ := h.1.bw ⟨rfl, rfl⟩ W' vz fq (fun t z => by rw [z]; unfold TW tg; omega) (fun k hk => ⟨fun f _ => ii _ _, fun g hg => rr _ _ (by omega)⟩) (Dx.rf D M) ⟨fun f _ => ii _ _, fun f => rr _ _ (by omega)⟩ ⟨rfl, rfl⟩ ft (by decide) (by decide) (by decide)
  refine ⟨⟨Fs', ?_⟩, bt⟩
  have nk := bt.2.2.1
  have nd' := NdR.mv nk (Nat.le_refl _) (Nat.le_refl _) (Nat.le_refl V) 100 100 0 _ _ (Nat.le_refl _) nd
  obtain ⟨-, bv, ⟨b1, b5⟩, ⟨c1, c5⟩, ⟨d1, d5⟩, j1, j2, j3, j4⟩ := h
  have inj : ∀ u, u < V → (pl D 98).getD u 0 = (pl D 98).getD v 0 → u = v := fun u hu e => (W.2.1.inj (by decide) (by decide) (by omega) (by omega) e).2
  have t8 : ∀ u, tA σ' 158 u = if k = 158 ∧ u = v then nI n else tA σ 158 u := fun u => by
    rw [hσ, tA_tsA]
    by_cases q : 158 = k ∧ u = v
    · rw [ifT q, ifT ⟨q.1.symm, q.2⟩]
    · rw [ifF q, ifF (fun z => q ⟨z.1.symm, z.2⟩)]
  have t9 : ∀ u, tA σ' 159 u = if k = 159 ∧ u = v then nI n else tA σ 159 u := fun u => by
    rw [hσ, tA_tsA]
    by_cases q : 159 = k ∧ u = v
    · rw [ifT q, ifT ⟨q.1.symm, q.2⟩]
    · rw [ifF q, ifF (fun z => q ⟨z.1.symm, z.2⟩)]
  refine ⟨fun u hu => ?_, ⟨⟨(ii _ _).trans b1.1, ((ft 143 rfl).1).trans b1.2.1, b1.2.2⟩, fun k hk => ?_⟩, ⟨⟨(ii _ _).trans c1.1, ((ft 152 rfl).1).trans c1.2.1, c1.2.2⟩, fun k hk => ?_⟩, ⟨⟨(ii _ _).trans d1.1, ((ft 148 rfl).1).trans d1.2.1, d1.2.2⟩, fun k hk => ?_⟩, ⟨j1.1.mv (aa 115) (ft 155 rfl).2.2.1 (ft 74 rfl).2.2.1 (ft 75 rfl).2.2.1, by rw [(ft 130 rfl).1]; exact j1.2.1, j1.2.2.mv ⟨ii 32 1, ii 41 1, ii 43 1⟩ (fun j => by rw [hM]; rfl) (fun _ _ => rfl) (Nat.le_refl _) ft (by decide)⟩, fun z => (ii _ _).trans (j2 z), ((ft 161 rfl).1).trans j3, ((ft 171 rfl).1).trans j4.1, fun zz => (j4.2 zz).ft nk.n4 (Nat.le_refl _) (Nat.le_refl _) ft (by decide)⟩
  · obtain ⟨x1, x2, x3⟩ := bv u hu
    refine ⟨?_, ?_, x3.mv (fun g _ => ii _ _) ⟨(ft 104 rfl).2.2.1 u, (ft 160 rfl).2.2.1 u⟩⟩
    · by_cases q : k = 158 ∧ u = v
      · have hf1 : f = 3210 := by omega
        have e : mR M' 3210 ((pl D 98).getD u 0) = a := by rw [hM, mR_msR, ifT ⟨hf1.symm, by rw [q.2]⟩]
        exact Or.inr ⟨n, by rw [t8, ifT q], by rw [e]; exact nd'⟩
      · refine x1.mv nk (Nat.le_refl _) (Nat.le_refl _) (rr _ _ (fun z => q ⟨by omega, inj u hu z.2⟩)) (by rw [t8, ifF q])
    · by_cases q : k = 159 ∧ u = v
      · have hf1 : f = 3211 := by omega
        have e : mR M' 3211 ((pl D 98).getD u 0) = a := by rw [hM, mR_msR, ifT ⟨hf1.symm, by rw [q.2]⟩]
        exact Or.inr ⟨n, by rw [t9, ifT q], by rw [e]; exact nd'⟩
      · refine x2.mv nk (Nat.le_refl _) (Nat.le_refl _) (rr _ _ (fun z => q ⟨by omega, inj u hu z.2⟩)) (by rw [t9, ifF q])
  · have : (pl D 111).getD k 0 ≠ (pl D 98).getD v 0 := fun e => absurd (W.2.1.inj (l := 111) (l' := 98) (by decide) (by decide) (by omega) (by omega) e).1 (by decide)
    exact (b5 k hk).mv nk (Nat.le_refl _) (Nat.le_refl _) (fun g _ => rr _ _ (fun z => this z.2)) ⟨(ft 141 rfl).2.2.1 k, (ft 142 rfl).2.2.1 k⟩
  · have : (pl D 112).getD k 0 ≠ (pl D 98).getD v 0 := fun e => absurd (W.2.1.inj (l := 112) (l' := 98) (by decide) (by decide) (by omega) (by omega) e).1 (by decide)
    exact (c5 k hk).mv nk (Nat.le_refl _) (Nat.le_refl _) (fun g _ => ii _ _) (rr _ _ (fun z => this z.2)) (fun g hg => (ft g (by rcases hg with rfl | rfl | rfl <;> rfl)).2.2.1 k)
  · have : (pl D 113).getD k 0 ≠ (pl D 98).getD v 0 := fun e => absurd (W.2.1.inj (l := 113) (l' := 98) (by decide) (by decide) (by omega) (by omega) e).1 (by decide)
    exact (d5 k hk).mv nk (Nat.le_refl _) (Nat.le_refl _) (Nat.le_refl _) (fun g _ => ii _ _) (rr _ _ (fun z => this z.2)) (fun g hg => (ft g (by rcases hg with rfl | rfl | rfl <;> rfl)).2.2.1 k)
/-- variable v as the loops over variables see it -/
theorem BS.vr (h : BS zb z7 C B P mss fss V I Bm Lp x3 D M σ K N E A Wn) (hv : v < V) : (K_J2_get 98 (nI v) M = some ((pl D 98).getD v 0, M) ∧ mk M ((pl D 98).getD v 0) = 17) ∧ (∃ x, x < 3 ∧ mI M 3203 ((pl D 98).getD v 0) = nI x ∧ tA σ 94 v = nI x) ∧ AxR C P D M σ I (mR M 3206 ((pl D 98).getD v 0)) (mR M 3207 ((pl D 98).getD v 0)) (tA σ 100 v) (tA σ 101 v) ∧ AxR C P D M σ I (mR M 3208 ((pl D 98).getD v 0)) (mR M 3209 ((pl D 98).getD v 0)) (tA σ 102 v) (tA σ 103 v) := by
  have W := h.fw
  have hV := h.hV
  obtain ⟨-, -, x3, -, -, x6, x7, -⟩ := h.fx.1.2.2.2 v hv
  exact ⟨⟨ls_get (W.2.1.1 98 (by decide)).1 (by omega), (W.2.1.2.1 98 (by decide) v (by omega)).1⟩, x3, x6, x7⟩
theorem t_280b (h : tI σ 0 ≠ 0) (x : Int32) : L_makeFlat_280 (k + 1) x σ = some ((), σ) := by
  unfold L_makeFlat_280
  by_cases q : tI σ 107 ≤ x
  · rw [ifT q]
  · rw [ifF q, t_isBad1 h, ob_some, ifF (show ¬ (1 : Int32) = 0 by decide)]
/-- parameters' trees -/
theorem z_parTrees (hB1 : B ≤ 1280) : ∀ (m j kf tf : Nat) D M σ K N, j + m = V → m < kf → m < tf → BS zb z7 C B P mss fss V I Bm Lp 1 D M σ K N E A Wn → BO (γ := Unit) zb z7 C B P mss fss V I Bm Lp 1 Sum.inr D M σ K N E A Wn (KL_X0_flatten_128 kf (nI j) M) (L_makeFlat_280 tf (nI j) σ) := by
  intro m
  induction m with
  | zero =>
    intro j kf tf D M σ K N hj hk ht h
    obtain ⟨kf, rfl⟩ : ∃ g, kf = g + 1 := ⟨kf - 1, by omega⟩
    obtain ⟨tf, rfl⟩ : ∃ g, tf = g + 1 := ⟨tf - 1, by omega⟩
    have c1 := h.fx.2.2.1.1
    have c2 := h.fx.2.2.2.1.1
    have hV := h.hV
    have le : nI V ≤ nI j := (bI_le (by omega) (by omega)).mpr (by omega)
    refine Or.inr ⟨D, M, σ, K, N, E, A, Wn, (), (), ?_, ?_, h, ⟨Nat.le_refl _, Nat.le_refl _, Nat.le_refl _, Nat.le_refl _, Nat.le_refl _⟩, BTr.rf h.cn⟩
    · unfold KL_X0_flatten_128
      rw [c2, ifT le]
    · unfold L_makeFlat_280
      rw [c1, ifT le]
  | succ m ih =>
    intro j kf tf D M σ K N hj hk ht h
    obtain ⟨kf, rfl⟩ : ∃ g, kf = g + 1 := ⟨kf - 1, by omega⟩
    obtain ⟨tf, rfl⟩ : ∃ g, tf = g + 1 := ⟨tf - 1, by omega⟩
    have c1 := h.fx.2.2.1.1
    have c2 := h.fx.2.2.2.1.1
    have hV := h.hV
    have le : ¬ nI V ≤ nI j := fun z => by have := (bI_le (by omega) (by omega)).mp z; omega
    obtain ⟨⟨g1, g2⟩, ⟨x, x1, x2, x4⟩, ax, -⟩ := h.vr (v := j) (by omega)
    have hj96 : inb (nI j) 96 := inb_nI' (by omega) (by decide)
    have ej : ix (nI j) = j := ix_nI (by omega)
    obtain ⟨rec, hrec⟩ : ∃ q, q = KL_X0_flatten_128 kf := ⟨_, rfl⟩
    obtain ⟨trec, htrec⟩ : ∃ q, q = L_makeFlat_280 tf := ⟨_, rfl⟩
    have ih' := fun D M σ K N h => ih (j + 1) kf tf D M σ K N (by omega) (by omega) (by omega) h
    rw [← hrec, ← htrec] at ih'
    unfold KL_X0_flatten_128 L_makeFlat_280
    rw [c2, c1, ifF le, ifF le, g1, ob_some, ifT (Or.inr g2), ifT g2, t_isBad0 h.h0, ob_some, ifT (rfl : (0 : Int32) = 0), ifT hj96, ej, ← hrec, ← htrec]
    have nx : nI j + 1 = nI (j + 1) := nI_addL j 1
    by_cases kd : x = 1
    · have e1 : mI M 3203 ((pl D 98).getD j 0) = 1 := by rw [x2, kd]; rfl
      have e2 : tA σ 94 j = 1 := by rw [x4, kd]; rfl
      rw [ifT e1, ifT e2, ifT g2, ifT hj96]
      rcases ax with ⟨a1, a2⟩ | ⟨a1, n, d, a2, a3, a4, a5, i, a6, a7, a8⟩
      · rw [ifT a1, ifT a2, nx, nm_eq, nm_eq]
        exact ih' D M σ K N h
      · have hn0 : ¬ tA σ 100 j = 0 := fun z => by
          rw [a2] at z
          have := (bI_eq (b := 0) (by omega) (by decide)).mp z; omega
        rw [ifF a1, ifF hn0, ifT g2, ifT g2, ifT hj96, ifT hj96, a2, a8, a7]
        rw [h.fw.1.2.1.2.1] at a5
        refine h.fl hB1 a6 (Nat.le_refl _) a5 (fun M' σ' w y g _ => ?_) (fun D' M' σ' K' N' a n' h' le bt _ nd _ => ?_)
        · obtain ⟨tf', rfl⟩ : ∃ g, tf = g + 1 := ⟨tf - 1, by omega⟩
          refine ⟨(), tsA σ' 158 j y, ?_, g.tws (S := [158]) ((Ft.rf _ σ').p_tsA rfl) (by decide) (by decide) ⟨rfl, rfl⟩ ⟨rfl, rfl, rfl⟩⟩
          show (if inb (nI j) 96 then nm (tsA σ' 158 j y) fun s94 => nm (nI j + 1) fun v95 => trec v95 s94 else none) = _
          rw [ifT hj96, nm_eq, nm_eq, htrec]
          exact t_280b (σ := tsA σ' 158 j y) g.ne _
        · have e98 : (pl D' 98).getD j 0 = (pl D 98).getD j 0 := (bt.2.1.1 98 j (by omega)).2
          obtain ⟨h2, bt2⟩ := h'.wv (f := 3210) (k := 158) (v := j) (by omega) (Or.inl ⟨rfl, rfl⟩) nd
          have k2 := (h'.vr (v := j) (by omega)).1.2
          rw [e98] at h2 bt2 k2
          show BO zb z7 C B P mss fss V I Bm Lp 1 Sum.inr D' M' σ' K' N' E A Wn (if mk M' ((pl D 98).getD j 0) = 17 then nm (msR M' 3210 ((pl D 98).getD j 0) a) fun M64 => nm (nI j + 1) fun v65 => rec v65 M64 else none) (if inb (nI j) 96 then nm (tsA σ' 158 j (nI n')) fun s94 => nm (nI j + 1) fun v95 => trec v95 s94 else none)
          rw [ifT k2, ifT hj96, nx, nm_eq, nm_eq, nm_eq, nm_eq]
          exact BO.pre bt2 ⟨Nat.le_refl _, Nat.le_refl _, Nat.le_refl _, Nat.le_refl _, Nat.le_refl _⟩ (ih' D' _ _ K' N' h2)
    · have e1 : ¬ mI M 3203 ((pl D 98).getD j 0) = 1 := fun z => kd ((bI_eq (b := 1) (by omega) (by decide)).mp (x2 ▸ z))
      have e2 : ¬ tA σ 94 j = 1 := fun z => kd ((bI_eq (b := 1) (by omega) (by decide)).mp (x4 ▸ z))
      rw [ifF e1, ifF e2, nx, nm_eq, nm_eq]
      exact ih' D M σ K N h
theorem t_524b (h : tI σ 0 ≠ 0) (x : Int32) : L_makeFlat_524 (k + 1) x σ = some ((), σ) := by
  unfold L_makeFlat_524
  by_cases q : tI σ 107 ≤ x
  · rw [ifT q]
  · rw [ifF q, t_isBad1 h, ob_some, ifF (show ¬ (1 : Int32) = 0 by decide)]
/-- starts -/
theorem z_starts (hB1 : B ≤ 1280) : ∀ (m j kf tf : Nat) D M σ K N, j + m = V → m < kf → m < tf → BS zb z7 C B P mss fss V I Bm Lp 1 D M σ K N E A Wn → BO (γ := Unit) zb z7 C B P mss fss V I Bm Lp 1 Sum.inr D M σ K N E A Wn (KL_X0_flatten_298 kf (nI j) M) (L_makeFlat_524 tf (nI j) σ) := by
  intro m
  induction m with
  | zero =>
    intro j kf tf D M σ K N hj hk ht h
    obtain ⟨kf, rfl⟩ : ∃ g, kf = g + 1 := ⟨kf - 1, by omega⟩
    obtain ⟨tf, rfl⟩ : ∃ g, tf = g + 1 := ⟨tf - 1, by omega⟩
    have c1 := h.fx.2.2.1.1
    have c2 := h.fx.2.2.2.1.1
    have hV := h.hV
    have le : nI V ≤ nI j := (bI_le (by omega) (by omega)).mpr (by omega)
    refine Or.inr ⟨D, M, σ, K, N, E, A, Wn, (), (), ?_, ?_, h, ⟨Nat.le_refl _, Nat.le_refl _, Nat.le_refl _, Nat.le_refl _, Nat.le_refl _⟩, BTr.rf h.cn⟩
    · unfold KL_X0_flatten_298
      rw [c2, ifT le]
    · unfold L_makeFlat_524
      rw [c1, ifT le]
  | succ m ih =>
    intro j kf tf D M σ K N hj hk ht h
    obtain ⟨kf, rfl⟩ : ∃ g, kf = g + 1 := ⟨kf - 1, by omega⟩
    obtain ⟨tf, rfl⟩ : ∃ g, tf = g + 1 := ⟨tf - 1, by omega⟩
    have c1 := h.fx.2.2.1.1
    have c2 := h.fx.2.2.2.1.1
    have hV := h.hV
    have le : ¬ nI V ≤ nI j := fun z => by have := (bI_le (by omega) (by omega)).mp z; omega
    obtain ⟨⟨g1, g2⟩, -, -, ax⟩ := h.vr (v := j) (by omega)
    have hj96 : inb (nI j) 96 := inb_nI' (by omega) (by decide)
    have ej : ix (nI j) = j := ix_nI (by omega)
    obtain ⟨rec, hrec⟩ : ∃ q, q = KL_X0_flatten_298 kf := ⟨_, rfl⟩
    obtain ⟨trec, htrec⟩ : ∃ q, q = L_makeFlat_524 tf := ⟨_, rfl⟩
    have ih' := fun D M σ K N h => ih (j + 1) kf tf D M σ K N (by omega) (by omega) (by omega) h
    rw [← hrec, ← htrec] at ih'
    unfold KL_X0_flatten_298 L_makeFlat_524
    rw [c2, c1, ifF le, ifF le, g1, ob_some, ifT (Or.inr g2), ifT g2, t_isBad0 h.h0, ob_some, ifT (rfl : (0 : Int32) = 0), ifT hj96, ej, ← hrec, ← htrec]
    have nx : nI j + 1 = nI (j + 1) := nI_addL j 1
    rcases ax with ⟨a1, a2⟩ | ⟨a1, n, d, a2, a3, a4, a5, i, a6, a7, a8⟩
    · rw [ifT a1, ifT a2, nx, nm_eq, nm_eq]
      exact ih' D M σ K N h
    · have hn0 : ¬ tA σ 102 j = 0 := fun z => by
        rw [a2] at z
        have := (bI_eq (b := 0) (by omega) (by decide)).mp z; omega
      rw [ifF a1, ifF hn0, ifT g2, ifT g2, ifT hj96, ifT hj96, a2, a8, a7]
      rw [h.fw.1.2.1.2.1] at a5
      refine h.fl hB1 a6 (Nat.le_refl _) a5 (fun M' σ' w y g _ => ?_) (fun D' M' σ' K' N' a n' h' le bt _ nd _ => ?_)
      · obtain ⟨tf', rfl⟩ : ∃ g, tf = g + 1 := ⟨tf - 1, by omega⟩
        refine ⟨(), tsA σ' 159 j y, ?_, g.tws (S := [159]) ((Ft.rf _ σ').p_tsA rfl) (by decide) (by decide) ⟨rfl, rfl⟩ ⟨rfl, rfl, rfl⟩⟩
        show (if inb (nI j) 96 then nm (tsA σ' 159 j y) fun s94 => nm (nI j + 1) fun v95 => trec v95 s94 else none) = _
        rw [ifT hj96, nm_eq, nm_eq, htrec]
        exact t_524b (σ := tsA σ' 159 j y) g.ne _
      · have e98 : (pl D' 98).getD j 0 = (pl D 98).getD j 0 := (bt.2.1.1 98 j (by omega)).2
        obtain ⟨h2, bt2⟩ := h'.wv (f := 3211) (k := 159) (v := j) (by omega) (Or.inr ⟨rfl, rfl⟩) nd
        have k2 := (h'.vr (v := j) (by omega)).1.2
        rw [e98] at h2 bt2 k2
        show BO zb z7 C B P mss fss V I Bm Lp 1 Sum.inr D' M' σ' K' N' E A Wn (if mk M' ((pl D 98).getD j 0) = 17 then nm (msR M' 3211 ((pl D 98).getD j 0) a) fun M64 => nm (nI j + 1) fun v65 => rec v65 M64 else none) (if inb (nI j) 96 then nm (tsA σ' 159 j (nI n')) fun s94 => nm (nI j + 1) fun v95 => trec v95 s94 else none)
        rw [ifT k2, ifT hj96, nx, nm_eq, nm_eq, nm_eq, nm_eq]
        exact BO.pre bt2 ⟨Nat.le_refl _, Nat.le_refl _, Nat.le_refl _, Nat.le_refl _, Nat.le_refl _⟩ (ih' D' _ _ K' N' h2)
theorem t_389b (h : tI σ 0 ≠ 0) (x : Int32) : L_makeFlat_389 (k + 1) x σ = some ((), σ) := by
  unfold L_makeFlat_389
  by_cases q : tI σ 107 ≤ x
  · rw [ifT q]
  · rw [ifF q, t_isBad1 h, ob_some, ifF (show ¬ (1 : Int32) = 0 by decide)]
theorem t_buildB (h : tI σ 0 ≠ 0) (a b c d : Int32) : F_build a b c d σ = some (0, σ) := t_buildF h a b c d
theorem t_addB (h : tI σ 0 ≠ 0) (a b : Int32) : F_addEquation a b σ = some ((), σ) := by
  unfold F_addEquation
  rw [t_isBad1 h, ob_some, ifF (show ¬ (1 : Int32) = 0 by decide)]
/-- equations of values -/
theorem z_valEqs (hB1 : B ≤ 1280) : ∀ (m j kf tf : Nat) D M σ K N E A Wn, j + m = V → m < kf → m < tf → BS zb z7 C B P mss fss V I Bm Lp 0 D M σ K N E A Wn → BO (γ := Unit) zb z7 C B P mss fss V I Bm Lp 0 Sum.inr D M σ K N E A Wn (KL_X0_flatten_193 kf (nI j) M) (L_makeFlat_389 tf (nI j) σ) := by
  intro m
  induction m with
  | zero =>
    intro j kf tf D M σ K N E A Wn hj hk ht h
    obtain ⟨kf, rfl⟩ : ∃ g, kf = g + 1 := ⟨kf - 1, by omega⟩
    obtain ⟨tf, rfl⟩ : ∃ g, tf = g + 1 := ⟨tf - 1, by omega⟩
    have c1 := h.fx.2.2.1.1
    have c2 := h.fx.2.2.2.1.1
    have hV := h.hV
    have le : nI V ≤ nI j := (bI_le (by omega) (by omega)).mpr (by omega)
    refine Or.inr ⟨D, M, σ, K, N, E, A, Wn, (), (), ?_, ?_, h, ⟨Nat.le_refl _, Nat.le_refl _, Nat.le_refl _, Nat.le_refl _, Nat.le_refl _⟩, BTr.rf h.cn⟩
    · unfold KL_X0_flatten_193
      rw [c2, ifT le]
    · unfold L_makeFlat_389
      rw [c1, ifT le]
  | succ m ih =>
    intro j kf tf D M σ K N E A Wn hj hk ht h
    obtain ⟨kf, rfl⟩ : ∃ g, kf = g + 1 := ⟨kf - 1, by omega⟩
    obtain ⟨tf, rfl⟩ : ∃ g, tf = g + 1 := ⟨tf - 1, by omega⟩
    have c1 := h.fx.2.2.1.1
    have c2 := h.fx.2.2.2.1.1
    have hV := h.hV
    have le : ¬ nI V ≤ nI j := fun z => by have := (bI_le (by omega) (by omega)).mp z; omega
    obtain ⟨⟨g1, g2⟩, ⟨x, x1, x2, x4⟩, ax, -⟩ := h.vr (v := j) (by omega)
    have hj96 : inb (nI j) 96 := inb_nI' (by omega) (by decide)
    have ej : ix (nI j) = j := ix_nI (by omega)
    obtain ⟨rec, hrec⟩ : ∃ q, q = KL_X0_flatten_193 kf := ⟨_, rfl⟩
    obtain ⟨trec, htrec⟩ : ∃ q, q = L_makeFlat_389 tf := ⟨_, rfl⟩
    have ih' := fun D M σ K N E A Wn h => ih (j + 1) kf tf D M σ K N E A Wn (by omega) (by omega) (by omega) h
    rw [← hrec, ← htrec] at ih'
    have tb : ∀ s : TS, tI s 0 ≠ 0 → ∀ x, trec x s = some ((), s) := fun s hs x => by
      obtain ⟨tf', rfl⟩ : ∃ g, tf = g + 1 := ⟨tf - 1, by omega⟩
      rw [htrec]; exact t_389b hs x
    unfold KL_X0_flatten_193 L_makeFlat_389
    rw [c2, c1, ifF le, ifF le, g1, ob_some, ifT (Or.inr g2), ifT g2, t_isBad0 h.h0, ob_some, ifT (rfl : (0 : Int32) = 0), ifT hj96, ej, ← hrec, ← htrec]
    have nx : nI j + 1 = nI (j + 1) := nI_addL j 1
    by_cases kd : x = 1
    · have e1 : mI M 3203 ((pl D 98).getD j 0) = 1 := by rw [x2, kd]; rfl
      have e2 : tA σ 94 j = 1 := by rw [x4, kd]; rfl
      rw [ifT e1, ifT e2, nx, nm_eq, nm_eq]
      exact ih' D M σ K N E A Wn h
    · have e1 : ¬ mI M 3203 ((pl D 98).getD j 0) = 1 := fun z => kd ((bI_eq (b := 1) (by omega) (by decide)).mp (x2 ▸ z))
      have e2 : ¬ tA σ 94 j = 1 := fun z => kd ((bI_eq (b := 1) (by omega) (by decide)).mp (x4 ▸ z))
      rw [ifF e1, ifF e2, ifT g2, ifT hj96]
      rcases ax with ⟨a1, a2⟩ | ⟨a1, n, d, a2, a3, a4, a5, i, a6, a7, a8⟩
      · rw [ifT a1, ifT a2, nx, nm_eq, nm_eq]
        exact ih' D M σ K N E A Wn h
      · have hn0 : ¬ tA σ 100 j = 0 := fun z => by
          rw [a2] at z
          have := (bI_eq (b := 0) (by omega) (by decide)).mp z; omega
        have r27 : mR M 27 1 = 105 := h.1.2.2.1.1.1
        have k105 : mk M 105 = 4 := (h.fw.2.2.2.1.1 (105, 4, 0) (by decide)).1
        rw [ifF a1, ifF hn0, r27, ifT k105]
        have fl := mk_lf (op := 1) (op' := 2) (vl := nI j) (y2 := nI j) (h := 99) h.1 (Nat.le_refl _) (Or.inr (Or.inl ⟨by decide, j, by omega, rfl, rfl, fun z => absurd z (by decide), fun z => absurd z (by decide), fun z => absurd z (by decide)⟩)) ⟨FSt.n1 h.1, Nat.le_refl _⟩
        refine h.flo fl (fS_F_make _ _ _ _ _) ⟨rfl, rfl⟩ (fun M' σ' w y g hy => ?_) (fun D' M' σ' K' N' a n' h' le bt T1 nd sz1 => ?_)
        · refine ⟨(), σ', ?_, g⟩
          show (if inb (nI j) 96 then if inb (nI j) 96 then ob (F_build (tA σ' 100 j) (tA σ' 101 j) 0 1 σ') fun r135 s134 => ob (F_addEquation y r135 s134) fun r139 s138 => nm (nI j + 1) fun v142 => trec v142 s138 else none else none) = _
          rw [ifT hj96, ifT hj96, t_buildB g.ne, ob_some, t_addB g.ne, ob_some, nm_eq, tb _ g.ne]
        · have e98 : (pl D' 98).getD j 0 = (pl D 98).getD j 0 := (bt.2.1.1 98 j (by omega)).2
          obtain ⟨⟨-, k2⟩, -, ax', -⟩ := h'.vr (v := j) (by omega)
          rw [e98] at k2 ax'
          have q100 : tA σ' 100 j = tA σ 100 j ∧ tA σ' 101 j = tA σ 101 j ∧ mR M' 3206 ((pl D 98).getD j 0) = mR M 3206 ((pl D 98).getD j 0) ∧ mR M' 3207 ((pl D 98).getD j 0) = mR M 3207 ((pl D 98).getD j 0) := ⟨bt.2.2.2.2.2 100 (by decide) j, bt.2.2.2.2.2 101 (by decide) j, bt.2.2.2.2.1 j (by omega) (by omega) 3206 (by decide), bt.2.2.2.2.1 j (by omega) (by omega) 3207 (by decide)⟩
          show BO zb z7 C B P mss fss V I Bm Lp 0 Sum.inr D' M' σ' K' N' E A Wn (if mk M' ((pl D 98).getD j 0) = 17 then if mk M' ((pl D 98).getD j 0) = 17 then obS (K_X0_flatten_2 (mR M' 3206 ((pl D 98).getD j 0)) (mR M' 3207 ((pl D 98).getD j 0)) 0 (-1) M') (fun w98 M94 => some (.inr (.inr w98), M94)) fun r95 M94 => obS (K_X0_equation a r95 M94) (fun w103 M99 => some (.inr (.inr w103), M99)) fun r100 M99 => nm (nI j + 1) fun v104 => rec v104 M99 else none else none) (if inb (nI j) 96 then if inb (nI j) 96 then ob (F_build (tA σ' 100 j) (tA σ' 101 j) 0 1 σ') fun r135 s134 => ob (F_addEquation (nI n') r135 s134) fun r139 s138 => nm (nI j + 1) fun v142 => trec v142 s138 else none else none)
          rw [ifT k2, ifT k2, ifT hj96, ifT hj96]
          rcases ax' with ⟨a1', -⟩ | ⟨-, n2, d2, b2, b3, b4, b5, i2, b6, b7, b8⟩
          · rw [q100.2.2.1] at a1'; exact absurd a1' a1
          rw [h'.fw.1.2.1.2.1] at b5
          rw [b2, b7, b8]
          refine h'.fl hB1 b6 (Nat.le_refl _) b5 (fun M2 σ2 w y g _ => ?_) (fun D2 M2 σ2 K2 N2 a2 m2 h2 le2 bt2 T2 nd2 sz2 => ?_)
          · refine ⟨(), σ2, ?_, g⟩
            rw [t_addB g.ne, ob_some, nm_eq, tb _ g.ne]
          · refine (z_equation h2 (fun zz => pd2 (h.sm zz) bt.2.2.1.n4 T1.2.2.2.2.1 (by decide) le.2 bt2.2.2.1.n4 T2.2.2.2.2.1 (by decide) le2.2 sz1 sz2) (NdR.mv bt2.2.2.1 le2.1 le2.2 (Nat.le_refl V) 100 100 0 _ _ (Nat.le_refl _) nd) nd2).seq (fun _ _ => rfl) (fun M3 σ3 w y g => ?_) (fun D3 M3 σ3 K3 N3 E3 A3 Wn3 r y h3 le3 bt3 => ?_)
            · exact ⟨(), σ3, by rw [nm_eq, tb _ g.ne], g⟩
            · rw [nm_eq, nm_eq, nx]
              exact ih' D3 M3 σ3 K3 N3 E3 A3 Wn3 h3
end VALS
