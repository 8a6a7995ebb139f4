/-! Layer B: the flat model: starts are worked out -/
set_option maxRecDepth 100000
section STARTS
variable {zb zb' : Nat} {C : PC} {D D' D1 D2 : FQ} {M M' M1 M2 M3 M0 : CM} {σ σ' σ1 σ2 σ0 s1 s8 : TS} {mss fss : List Nat} {B V I Bm K N K' N' E A Wn E' A' A0 Wn' v l k x0 dc md X N0 Lp Lp' w d s i nf R a f h1 h2 eq L : Nat} {os : List Nat} {P T Y : Nat → Prop} {x2 x3 x3' x4 x y r kd : Int32} {z7 : Nat → Nat} {S : List Nat}
/-- a variable's start is written -/
theorem BS.w12 (h : BS zb z7 C B P mss fss V I Bm Lp x3 D M σ K N E A Wn) (hv : v < V) : BS zb z7 C B P mss fss V I Bm Lp x3 D (msI M 3212 ((pl D 98).getD v 0) y) (tsA σ 105 v y) K N E A Wn ∧ BTr V C P K N D M σ D (msI M 3212 ((pl D 98).getD v 0) y) (tsA σ 105 v y) := by
  have W := h.fw
  have hV := h.hV
  obtain ⟨q1, q2, q3⟩ := W.2.1.2.1 98 (by decide) v (by omega)
  obtain ⟨M', hM⟩ : ∃ q, q = msI M 3212 ((pl D 98).getD v 0) y := ⟨_, rfl⟩
  obtain ⟨σ', hσ⟩ : ∃ q, q = tsA σ 105 v y := ⟨_, rfl⟩
  rw [← hM, ← hσ]
  have F : Fz (fun o => o = (pl D 98).getD v 0) M M' := by rw [hM]; exact Fz.rf.msI (fun _ => rfl)
  have rr : ∀ g o, mR M' g o = mR M g o := fun g o => by rw [hM]; rfl
  have ii : ∀ g o, g ≠ 3212 → mI M' g o = mI M g o := fun g o z => by rw [hM, mI_msI, ifF (fun q => z q.1)]
  have aa : ∀ o j, mA M' o j = mA M o j := fun o j => by rw [hM]; rfl
  have ft : Ft [105] σ σ' := by rw [hσ]; exact (Ft.rf _ σ).p_tsA rfl
  obtain ⟨W', vz, -⟩ := W.w2 F (fun o _ z => Or.inr (by
    rw [z, q3]
    exact ⟨q2.1, by unfold tg; omega, fun j => by unfold tg; omega⟩)) (by rw [hM]; exact ⟨rfl, rfl⟩) (fun o => ⟨rr _ _, rr _ _, by rw [hM]; rfl⟩) (fun o => rr _ _) (ii _ _ (by decide)) (fun q _ => rr _ _) (fun q hq => ii _ _ (by
      have : ∀ q, q ∈ bfI → q.1 ≠ 3212 := by decide +kernel
      exact this q hq)) ft (by decide)
  have fq : Fq D (fun t => t = tg 98 v) M M' := F.mono (fun o ho z => by rw [z, W.2.1.tv (by decide) (by omega)])
  obtain ⟨Fs', bt⟩ := h.1.bw ⟨rfl, rfl⟩ W' vz fq (fun t z => by rw [z]; unfold TW tg; omega) (fun k hk => ⟨fun f hf => ii _ _ (by omega), fun g _ => rr _ _⟩) (Dx.rf D M) ⟨fun f hf => by rw [hM, mI_msI, ifF (fun z => by have := q2.1; omega)], fun f => rr _ _⟩ ⟨rfl, rfl⟩ ft (by decide) (by decide) (by decide)
  refine ⟨⟨Fs', ?_⟩, bt⟩
  have nk := bt.2.2.1
  obtain ⟨-, bv, ⟨b1, b5⟩, ⟨c1, c5⟩, ⟨d1, d5⟩, j1, j2, j3, j4⟩ := h
  refine ⟨fun u hu => ?_, ⟨⟨(ii _ _ (by decide)).trans b1.1, ((ft 143 rfl).1).trans b1.2.1, b1.2.2⟩, fun k hk => ?_⟩, ⟨⟨(ii _ _ (by decide)).trans c1.1, ((ft 152 rfl).1).trans c1.2.1, c1.2.2⟩, fun k hk => ?_⟩, ⟨⟨(ii _ _ (by decide)).trans d1.1, ((ft 148 rfl).1).trans d1.2.1, d1.2.2⟩, fun k hk => ?_⟩, ⟨j1.1.mv (aa 115) (ft 155 rfl).2.2.1 (ft 74 rfl).2.2.1 (ft 75 rfl).2.2.1, by rw [(ft 130 rfl).1]; exact j1.2.1, j1.2.2.mv ⟨ii 32 1 (by decide), ii 41 1 (by decide), ii 43 1 (by decide)⟩ (fun j => by rw [hM]; rfl) (fun _ _ => rfl) (Nat.le_refl _) ft (by decide)⟩, fun z => (ii _ _ (by decide)).trans (j2 z), ((ft 161 rfl).1).trans j3, ((ft 171 rfl).1).trans j4.1, fun zz => (j4.2 zz).ft nk.n4 (Nat.le_refl _) (Nat.le_refl _) ft (by decide)⟩
  · obtain ⟨x1, x2, x3⟩ := bv u hu
    exact ⟨x1.mv nk (Nat.le_refl _) (Nat.le_refl _) (rr _ _) ((ft 158 rfl).2.2.1 u), x2.mv nk (Nat.le_refl _) (Nat.le_refl _) (rr _ _) ((ft 159 rfl).2.2.1 u), x3.mv (fun g hg => ii _ _ (by omega)) ⟨(ft 104 rfl).2.2.1 u, (ft 160 rfl).2.2.1 u⟩⟩
  · exact (b5 k hk).mv nk (Nat.le_refl _) (Nat.le_refl _) (fun g _ => rr _ _) ⟨(ft 141 rfl).2.2.1 k, (ft 142 rfl).2.2.1 k⟩
  · exact (c5 k hk).mv nk (Nat.le_refl _) (Nat.le_refl _) (fun g hg => ii _ _ (by omega)) (rr _ _) (fun g hg => (ft g (by rcases hg with rfl | rfl | rfl <;> rfl)).2.2.1 k)
  · exact (d5 k hk).mv nk (Nat.le_refl _) (Nat.le_refl _) (Nat.le_refl _) (fun g hg => ii _ _ (by omega)) (rr _ _) (fun g hg => (ft g (by rcases hg with rfl | rfl | rfl <;> rfl)).2.2.1 k)
theorem t_585b (h : tI σ 0 ≠ 0) (x : Int32) : L_makeFlat_585 (k + 1) x σ = some ((), σ) := by
  unfold L_makeFlat_585
  by_cases q : tI σ 107 ≤ x
  · rw [ifT q]
  · rw [ifF q, t_isBad1 h, ob_some, ifF (show ¬ (1 : Int32) = 0 by decide)]
/-- starts known, of variables below j -/
def St12 (D : FQ) (M : CM) (σ : TS) (j : Nat) : Prop := ∀ u, u < j → mI M 3212 ((pl D 98).getD u 0) = tA σ 105 u
theorem z_wstarts : ∀ (m j kf tf : Nat) D M σ K N E A Wn, j + m = V → m < kf → m < tf → BS 1 z7 C B P mss fss V I Bm Lp x3 D M σ K N E A Wn → St12 D M σ j →
    (∃ M' σ' w, KL_X0_workStarts_2 kf (nI j) M = some (.inr (.inr w), M') ∧ L_makeFlat_585 tf (nI j) σ = some ((), σ') ∧ FfB C B P mss fss M M' σ σ' w) ∨
    ∃ M' σ', KL_X0_workStarts_2 kf (nI j) M = some (.inl (), M') ∧ L_makeFlat_585 tf (nI j) σ = some ((), σ') ∧ BS 1 z7 C B P mss fss V I Bm Lp x3 D M' σ' K N E A Wn ∧ BTr V C P K N D M σ D M' σ' ∧ St12 D M' σ' V := by
  intro m
  induction m with
  | zero =>
    intro j kf tf D M σ K N E A Wn hj hk ht h hs
    obtain ⟨kf, rfl⟩ : ∃ g, kf = g + 1 := ⟨kf - 1, by omega⟩
    obtain ⟨tf, rfl⟩ : ∃ g, tf = g + 1 := ⟨tf - 1, by omega⟩
    have c1 := h.fx.2.2.1.1
    have c2 := h.fx.2.2.2.1.1
    have hV := h.hV
    have le : nI V ≤ nI j := (bI_le (by omega) (by omega)).mpr (by omega)
    refine Or.inr ⟨M, σ, ?_, ?_, h, BTr.rf h.cn, by rw [show V = j by omega]; exact hs⟩
    · unfold KL_X0_workStarts_2
      rw [c2, ifT le]
    · unfold L_makeFlat_585
      rw [c1, ifT le]
  | succ m ih =>
    intro j kf tf D M σ K N E A Wn hj hk ht h hs
    obtain ⟨kf, rfl⟩ : ∃ g, kf = g + 1 := ⟨kf - 1, by omega⟩
    obtain ⟨tf, rfl⟩ : ∃ g, tf = g + 1 := ⟨tf - 1, by omega⟩
    have c1 := h.fx.2.2.1.1
    have c2 := h.fx.2.2.2.1.1
    have hV := h.hV
    have le : ¬ nI V ≤ nI j := fun z => by have := (bI_le (by omega) (by omega)).mp z; omega
    obtain ⟨⟨g1, g2⟩, -⟩ := h.vr (v := j) (by omega)
    have hj96 : inb (nI j) 96 := inb_nI' (by omega) (by decide)
    have ej : ix (nI j) = j := ix_nI (by omega)
    have nx : nI j + 1 = nI (j + 1) := nI_addL j 1
    have hp : ∀ u, u < V → 167 ≤ (pl D 98).getD u 0 := fun u hu => (h.fw.2.1.2.1 98 (by decide) u (by omega)).2.1.1
    have inj : ∀ u, u < V → (pl D 98).getD u 0 = (pl D 98).getD j 0 → u = j := fun u hu e => (h.fw.2.1.inj (by decide) (by decide) (by omega) (by omega) e).2
    have wst : ∀ M' σ' y, (∀ u, u < j → mI M' 3212 ((pl D 98).getD u 0) = tA σ' 105 u) → St12 D (msI M' 3212 ((pl D 98).getD j 0) y) (tsA σ' 105 j y) (j + 1) := fun M' σ' y hh u hu => by
      rw [mI_msI, tA_tsA]
      by_cases q : u = j
      · rw [ifT ⟨rfl, by rw [q]⟩, ifT ⟨rfl, q⟩]
      · rw [ifF (fun z => q (inj u (by omega) z.2)), ifF (fun z => q z.2)]
        exact hh u (by omega)
    have tl : ∀ s : TS, tI s 0 ≠ 0 → ∀ x, L_makeFlat_585 tf x s = some ((), s) := fun s hs x => by
      obtain ⟨tf', rfl⟩ : ∃ g, tf = g + 1 := ⟨tf - 1, by omega⟩
      exact t_585b hs x
    unfold KL_X0_workStarts_2 L_makeFlat_585
    rw [c2, c1, ifF le, ifF le, g1, ob_some, ifT (Or.inr g2), ifT g2, t_isBad0 h.h0, ob_some, ifT (rfl : (0 : Int32) = 0)]
    unfold F_startOf
    rw [ifT hj96, ej]
    rcases (h.2.1 j (by omega)).2.1 with ⟨a1, a2⟩ | ⟨n, a1, a2⟩
    · rw [ifT a1, ifT g2, nm_eq, nm_eq, nx, a2, ifT (rfl : (0 : Int32) = 0), ifT hj96, nm_eq, ob_some, nm_eq]
      obtain ⟨h2, bt2⟩ := h.w12 (v := j) (y := 0) (by omega)
      rcases ih (j + 1) kf tf D _ _ K N E A Wn (by omega) (by omega) (by omega) h2 (wst M σ 0 hs) with ⟨M', σ', w, e1, e2, e3⟩ | ⟨M', σ', e1, e2, e3, e4, e5⟩
      · exact Or.inl ⟨M', σ', w, e1, e2, e3.pre bt2.2.2.2.1⟩
      · exact Or.inr ⟨M', σ', e1, e2, e3, bt2.tr e4 (Nat.le_refl _) (Nat.le_refl _), e5⟩
    · have a0 : ¬ mR M 3211 ((pl D 98).getD j 0) = 0 := by
        obtain ⟨⟨⟨k, k1, k2, -⟩, -⟩, -⟩ := a2
        have := (h.fw.2.1.2.1 106 (by decide) k (by have := h.hl.1; omega)).2.1.1
        rw [k2]; omega
      have n0 : 1 ≤ n ∧ n < N := a2.1.2
      have n7 := h.hl.2
      have nn : ¬ nI n = 0 := fun z => by have := (bI_eq (b := 0) (by omega) (by decide)).mp z; omega
      have hX : ∀ v, v < V → Vx1 D M σ V K N v := fun v hv => (h.2.1 v hv).1
      have ev := (fx_all (D := D) (M0 := M) (σ0 := σ) (K := K) (N := N) (K2 := 0) (N2 := 0) h.fw h.hV ⟨h.hl, Nat.zero_le _, Nat.zero_le _⟩ hX 8 0 rfl 100).1
      have := ev 1000 1900 0 (fun _ => 0) M σ (mR M 3211 ((pl D 98).getD j 0)) n (by decide) (by decide) (Or.inl a2) h.pr0 (by decide)
      rw [ifF a0, ifT g2, a1, ifF nn, ifT hj96]
      rcases this with ⟨M2, s2, w, y, e1, e2, e3⟩ | ⟨r, M2, s2, e1, e2, ⟨E4, f4⟩, ⟨j1, j2, j3⟩, ⟨j4, j5⟩, j6⟩
      · have e1' : K_X0_fixed (mR M 3211 ((pl D 98).getD j 0)) M = some (.inr w, M2) := e1
        have e2' : F_worth (nI n) 0 σ = some (y, s2) := e2
        have g := e3.fb h
        rw [e1', obS_inr, e2', ob_some, ifT hj96, nm_eq, ob_some, nm_eq, tl (tsA s2 105 j y) g.ne]
        exact Or.inl ⟨M2, _, w, rfl, rfl, g.tws (S := [105]) ((Ft.rf _ s2).p_tsA rfl) (by decide) (by decide) ⟨rfl, rfl⟩ ⟨rfl, rfl, rfl⟩⟩
      · have e1' : K_X0_fixed (mR M 3211 ((pl D 98).getD j 0)) M = some (.inl r, M2) := e1
        have e2' : F_worth (nI n) 0 σ = some (r, s2) := e2
        obtain ⟨h2, bt2⟩ := h.e4 (by decide) E4 f4 ⟨j4, j5, j2⟩ j6
        obtain ⟨h3, bt3⟩ := h2.w12 (v := j) (y := r) (by omega)
        have g2' : mk M2 ((pl D 98).getD j 0) = 17 := by rw [(E4.2.2.2.2.1 _).1]; exact g2
        rw [e1', obS_inl, ifT g2', nm_eq, nm_eq, nx, e2', ob_some, ifT hj96, nm_eq, ob_some, nm_eq]
        have bt23 := bt2.tr bt3 (Nat.le_refl _) (Nat.le_refl _)
        have hs2 : ∀ u, u < j → mI M2 3212 ((pl D 98).getD u 0) = tA s2 105 u := fun u hu => by
          rw [E4.2.2.1 3212 _ (by omega) (by omega), (f4 105 rfl).2.2.1]; exact hs u hu
        rcases ih (j + 1) kf tf D _ _ K N E A Wn (by omega) (by omega) (by omega) h3 (wst M2 s2 r hs2) with ⟨M', σ', w, e1, e2, e3⟩ | ⟨M', σ', e1, e2, e3, e4, e5⟩
        · exact Or.inl ⟨M', σ', w, e1, e2, e3.pre bt23.2.2.2.1⟩
        · exact Or.inr ⟨M', σ', e1, e2, e3, bt23.tr e4 (Nat.le_refl _) (Nat.le_refl _), e5⟩
end STARTS
