/-! Layer B: the flat model: an if's condition on both sides -/
set_option maxRecDepth 100000
/-- what the scratch set's nodes are written in -/
def TX (t : Nat) : Prop := t = 1 ∨ TB 107 108 t
section TRUTH2
variable {zb : Nat} {C : PC} {D D' D1 D2 : FQ} {M M' M1 M2 M3 M0 : CM} {σ σ' σ1 σ2 σ0 s1 s8 : TS} {mss fss : List Nat} {B V I Bm K N K' N' E A Wn E' A' Wn' v l k x0 dc md X N0 Lp w d s o n i nf R a b n1 n2 f j eq : Nat} {P T : Nat → Prop} {x3 x3' x y r : Int32} {z7 : Nat → Nat} {S : List Nat} {τ : Type} {hd : Nat → CM → Option τ} {kk : Int32 → CM → Option τ}
theorem TX.bt {t : Nat} (h : TX t) : ¬ BT t := by
  rcases h with h | h
  · rw [h]; unfold BT tg; omega
  · exact TB.bt (Or.inr (Or.inl ⟨rfl, rfl, rfl, rfl⟩)) h
/-- back from the scratch set -/
theorem z_back (h : BS 1 z7 C B P mss fss V I Bm Lp 0 D M σ K N E A Wn) (v1 : Wz C C P M M1 σ (tsI (tsI (tsI σ 129 0) 131 0) 138 1)) (fq1 : Fq D (fun t => t = 1 ∨ t = 107) M M1) (i1 : (∀ f, mI M1 f 1 = mI M f 1) ∧ ∀ f, f ≠ 27 → mR M1 f 1 = mR M f 1) (Fs2 : FSt 2 107 108 1000 N z7 C B P mss fss D' M2 s8 V I Bm K' N' Lp 0 1) (T : FTr 107 C P 108 0 N 0 D M1 (tsI (tsI (tsI σ 129 0) 131 0) 138 1) D' M2 s8) :
    BS 1 z7 C B P mss fss V I Bm Lp 0 D' (msR M2 27 1 105) (tsI (tsI (tsI s8 138 (tI σ 138)) 129 (tI σ 129)) 126 (tI σ 126)) K N E A Wn ∧ BTr V C P K N D M σ D' (msR M2 27 1 105) (tsI (tsI (tsI s8 138 (tI σ 138)) 129 (tI σ 129)) 126 (tI σ 126)) ∧ Wz C C P M2 (msR M2 27 1 105) s8 (tsI (tsI (tsI s8 138 (tI σ 138)) 129 (tI σ 129)) 126 (tI σ 126)) := by
  obtain ⟨M3, hM3⟩ : ∃ q, q = msR M2 27 1 105 := ⟨_, rfl⟩
  obtain ⟨s15, hs⟩ : ∃ q, q = tsI (tsI (tsI s8 138 (tI σ 138)) 129 (tI σ 129)) 126 (tI σ 126) := ⟨_, rfl⟩
  obtain ⟨s7, hs7⟩ : ∃ q, q = tsI (tsI (tsI σ 129 0) 131 0) 138 1 := ⟨_, rfl⟩
  rw [← hs7] at v1 T
  rw [← hs, ← hM3]
  have W := h.fw
  have W2 := Fs2.1
  have f7 : Ft [129, 131, 138] σ s7 := by rw [hs7]; exact (((Ft.rf _ σ).p_tsI rfl).p_tsI rfl).p_tsI rfl
  have f15 : Ft [126, 129, 138] s8 s15 := by rw [hs]; exact (((Ft.rf _ s8).p_tsI rfl).p_tsI rfl).p_tsI rfl
  obtain ⟨t1, t2, t3, t4, t5, t6, ⟨t7, t8, t9⟩, t10, t11, t12, t13⟩ := T
  have ft : Ft ([126, 129, 131, 138] ++ fbL) σ s15 := ((f7.mono (by decide)).tr (t5.mono (by decide))).tr (f15.mono (by decide))
  have F3 : Fz (fun o => o = 1) M2 M3 := by rw [hM3]; exact Fz.rf.msR (fun _ => rfl)
  have i3 : ∀ g o, mI M3 g o = mI M2 g o := fun g o => by rw [hM3]; rfl
  have r3 : ∀ g o, ¬ (g = 27 ∧ o = 1) → mR M3 g o = mR M2 g o := fun g o z => by rw [hM3, mR_msR, ifF z]
  obtain ⟨W3, v3, -⟩ := W2.w2 F3 (fun o _ z => Or.inl (Or.inl (by omega))) (by rw [hM3]; exact ⟨rfl, rfl⟩) (fun o => ⟨r3 _ _ (by omega), r3 _ _ (by omega), by rw [hM3]; rfl⟩) (fun o => r3 _ _ (by omega)) (i3 _ _) (fun q hq => r3 _ _ (by
    have := fixO q hq
    omega)) (fun q _ => i3 _ _) f15 (by decide)
  have fq3 : Fq D' (fun t => t = 1) M2 M3 := F3.mono (fun o ho z => by rw [z, tgo_s (by decide)])
  have dx : Dx D D' M := (Dx.rf D M).tr t2 v1.1.1
  have F13 : Fq D TX M M3 := ((fq1.mono (T' := TX) (fun t z => by
    rcases z with z | z
    · exact Or.inl z
    · exact Or.inr (Or.inr (Or.inr (Or.inr (Or.inl z)))))).tr (t9.mono (T' := TX) (fun t z => Or.inr z)) (Dx.rf D M)).tr (fq3.mono (T' := TX) (fun t z => Or.inl z)) dx
  have FX3 := Fs2.2.1.kp W2 fq3 (fun t z => by rw [z]; unfold TV tg; omega) (fun k hk => by
    have := (W2.2.1.2.1 98 (by decide) k (by have := Fs2.2.1.1.1.1; omega)).2.1
    exact ⟨fun f _ => i3 _ _, fun f _ => r3 _ _ (by omega)⟩) v3 (Dx.rf D' M2) f15 (by decide) ⟨i3 _ _, i3 _ _⟩
  have p106 : pl D' 106 = pl D 106 := t11 106 (by decide) (by decide)
  have h106 := h.hl.1
  have h106x := (W.2.1.1 106 (by decide)).2.2
  have e106 : flX 106 = 12000 := rfl
  have nk : NdK D M σ D' M3 s15 106 K N := by
    refine ⟨fun k hk => ?_, fun g hg n hn => ?_, fun v => (ft 94 rfl).2.2.1 v⟩
    · have s := W.2.1.so3 (k := k) (l := 106) (by decide) (by omega) F13 (fun z => by
        unfold TX TB tg at z
        omega)
      exact ⟨by rw [p106], fun f _ => s.i f, fun f _ => s.r f⟩
    · have e1 : tA s15 g n = tA s8 g n := (f15 g (by simp only [List.mem_cons, List.not_mem_nil, or_false] at hg; rcases hg with rfl | rfl | rfl | rfl | rfl | rfl <;> rfl)).2.2.1 n
      have e2 : tA s7 g n = tA σ g n := (f7 g (by simp only [List.mem_cons, List.not_mem_nil, or_false] at hg; rcases hg with rfl | rfl | rfl | rfl | rfl | rfl <;> rfl)).2.2.1 n
      rw [e1, t3.2.1 g hg n hn, e2]
  have i13 : ∀ f, mI M3 f 1 = mI M f 1 := fun f => (i3 f 1).trans ((t7 f).trans (i1.1 f))
  have r27 : mR M3 27 1 = mR M 27 1 := by
    rw [hM3, mR_msR, ifT ⟨rfl, rfl⟩]
    exact h.1.2.2.1.1.1.symm
  have s105 : So M M3 105 := Fz.so F13 (by have := W.n167; omega) (fun z => by
    rw [tgo_s (by decide)] at z
    unfold TX TB tg at z; omega)
  have LP : LpR C M3 s15 Lp := Fs2.2.2.2.1.mv v3 (i3 _ _) (fun k => by rw [hM3]; exact ⟨rfl, rfl⟩) f15 (by decide)
  have b129 : tI σ 129 = 1 ∧ tI σ 127 = nI K := by
    rcases h.1.2.2.1.2.2.2.1 with ⟨-, q1, q2⟩ | ⟨q, -⟩ | ⟨q, -⟩
    · exact ⟨q1, q2⟩
    · exact absurd q (by decide)
    · exact absurd q (by decide)
  have h138 : tI σ 138 = 0 := by
    rcases h.1.2.2.2.2.2.2.1 with ⟨q, -⟩ | ⟨-, q⟩
    · exact absurd q (by decide)
    · exact q
  have ti : ∀ k, k ∈ [0, 126, 127, 129, 130, 131, 137, 138] → k ≠ 131 → tI s15 k = tI σ k := fun k hk h131 => by
    simp only [List.mem_cons, List.not_mem_nil, or_false] at hk
    rcases hk with rfl | rfl | rfl | rfl | rfl | rfl | rfl | rfl
    · rw [(ft 0 rfl).1]
    · rw [hs]; rfl
    · rw [(f15 127 rfl).1, t13 (by rw [hs7]; rfl), (f7 127 rfl).1]
    · rw [hs]; rfl
    · rw [(ft 130 rfl).1]
    · exact absurd rfl h131
    · rw [(f15 137 rfl).1, Fs2.2.2.2.2.2.1.2.2]; exact h.1.2.2.2.2.2.1.2.2.symm
    · rw [hs]; rfl
  have Fs3 : FSt 1 105 106 12000 1 z7 C B P mss fss D' M3 s15 V I Bm K N Lp 0 0 := by
    obtain ⟨-, -, ⟨⟨n1, n2⟩, ⟨n3, n4, n5, n6⟩, ⟨n7, n8⟩, n9, n10, n11, n12, n13⟩, LP0, CA, ⟨h1, h2, h3⟩, h4, h5⟩ := h.1
    exact ⟨W3, FX3, ⟨⟨by rw [r27]; exact n1, n2⟩, ⟨by rw [s105.i]; exact n3, by rw [p106]; exact n4, n5, by rw [s105.i]; exact n6⟩, ⟨by rw [ti 126 (by decide) (by decide)]; exact n7, n8⟩, Or.inl ⟨rfl, by rw [ti 129 (by decide) (by decide)]; exact b129.1, by rw [ti 127 (by decide) (by decide)]; exact b129.2⟩, n10, n11, n12, n13.mv nk.n4⟩, LP, fun k hk => absurd hk (Nat.not_lt_zero _), ⟨by rw [t12]; exact h1, h2, by rw [ti 137 (by decide) (by decide)]; exact h3⟩, Or.inr ⟨rfl, by rw [ti 138 (by decide) (by decide)]; exact h138⟩, by rw [ti 0 (by decide) (by decide)]; exact h5⟩
  have vv : Wz C C P M M3 σ s15 := (v1.tr t1 (fun _ z => z)).tr v3 (fun _ z => z)
  refine ⟨⟨Fs3, h.2.mv W h.hV nk (Nat.le_refl _) (Nat.le_refl _) F13 (fun t z => z.bt) dx (fun f _ => i13 f) ft (by decide)⟩, ⟨vv, dx, nk, SgX.mk1 (fun o h1 h2 => Fz.so F13 (by have := W.n167; omega) (fun z => by
    rw [tgo_s (by omega)] at z
    unfold TX TB tg at z; omega)) (fun f _ => i13 f) (ft.mono (by decide)), fun v hv hl f hf => ?_, fun k hk v => (ft k (by
    have : ∀ k, k ∈ vkL → ([126, 129, 131, 138] ++ fbL).contains k = false := by decide
    exact this k hk)).2.2.1 v⟩, v3⟩
  exact (W.2.1.so3 (by decide) hl F13 (fun z => by
    have := (W.2.1.1 98 (by decide)).2.2
    have e : flX 98 = 96 := rfl
    exact z.bt (by unfold BT tg; omega))).r f
theorem z_truth (hB1 : B ≤ 1280) (hi : i < I) (h : BS 1 z7 C B P mss fss V I Bm Lp 0 D M σ K N E A Wn) (ke : P eq ∧ mk M eq = 13) (Ar : EqP C P M σ 1 (mR M 2401 eq) x) :
    (∃ M' σ' w y, kTr eq ((pl D 99).getD i 0) hd kk M = hd w M' ∧ F_truth x (nI i) σ = some (y, σ') ∧ FfB C B P mss fss M M' σ σ' w) ∨
    ∃ D' M' σ' r y, kTr eq ((pl D 99).getD i 0) hd kk M = kk r M' ∧ F_truth x (nI i) σ = some (y, σ') ∧ (r = 0 ↔ y = 0) ∧ BS 1 z7 C B P mss fss V I Bm Lp 0 D' M' σ' K N E A Wn ∧ BTr V C P K N D M σ D' M' σ' := by
  obtain ⟨M1, c1, c2, Fs1, v1, fq1, i1⟩ := z_scr h
  have Ar1 := Ar.wz v1 (fun _ z => z)
  obtain ⟨n, d, hn, hn9, Ar1⟩ := Ar1
  have h138 : tI σ 126 = nI N := h.1.2.2.1.2.2.1.1
  have se := v1.2.1.1 eq ke.1
  have ke1 : mk M1 eq = 13 := by rw [se.k]; exact ke.2
  rw [Fs1.1.1.2.1.2.1, ← se.r] at Ar1
  have r1 : ∀ f, f ≠ 27 → mR M1 f 1 = mR M f 1 := fun f hf => by rw [c2, mR_msR, ifF (fun z => hf z.1)]; rfl
  unfold kTr
  rw [c1, ob_some, nm_eq, ← c2, ifT ke1]
  rw [se.r] at Ar1
  rw [se.r]
  have sg1 : SgX M M1 σ (tsI (tsI (tsI σ 129 0) 131 0) 138 1) := SgX.mk1 (fun o h1 h2 => Fz.so fq1 (by have := h.fw.n167; omega) (fun z => by rw [tgo_s (by omega)] at z; omega)) (fun f _ => i1 f) (((((Ft.rf [129, 131, 138] σ).p_tsI rfl).p_tsI rfl).p_tsI rfl).mono (by decide))
  have f7 : Ft [129, 131, 138] σ (tsI (tsI (tsI σ 129 0) 131 0) 138 1) := (((Ft.rf _ σ).p_tsI rfl).p_tsI rfl).p_tsI rfl
  have h143 : tI σ 143 = nI E ∧ E ≤ 120 := ⟨h.2.2.1.1.2.1, h.2.2.1.1.2.2.1⟩
  have h171 : tI σ 171 = nI 0 := h.2.2.2.2.2.2.2.2.1
  rcases z_flatten hB1 hi Fs1 (Nat.le_refl _) Ar1 with ⟨M2, s8, w, y, b1, b2, b3, b4, b5⟩ | ⟨D', M2, s8, K', N', a, n', b1, b2, Fs2, ⟨b4, b5⟩, T, nd, -⟩
  · left
    rw [hn]
    have f := fS_F_build _ _ _ _ _ _ _ b2
    refine ⟨M2, _, w, 0, by rw [b1, obS_inr], t_truth ⟨y, b2⟩ b3.2.1.2.2.1, ?_, ⟨N, h.hl.2, h138⟩, ⟨E, h143.2, ?_⟩, ?_⟩
    · exact (b3.tr sg1).tws (S := [126, 129, 138]) ((((Ft.rf _ s8).p_tsI rfl).p_tsI rfl).p_tsI rfl) (by decide) (by decide) ⟨rfl, rfl⟩
    · show tI s8 143 = _
      rw [(f 143 rfl).1, (f7 143 rfl).1]; exact h143.1
    · show tI s8 171 = _
      rw [(f 171 rfl).1, (f7 171 rfl).1]; exact h171
  · rw [b1, obS_inl, nm_eq]
    obtain ⟨h3, bt3, v23⟩ := z_back h v1 fq1 ⟨i1, r1⟩ Fs2 T
    obtain ⟨M3, hM3⟩ : ∃ q, q = msR M2 27 1 105 := ⟨_, rfl⟩
    obtain ⟨s14, hs14⟩ : ∃ q, q = tsI (tsI s8 138 (tI σ 138)) 129 (tI σ 129) := ⟨_, rfl⟩
    obtain ⟨s15, hs15⟩ : ∃ q, q = tsI s14 126 (tI σ 126) := ⟨_, rfl⟩
    rw [← hM3, ← hs14, ← hs15] at h3 bt3 v23
    rw [← hM3]
    have f15 : Ft [126] s15 s14 := fun j hj => by
      have hj : ¬ j = 126 := fun z => by rw [z] at hj; exact absurd hj (by decide)
      rw [hs15]
      exact ⟨(ifF (α := Int32) hj).symm, rfl, fun _ => rfl, fun _ => rfl⟩
    have f8 : Ft [129, 138] s8 s14 := by rw [hs14]; exact ((Ft.rf _ s8).p_tsI rfl).p_tsI rfl
    have e126 : tI s14 126 = nI N' := by rw [(f8 126 rfl).1]; exact Fs2.2.2.1.2.2.1.1
    have b0 : tI s8 0 = 0 := Fs2.2.2.2.2.2.2.2
    have W14 := (h3.fw.wzT f15 (by decide)).1
    have nk15 : NdK D' M3 s15 D' M3 s14 106 K N := NdK.tws f15 (by decide)
    have hX : ∀ v, v < V → Vx1 D' M3 s14 V K N v := fun v hv => (h3.2.1 v hv).1.mv nk15 (Nat.le_refl _) (Nat.le_refl _) rfl ((f15 158 rfl).2.2.1 v)
    have hN' : K' ≤ (pl D' 108).length ∧ N' ≤ 70000 := ⟨Fs2.2.2.1.2.1.2.1, by have := Fs2.nl; omega⟩
    have ev := (fx_all (D := D') (M0 := M3) (σ0 := s14) (K := K) (N := N) (K2 := K') (N2 := N') W14 h3.hV ⟨h3.hl, hN'⟩ hX 8 0 rfl 100).2
    have nk23 : NdK D' M2 s8 D' M3 s14 108 K' N' := by
      refine ⟨fun k hk => ⟨rfl, fun f _ => by rw [hM3]; rfl, fun f hf => by
        rw [hM3, mR_msR, ifF (fun z => by rw [z.1] at hf; exact absurd hf (by decide))]⟩, fun g hg n _ => (f8 g (by simp only [List.mem_cons, List.not_mem_nil, or_false] at hg; rcases hg with rfl | rfl | rfl | rfl | rfl | rfl <;> rfl)).2.2.1 n, fun v => (f8 94 rfl).2.2.1 v⟩
    have nd14 := NdR.mv nk23 (Nat.le_refl _) (Nat.le_refl _) (Nat.le_refl V) 100 100 1 a n' (Nat.le_refl _) nd
    have J : PrI D' V M3 s14 0 0 (fun _ => 0) M3 s14 := ⟨⟨E4o.rf, Ft.rf _ _⟩, ⟨by rw [(f15 0 rfl).1]; exact h3.h0, by rw [(f15 171 rfl).1]; exact h3.2.2.2.2.2.2.2.2.1, fun j hj => absurd hj (Nat.not_lt_zero _)⟩, ⟨h3.2.2.2.2.2.2.1 (by decide), by rw [(f15 161 rfl).1]; exact h3.2.2.2.2.2.2.2.1⟩, fun v hv => ((h3.2.1 v hv).2.2.2.2 (by decide)).mv (fun _ _ => rfl) ⟨(f15 104 rfl).2.2.1 v, (f15 160 rfl).2.2.1 v⟩⟩
    have := ev 1000 1900 0 (fun _ => 0) M3 s14 a n' (by decide) (by decide) (Or.inr nd14) J (by decide)
    have sg14 : SgX M M3 σ s14 := bt3.2.2.2.1.tr (SgX.tw f15 (by decide))
    rcases this with ⟨M4, s9, w, y, e1, e2, g1, g2, g3⟩ | ⟨r, M4, s9, e1, e2, ⟨E4, f4⟩, ⟨j1, j2, j3⟩, ⟨j4, j5⟩, j6⟩
    · left
      have e1' : K_X0_fixedCondition a M3 = some (.inr w, M4) := e1
      have e2' : F_holds (nI n') 0 s14 = some (y, s9) := e2
      rw [e1', obS_inr, hn]
      rw [hs14] at e2'
      refine ⟨M4, _, w, _, rfl, t_truth2 b2 b0 e2' ?_, ?_, ⟨N, h.hl.2, h138⟩, ⟨E, h143.2, ?_⟩, ?_⟩
      · rw [(g3 126 rfl).1, (f8 126 rfl).1]
      · exact (g1.tr sg14).tws (S := [126]) ((Ft.rf _ s9).p_tsI rfl) (by decide) (by decide) ⟨rfl, rfl⟩
      · show tI s9 143 = _
        rw [(g3 143 rfl).1, (f15 143 rfl).1]; exact h3.2.2.1.1.2.1
      · exact g2
    · right
      have e1' : K_X0_fixedCondition a M3 = some (.inl r, M4) := e1
      have e2' : F_holds (nI n') 0 s14 = some (r, s9) := e2
      rw [e1', obS_inl, hn]
      rw [hs14] at e2'
      have f5 : Ft prS s15 (tsI s9 126 (tI σ 126)) := by rw [hs15]; exact f4.tsI2
      obtain ⟨h4, bt4⟩ := h3.e4 (by decide) E4 f5 ⟨j4, j5, j2⟩ (fun v hv => (j6 v hv).mv (fun _ _ => rfl) ⟨rfl, rfl⟩)
      refine ⟨D', M4, _, r, _, rfl, t_truth2 b2 b0 e2' ?_, ?_, h4, bt3.tr bt4 (Nat.le_refl _) (Nat.le_refl _)⟩
      · rw [(f4 126 rfl).1, (f8 126 rfl).1]
      · by_cases q : r = 0
        · rw [ifT q]; exact ⟨fun _ => rfl, fun _ => q⟩
        · rw [ifF q]; exact ⟨fun z => absurd z q, fun z => absurd z (by decide)⟩
end TRUTH2
