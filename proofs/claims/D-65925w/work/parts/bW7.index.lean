/-! Layer B: the index: all equations, both sides -/
set_option maxRecDepth 100000
abbrev rdU : List Nat := 204 :: rdT
abbrev rdV : List Nat := 205 :: rdU
def RdW (V E U S K N : Nat) (D : FQ) (M : CM) (s : TS) : Prop := IdxR V E U S K N D M s ∧ (∀ u, u < U → mA M 122 u = tA s 191 u) ∧ Rg U S (fun u => mA M 122 u) ∧ RgQ U S (fun x => tA s 180 x = 0) (fun u => tA s 191 u) ∧ tI s 205 = nI 0
section INDEX
variable {D D' : FQ} {M M' M1 : CM} {s s' : TS} {V E U U' S S' K N H J mode d e f n u k j : Nat} {p x1 y1 : Int32}
theorem RdS.w (h : RdS V E U S K N p D M s) : RdW V E U S K N D M s := ⟨h.1, h.2.1, h.2.2.1, h.2.2.2.1, h.2.2.2.2.1⟩
theorem sn_of2 (A : ArS 133 134 40000 D M K) (hI : ∀ f o, 167 ≤ o → mI M' f o = mI M f o) (hR : ∀ f o, mR M' f o = mR M f o) : SnK D M D M' 134 K := fun j hj => ⟨rfl, fun f => hI f _ (A.1.2.1 134 (by decide) j (by have := A.2.2.2.1.2.1; omega)).2.1.1, fun f => hR f _⟩
/-- steps that write fields of fixed objects, and little on the twin's side -/
theorem IdxR.kg0 {I A0 T : List Nat} (h : IdxR V E U S K N D M s) (k : KF D I [] A0 [] M M') (f : Ft T s s') (o : ∀ f o, 167 ≤ o → mI M' f o = mI M f o) (h1 : [57, 65, 601, 602, 603, 604, 4202].all (fun k => !I.contains k) = true) (h2 : [119, 120, 121, 128, 129, 130, 132].all (fun k => !A0.contains k) = true) (h0 : tI s' 0 = tI s 0) (h3 : [94, 121, 122, 123, 124, 126, 134, 129, 130, 141, 142, 143, 154, 162, 177, 178, 179, 180, 187, 188, 189, 194, 195, 197, 202, 203].all (fun k => !T.contains k) = true) : IdxR V E U S K N D M' s' := by
  have A := h.1.1
  have q1 : ∀ k, k ∈ [57, 65, 601, 602, 603, 604, 4202] → I.contains k = false := fun k hk => by simpa using List.all_eq_true.mp h1 k hk
  have q2 : ∀ k, k ∈ [119, 120, 121, 128, 129, 130, 132] → A0.contains k = false := fun k hk => by simpa using List.all_eq_true.mp h2 k hk
  have q3 : ∀ k, k ∈ [94, 121, 122, 123, 124, 126, 134, 129, 130, 141, 142, 143, 154, 162, 177, 178, 179, 180, 187, 188, 189, 194, 195, 197, 202, 203] → T.contains k = false := fun k hk => by simpa using List.all_eq_true.mp h3 k hk
  refine h.up (A.kf k ?_ rfl rfl) ((k.r rfl 1).trans h.1.2) (k.i (q1 65 (by decide)) 1) (sn_of2 A o (fun f o => k.r rfl o)) ⟨fun g hg n _ => (f g (q3 g (by simp only [List.mem_cons, List.not_mem_nil, or_false] at hg ⊢; omega))).2.2.1 n, fun g hg n => (f g (q3 g (by simp only [List.mem_cons, List.not_mem_nil, or_false] at hg ⊢; omega))).2.2.1 n, fun u _ _ => (f 189 (q3 189 (by decide))).2.2.1 u⟩ (h.2.2.1.mv (k.i (q1 57 (by decide)) 1) (f 197 (q3 197 (by decide))).1 (fun u => ⟨k.ga (q2 119 (by decide)) u, k.ga (q2 120 (by decide)) u, k.ga (q2 121 (by decide)) u⟩) (fun u => ⟨(f 179 (q3 179 (by decide))).2.2.1 u, (f 187 (q3 187 (by decide))).2.2.1 u, (f 188 (q3 188 (by decide))).2.2.1 u, (f 189 (q3 189 (by decide))).2.2.1 u⟩)) (Nat.le_refl _) (fun o j ho => k.ga (q2 o (by simp only [List.mem_cons, List.not_mem_nil, or_false]; omega)) j) (fun o j _ => k.gx rfl j) (fun k hk => by
    by_cases z : k = 0
    · rw [z]; exact h0
    · exact (f k (q3 k (by simp only [List.mem_cons, List.not_mem_nil, or_false] at hk ⊢; omega))).1) (f 203 (q3 203 (by decide))).2.1 (fun k j hk => (f k (q3 k (by simp only [List.mem_cons, List.not_mem_nil, or_false] at hk ⊢; omega))).2.2.1 j)
  · refine List.all_eq_true.mpr (fun k hk => ?_)
    rw [q1 k (by simp only [List.mem_cons, List.not_mem_nil, or_false] at hk ⊢; omega)]; rfl
theorem IdxR.kg {I A0 T : List Nat} (h : IdxR V E U S K N D M s) (k : KF D I [] A0 [] M M') (f : Ft T s s') (o : ∀ f o, 167 ≤ o → mI M' f o = mI M f o) (h1 : [57, 65, 601, 602, 603, 604, 4202].all (fun k => !I.contains k) = true) (h2 : [119, 120, 121, 128, 129, 130, 132].all (fun k => !A0.contains k) = true) (h3 : [0, 94, 121, 122, 123, 124, 126, 134, 129, 130, 141, 142, 143, 154, 162, 177, 178, 179, 180, 187, 188, 189, 194, 195, 197, 202, 203].all (fun k => !T.contains k) = true) : IdxR V E U S K N D M' s' := h.kg0 k f o h1 h2 (f 0 (by simpa using List.all_eq_true.mp h3 0 (by decide))).1 (by
  rw [List.all_eq_true] at h3 ⊢
  exact fun k hk => h3 k (List.mem_cons_of_mem _ hk))
theorem KF.p605 (D : FQ) (M : CM) (x : Int32) : KF D [605] [] [] [] M (msI M 605 133 x) := KF.rf.wI rfl (by rw [tgo_s (by decide)]; exact Or.inr (Or.inl (by decide)))
theorem RdW.at_ (h : RdW V E U S K N D M s) (p : Int32) : RdS V E U S K N p D (msI M 605 133 p) (tsI s 204 p) := by
  obtain ⟨i, g1, g2, g3, g4⟩ := h
  have f : Ft [204] s (tsI s 204 p) := (Ft.rf _ s).p_tsI rfl
  exact ⟨i.kg (KF.p605 D M p) f (fun f o ho => by rw [mI_msI, ifF (by omega)]) (by decide) (by decide) (by decide), g1, g2, g3, g4, by rw [mI_msI, ifT ⟨rfl, rfl⟩], by rw [tI_tsI, ifT rfl]⟩
theorem k_nn : ∀ (d j f : Nat) (M : CM), j + d = 180 → d < f → ∃ M', KL_X0_giveNone_2 f (nI j) M = some ((), M') ∧ KF D [] [] [122] [] M M' ∧ ∀ i, (j ≤ i ∧ i < 180 → mA M' 122 i = -1) ∧ (¬ (j ≤ i ∧ i < 180) → mA M' 122 i = mA M 122 i) := by
  intro d
  induction d with
  | zero =>
    intro j f M hj hf
    obtain ⟨f, rfl⟩ : ∃ g, f = g + 1 := ⟨f - 1, by omega⟩
    obtain rfl : j = 180 := by omega
    refine ⟨M, ?_, KF.rf, fun i => ⟨fun z => by omega, fun _ => rfl⟩⟩
    unfold KL_X0_giveNone_2
    rw [ifT (show (180 : Int32) ≤ nI 180 by decide)]
  | succ d ih =>
    intro j f M hj hf
    obtain ⟨f, rfl⟩ : ∃ g, f = g + 1 := ⟨f - 1, by omega⟩
    obtain ⟨M1, hM1⟩ : ∃ q, q = mwA M 122 j (-1) := ⟨_, rfl⟩
    have k1 : KF D [] [] [122] [] M M1 := by rw [hM1]; exact KF.rf.wA rfl ⟨by decide, by decide⟩
    obtain ⟨M', a1, a2, a3⟩ := ih (j + 1) f M1 (by omega) (by omega)
    have ij : inb (nI j) 180 := inb_nI' (by omega) (by decide)
    have v : ∀ i, mA M1 122 i = if i = j then -1 else mA M 122 i := fun i => by
      rw [hM1, mA_mwA]
      by_cases y : i = j
      · rw [ifT ⟨rfl, y⟩, ifT y]
      · rw [ifF (fun q => y q.2), ifF y]
    refine ⟨M', ?_, k1.tr a2, fun i => ⟨fun z => ?_, fun z => ?_⟩⟩
    · unfold KL_X0_giveNone_2
      rw [ifF (fun z => by have := (bI_le (a := 180) (by decide) (by omega)).mp z; omega), ifT ij, ix_nI (by omega), ← hM1, nm_eq, nI_addL, nm_eq, a1]
    · by_cases y : i = j
      · rw [(a3 i).2 (by omega), v, ifT y]
      · exact (a3 i).1 (by omega)
    · rw [(a3 i).2 (by omega), v, ifF (by omega)]
theorem k_none (D : FQ) (M : CM) : ∃ M', K_X0_giveNone M = some ((), M') ∧ KF D [] [] [122] [] M M' ∧ ∀ i, i < 180 → mA M' 122 i = -1 := by
  obtain ⟨M', a1, a2, a3⟩ := k_nn (D := D) 180 0 FU M (by omega) (by have := fu2; omega)
  refine ⟨M', ?_, a2, fun i hi => (a3 i).1 (by omega)⟩
  unfold K_X0_giveNone
  rw [show KL_X0_giveNone_2 FU 0 M = some ((), M') from a1, ob_some]
theorem t_nn (hU : U ≤ 180) : ∀ (d j f : Nat) (s : TS), j + d = U → d < f → tI s 197 = nI U → ∃ s', L_reduce_7 f (nI j) s = some ((), s') ∧ Ft [191] s s' ∧ ∀ i, (j ≤ i ∧ i < U → tA s' 191 i = -1) ∧ (¬ (j ≤ i ∧ i < U) → tA s' 191 i = tA s 191 i) := by
  intro d
  induction d with
  | zero =>
    intro j f s hj hf h
    obtain ⟨f, rfl⟩ : ∃ g, f = g + 1 := ⟨f - 1, by omega⟩
    obtain rfl : j = U := by omega
    refine ⟨s, ?_, Ft.rf _ s, fun i => ⟨fun z => by omega, fun _ => rfl⟩⟩
    unfold L_reduce_7
    rw [h, ifT ((bI_le (by omega) (by omega)).mpr (Nat.le_refl _))]
  | succ d ih =>
    intro j f s hj hf h
    obtain ⟨f, rfl⟩ : ∃ g, f = g + 1 := ⟨f - 1, by omega⟩
    obtain ⟨s1, hs1⟩ : ∃ q, q = tsA s 191 j (-1) := ⟨_, rfl⟩
    have k1 : Ft [191] s s1 := by rw [hs1]; exact (Ft.rf _ s).p_tsA rfl
    obtain ⟨s', a1, a2, a3⟩ := ih (j + 1) f s1 (by omega) (by omega) ((k1 197 rfl).1.trans h)
    have ij : inb (nI j) 200 := inb_nI' (by omega) (by decide)
    have v : ∀ i, tA s1 191 i = if i = j then -1 else tA s 191 i := fun i => by
      rw [hs1, tA_tsA]
      by_cases y : i = j
      · rw [ifT ⟨rfl, y⟩, ifT y]
      · rw [ifF (fun q => y q.2), ifF y]
    refine ⟨s', ?_, k1.tr a2, fun i => ⟨fun z => ?_, fun z => ?_⟩⟩
    · unfold L_reduce_7
      rw [h, ifF (fun z => by have := (bI_le (by omega) (by omega)).mp z; omega), ifT ij, ix_nI (by omega), ← hs1, nm_eq, nI_addL, nm_eq, a1]
    · by_cases y : i = j
      · rw [(a3 i).2 (by omega), v, ifT y]
      · exact (a3 i).1 (by omega)
    · rw [(a3 i).2 (by omega), v, ifF (by omega)]
theorem z_30 (hV : V ≤ 96) : ∀ (d j kf tf : Nat) (D : FQ) (M : CM) (s : TS) (U S K N : Nat), j + d = E → d < kf → d < tf → RdW V E U S K N D M s → LwI H E j U S s → tI s 144 = nI E →
    (∃ w M' s' q, KL_X0_lowerIndex_11 kf (nI E) (nI j) M = some (.inr (.inr w), M') ∧ L_reduce_30 tf (nI j) s = some (.inr (), s') ∧ FltI D M M' w q ∧ Ft rdU s s' ∧ tI s' 0 = 52 ∧ tI s' 1 = q ∧ Nd5 s s' N) ∨
    ∃ D' M' K' N' U' S' s', KL_X0_lowerIndex_11 kf (nI E) (nI j) M = some (.inl (), M') ∧ L_reduce_30 tf (nI j) s = some (.inl (), s') ∧ RdW V E U' S' K' N' D' M' s' ∧ (U ≤ U' ∧ S ≤ S' ∧ K ≤ K' ∧ N ≤ N') ∧ SvR [57, 65, 605] ixA D M D' M' ∧ Ft rdU s s' ∧ (NdU s s' N U ∧ SnK D M D' M' 134 K) ∧ (∀ g, g < S → tA s' 180 g = tA s 180 g) ∧ LwI H E E U' S' s' := by
  have fu := fu2
  intro d
  induction d with
  | zero =>
    intro j kf tf D M s U S K N hj hkf htf h lw h144
    obtain ⟨kf, rfl⟩ : ∃ g, kf = g + 1 := ⟨kf - 1, by omega⟩
    obtain ⟨tf, rfl⟩ : ∃ g, tf = g + 1 := ⟨tf - 1, by omega⟩
    obtain rfl : j = E := by omega
    have le : nI j ≤ nI j := (bI_le (by have := h.1.2.1.2.2; omega) (by have := h.1.2.1.2.2; omega)).mpr (Nat.le_refl _)
    refine Or.inr ⟨D, M, K, N, U, S, s, ?_, ?_, h, ⟨Nat.le_refl _, Nat.le_refl _, Nat.le_refl _, Nat.le_refl _⟩, SvR.rf, Ft.rf _ s, ⟨NdX.rf.nu, SnK.rf⟩, fun _ _ => rfl, lw⟩
    · unfold KL_X0_lowerIndex_11; rw [ifT le]
    · unfold L_reduce_30; rw [h144, ifT le]
  | succ d ih =>
    intro j kf tf D M s U S K N hj hkf htf h lw h144
    obtain ⟨kf, rfl⟩ : ∃ g, kf = g + 1 := ⟨kf - 1, by omega⟩
    obtain ⟨tf, rfl⟩ : ∃ g, tf = g + 1 := ⟨tf - 1, by omega⟩
    have hS := h.1.2.1.2.2
    have t0 : tI s 0 = 0 := h.1.2.2.2.2.2.2.1
    have le : ¬ nI E ≤ nI j := fun z => by have := (bI_le (by omega) (by omega)).mp z; omega
    have nx : nI j + 1 = nI (j + 1) := nI_addL j 1
    have ij : inb (nI j) 180 := inb_nI' (by omega) (by decide)
    have ij2 : inb (nI j) 400 := inb_nI' (by omega) (by decide)
    have xj : ix (nI j) = j := ix_nI (by omega)
    have e128 : mA M 128 j = tA s 180 j := (h.1.2.2.2.2.1 j (by omega)).1.1
    obtain ⟨w1, w2, w3, w4⟩ := lw
    have lw' : LwI H E (j + 1) U S s := ⟨w1, w2, fun u x hu hx y => ⟨by have := (w3 u x hu hx y).1; omega, (w3 u x hu hx y).2⟩, fun k y1 y2 => w4 k (by omega) y2⟩
    by_cases z : tA s 180 j = 0
    · have r1 := h.at_ (nI j)
      obtain ⟨M1, hM1⟩ : ∃ q, q = msI M 605 133 (nI j) := ⟨_, rfl⟩
      obtain ⟨s1, hs1⟩ : ∃ q, q = tsI s 204 (nI j) := ⟨_, rfl⟩
      have k1 : KF D [605] [] [] [] M M1 := by rw [hM1]; exact KF.p605 D M _
      have f1 : Ft rdU s s1 := by rw [hs1]; exact ((Ft.rf [204] s).p_tsI rfl).mono (by decide)
      have n1 : NdU s s1 N U := (NdX.ft (S := [204]) (by rw [hs1]; exact (Ft.rf [204] s).p_tsI rfl) rfl).nu
      have o1 : ∀ f o, 167 ≤ o → mI M1 f o = mI M f o := fun f o ho => by rw [hM1, mI_msI, ifF (by omega)]
      rw [← hM1, ← hs1] at r1
      obtain ⟨M2, m1, m2, m3⟩ := k_unmark D M1
      have r2 : RdS V E U S K N (nI j) D M2 s1 := ⟨r1.1.kf (m2.mono rfl rfl (by decide) rfl) (Ft.rf _ _), fun u hu => (m2.ga rfl u).trans (r1.2.1 u hu), fun u hu => by
        show mA M2 122 u = -1 ∨ ∃ e, e < S ∧ mA M2 122 u = nI e
        rw [m2.ga rfl]; exact r1.2.2.1 u hu, r1.2.2.2.1, r1.2.2.2.2.1, (m2.i rfl 133).trans r1.2.2.2.2.2.1, r1.2.2.2.2.2.2⟩
      have sv : SvR [57, 65, 605] ixA D M D M2 := (SvR.kf k1 rfl rfl ⟨rfl, rfl⟩ rfl).tr (SvR.kf m2 rfl rfl ⟨rfl, rfl⟩ rfl)
      have sn : SnK D M D M2 134 K := sn_of2 h.1.1.1 (fun f o ho => (m2.i rfl o).trans (o1 f o ho)) (fun f o => (m2.r rfl o).trans (k1.r rfl o))
      have e180 : ∀ g, tA s1 180 g = tA s 180 g := fun g => by rw [hs1]; rfl
      have eK : KL_X0_lowerIndex_11 (kf + 1) (nI E) (nI j) M = obS (KL_X0_lowerIndex_42 FU (nI E) (nI j) (nI j) M2) (fun r96 M92 => some (.inr r96, M92)) fun q91 M92 => KL_X0_lowerIndex_11 kf (nI E) (nI (j + 1)) M92 := by
        conv => lhs; unfold KL_X0_lowerIndex_11
        rw [ifF le, ifT ij, xj, e128, ifT z, ← hM1, nm_eq, m1, ob_some, nx]
        rfl
      have eT : L_reduce_30 (tf + 1) (nI j) s = obS (L_reduce_64 FU (nI j) (nI j) s1) (fun r99 s95 => some (.inr r99, s95)) fun q94 s95 => L_reduce_30 tf (nI (j + 1)) s95 := by
        conv => lhs; unfold L_reduce_30
        rw [h144, ifF le, t_isBad0 t0, ob_some, ifT rfl, ifT ij2, xj, ifT z, ← hs1, nm_eq, nx]
        rfl
      have lw1 : LwI H E (j + 1) U S s1 := by rw [hs1]; exact lw'
      have lc1 : LwC E (j + 1) U s1 j := by
        rw [hs1]
        exact ⟨w4 j (Nat.le_refl _) (by omega), Or.inl (by omega), fun u hu y => by have := (w3 u j hu (by omega) y).1; omega⟩
      rw [eK, eT]
      rcases z_rounds (x1 := nI E) (y1 := nI j) hV 181 j FU FU D M2 s1 U S K N (by omega) (by omega) (by omega) r2 (by omega) ((e180 j).trans z) lw1 lc1 m3 with ⟨w, M', s', a1, a2, a3, a4, a5, a6⟩ | ⟨D', M', K', N', U', S', s', a1, a2, a3, ⟨a4, a5, a6, a7⟩, a8, a9, ⟨a10, a11⟩, a12, a13⟩
      · left
        refine ⟨w, M', s', nI j, by rw [a1, obS_inr], by rw [a2, obS_inr], a3.pre sv, f1.tr (a4.mono (by decide)), a5, a6.1, Nd5.tr n1.1 a6.2 (Nat.le_refl _)⟩
      · rw [a1, a2, obS_inl, obS_inl]
        rcases ih (j + 1) kf tf D' M' s' U' S' K' N' (by omega) (by omega) (by omega) a3.w a13 ((a9 144 rfl).1.trans ((f1 144 rfl).1.trans h144)) with ⟨w, M3, s3, q, b1, b2, b3, b4, b5⟩ | ⟨D3, M3, K3, N3, U3, S3, s3, b1, b2, b3, ⟨b4, b5, b6, b7⟩, b8, b9, ⟨b10, b11⟩, b12, b13⟩
        · exact Or.inl ⟨w, M3, s3, q, b1, b2, b3.pre (sv.tr a8), (f1.tr (a9.mono (by decide))).tr b4, b5.1, b5.2.1, Nd5.tr (Nd5.tr n1.1 a10.1 (Nat.le_refl _)) b5.2.2 a7⟩
        · exact Or.inr ⟨D3, M3, K3, N3, U3, S3, s3, b1, b2, b3, ⟨by omega, by omega, by omega, by omega⟩, (sv.tr a8).tr b8, (f1.tr (a9.mono (by decide))).tr b9, ⟨(n1.tr a10 (Nat.le_refl _) (Nat.le_refl _)).tr b10 a7 a4, (sn.tr a11 (Nat.le_refl _)).tr b11 a6⟩, fun g hg => by rw [b12 g (by omega), a12 g hg, e180], b13⟩
    · have eK : KL_X0_lowerIndex_11 (kf + 1) (nI E) (nI j) M = KL_X0_lowerIndex_11 kf (nI E) (nI (j + 1)) M := by
        conv => lhs; unfold KL_X0_lowerIndex_11
        rw [ifF le, ifT ij, xj, e128, ifF z, nx, nm_eq]
      have eT : L_reduce_30 (tf + 1) (nI j) s = L_reduce_30 tf (nI (j + 1)) s := by
        conv => lhs; unfold L_reduce_30
        rw [h144, ifF le, t_isBad0 t0, ob_some, ifT rfl, ifT ij2, xj, ifF z, nx, nm_eq]
      rw [eK, eT]
      exact ih (j + 1) kf tf D M s U S K N (by omega) (by omega) (by omega) h lw' h144
/-- the index is lowered, both sides -/
theorem z_lower (hV : V ≤ 96) (i : IdxR V E U S K N D M s) (h35 : mI M 35 1 = nI E) (h144 : tI s 144 = nI E) (hh : hcU s U = H ∧ udc s S = H) (h194 : ∀ k, k < E → tA s 194 k = -1) :
    (∃ w M' s' q, K_X0_lowerIndex M = some (.inr w, M') ∧ F_reduce s = some ((), s') ∧ FltI D M M' w q ∧ Ft rdV s s' ∧ tI s' 0 = 52 ∧ tI s' 1 = q ∧ Nd5 s s' N) ∨
    ∃ D' M' K' N' U' S' s', K_X0_lowerIndex M = some (.inl (), M') ∧ F_reduce s = some ((), s') ∧ RdW V E U' S' K' N' D' M' s' ∧ (U ≤ U' ∧ S ≤ S' ∧ K ≤ K' ∧ N ≤ N') ∧ SvR [57, 65, 605] ixA D M D' M' ∧ Ft rdV s s' ∧ (NdU s s' N U ∧ SnK D M D' M' 134 K) ∧ (∀ g, g < S → tA s' 180 g = tA s 180 g) ∧ LwI H E E U' S' s' := by
  have fu := fu2
  have hU := i.2.2.1.1.2.2
  have hS := i.2.1.2.2
  obtain ⟨M1, m1, m2, m3⟩ := k_none D M
  obtain ⟨s0, hs0⟩ : ∃ q, q = tsI s 205 0 := ⟨_, rfl⟩
  have f0 : Ft [205] s s0 := by rw [hs0]; exact (Ft.rf _ s).p_tsI rfl
  obtain ⟨s1, n1, n2, n3⟩ := t_nn hU U 0 FU s0 (by omega) (by omega) ((f0 197 rfl).1.trans i.2.2.1.1.2.1)
  have f1 : Ft [191, 205] s s1 := (f0.mono (by decide)).tr (n2.mono (by decide))
  have i1 : IdxR V E U S K N D M1 s1 := i.kg m2 f1 (fun f o _ => m2.i rfl o) (by decide) (by decide) (by decide)
  have r1 : RdW V E U S K N D M1 s1 := ⟨i1, fun u hu => by rw [m3 u (by omega), (n3 u).1 ⟨Nat.zero_le _, hu⟩], fun u hu => Or.inl (m3 u (by omega)), fun u x hu hx y => by
    have y : tA s1 191 u = nI x := y
    rw [(n3 u).1 ⟨Nat.zero_le _, hu⟩] at y
    exact absurd y.symm (nI_m1 (by omega)), by rw [(n2 205 rfl).1, hs0, tI_tsI, ifT rfl]; rfl⟩
  have sv : SvR [57, 65, 605] ixA D M D M1 := SvR.kf m2 rfl rfl ⟨rfl, rfl⟩ rfl
  have sn : SnK D M D M1 134 K := sn_of i.1.1 (fun f o _ => m2.i rfl o) (fun f o => m2.r rfl o)
  have x1 : NdU s s1 N U := (NdX.ft f1 rfl).nu
  have nn : ∀ u, u < U → tA s1 191 u = -1 := fun u hu => (n3 u).1 ⟨Nat.zero_le _, hu⟩
  have lw1 : LwI H E 0 U S s1 := by
    refine ⟨⟨?_, ?_⟩, fun u u' hu hu' hne h0 hee => ?_, fun u x hu hx y => ?_, fun k _ y2 => by rw [(f1 194 rfl).2.2.1]; exact h194 k y2⟩
    · rw [show hcU s1 U = hcU s U from cnB_eq (fun u _ => by rw [(f1 189 rfl).2.2.1])]; exact hh.1
    · rw [show udc s1 S = udc s S from cnB_eq (fun u _ => by rw [(f1 180 rfl).2.2.1, (f1 194 rfl).2.2.1])]; exact hh.2
    · have h0 : 0 ≤ tA s1 191 u := h0
      rw [nn u hu] at h0; exact absurd h0 (by decide)
    · rw [nn u hu] at y; exact absurd y.symm (nI_m1 (by omega))
  have eK : K_X0_lowerIndex M = obS (KL_X0_lowerIndex_11 FU (nI E) 0 M1) (fun r104 M101 => some (r104, M101)) fun q100 M101 => some (.inl (), M101) := by
    unfold K_X0_lowerIndex
    rw [m1, ob_some, m2.i rfl, h35, nm_eq]
  have eT : F_reduce s = obS (L_reduce_30 FU 0 s1) (fun r108 s105 => some (r108, s105)) fun q104 s105 => some ((), s105) := by
    unfold F_reduce
    rw [← hs0, nm_eq, show L_reduce_7 FU 0 s0 = some ((), s1) from n1, ob_some]
  rw [eK, eT]
  rcases z_30 hV E 0 FU FU D M1 s1 U S K N (by omega) (by omega) (by omega) r1 lw1 ((f1 144 rfl).1.trans h144) with ⟨w, M', s', q, a1, a2, a3, a4, a5⟩ | ⟨D', M', K', N', U', S', s', a1, a2, a3, a4, a5, a6, ⟨a7, a8⟩, a9, a10⟩
  · exact Or.inl ⟨w, M', s', q, by rw [show KL_X0_lowerIndex_11 FU (nI E) 0 M1 = _ from a1, obS_inr], by rw [show L_reduce_30 FU 0 s1 = _ from a2, obS_inr], a3.pre sv, (f1.mono (by decide)).tr (a4.mono (by decide)), a5.1, a5.2.1, Nd5.tr x1.1 a5.2.2 (Nat.le_refl _)⟩
  · exact Or.inr ⟨D', M', K', N', U', S', s', by rw [show KL_X0_lowerIndex_11 FU (nI E) 0 M1 = _ from a1, obS_inl], by rw [show L_reduce_30 FU 0 s1 = _ from a2, obS_inl], a3, a4, sv.tr a5, (f1.mono (by decide)).tr (a6.mono (by decide)), ⟨x1.tr a7 (Nat.le_refl _) (Nat.le_refl _), sn.tr a8 (Nat.le_refl _)⟩, fun g hg => by rw [a9 g hg, (f1 180 rfl).2.2.1], a10⟩
end INDEX
