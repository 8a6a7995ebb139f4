/-! Layer B: the flat model: one more equation, both sides -/
set_option maxRecDepth 100000
section EQN
variable {zb : Nat} {C : PC} {D D' D1 D2 : FQ} {M M' M1 M2 M3 M0 : CM} {σ σ' σ1 σ2 σ0 s1 : TS} {mss fss : List Nat} {B V I Bm K N K' N' E A Wn E' A' Wn' v l k x0 dc md X N0 Lp w d s o n i nf R a b n1 n2 : Nat} {P T : Nat → Prop} {x3 y r : Int32} {z7 : Nat → Nat} {S : List Nat}
theorem Vx1.mv (h : Vx1 D M σ V K N v) (nk : NdK D M σ D' M' σ' 106 K N) (hK : K ≤ K') (hN : N ≤ N') (e : mR M' 3210 ((pl D' 98).getD v 0) = mR M 3210 ((pl D 98).getD v 0)) (t : tA σ' 158 v = tA σ 158 v) : Vx1 D' M' σ' V K' N' v := by
  unfold Vx1
  rw [e, t]
  rcases h with h | ⟨n, h1, h2⟩
  · exact Or.inl h
  · exact Or.inr ⟨n, h1, NdR.mv nk hK hN (Nat.le_refl V) 100 100 0 _ n (Nat.le_refl _) h2⟩
theorem Vs1.mv (h : Vs1 D M σ V K N v) (nk : NdK D M σ D' M' σ' 106 K N) (hK : K ≤ K') (hN : N ≤ N') (e : mR M' 3211 ((pl D' 98).getD v 0) = mR M 3211 ((pl D 98).getD v 0)) (t : tA σ' 159 v = tA σ 159 v) : Vs1 D' M' σ' V K' N' v := by
  unfold Vs1
  rw [e, t]
  rcases h with h | ⟨n, h1, h2⟩
  · exact Or.inl h
  · exact Or.inr ⟨n, h1, NdR.mv nk hK hN (Nat.le_refl V) 100 100 0 _ n (Nat.le_refl _) h2⟩
theorem Fl1.mv (h : Fl1 D M σ v) (e : ∀ f, f = 3213 ∨ f = 3215 ∨ f = 3216 → mI M' f ((pl D' 98).getD v 0) = mI M f ((pl D 98).getD v 0)) (t : tA σ' 104 v = tA σ 104 v ∧ tA σ' 160 v = tA σ 160 v) : Fl1 D' M' σ' v := by
  unfold Fl1
  rw [e _ (Or.inl rfl), e _ (Or.inr (Or.inl rfl)), e _ (Or.inr (Or.inr rfl)), t.1, t.2]
  exact h
theorem Flz.mv (h : Flz zb D M σ v) (e : ∀ f, f = 3213 ∨ f = 3215 ∨ f = 3216 → mI M' f ((pl D' 98).getD v 0) = mI M f ((pl D 98).getD v 0)) (t : tA σ' 104 v = tA σ 104 v ∧ tA σ' 160 v = tA σ 160 v) : Flz zb D' M' σ' v := by
  unfold Flz
  rw [e _ (Or.inl rfl), t.1, t.2]
  exact ⟨h.1, h.2.1, fun z => (h.2.2 z).mv e t⟩
theorem EqX1.mv (h : EqX1 D M σ V K N k) (nk : NdK D M σ D' M' σ' 106 K N) (hK : K ≤ K') (hN : N ≤ N') (e : ∀ f, f = 3600 ∨ f = 3601 → mR M' f ((pl D' 111).getD k 0) = mR M f ((pl D 111).getD k 0)) (t : tA σ' 141 k = tA σ 141 k ∧ tA σ' 142 k = tA σ 142 k) : EqX1 D' M' σ' V K' N' k := by
  obtain ⟨⟨n, a1, a2⟩, m, b1, b2⟩ := h
  unfold EqX1
  rw [e _ (Or.inl rfl), e _ (Or.inr rfl), t.1, t.2]
  exact ⟨⟨n, a1, NdR.mv nk hK hN (Nat.le_refl V) 100 100 0 _ n (Nat.le_refl _) a2⟩, m, b1, NdR.mv nk hK hN (Nat.le_refl V) 100 100 0 _ m (Nat.le_refl _) b2⟩
theorem AcX1.mv (h : AcX1 D M σ V K N k) (nk : NdK D M σ D' M' σ' 106 K N) (hK : K ≤ K') (hN : N ≤ N') (e : ∀ f, f = 4000 ∨ f = 4001 → mI M' f ((pl D' 112).getD k 0) = mI M f ((pl D 112).getD k 0)) (e2 : mR M' 4002 ((pl D' 112).getD k 0) = mR M 4002 ((pl D 112).getD k 0)) (t : ∀ f, f = 149 ∨ f = 150 ∨ f = 151 → tA σ' f k = tA σ f k) : AcX1 D' M' σ' V K' N' k := by
  obtain ⟨h1, h2, n, a1, a2⟩ := h
  unfold AcX1
  rw [e _ (Or.inl rfl), e _ (Or.inr rfl), e2, t _ (Or.inl rfl), t _ (Or.inr (Or.inl rfl)), t _ (Or.inr (Or.inr rfl))]
  exact ⟨h1.mv nk.2.2, h2, n, a1, NdR.mv nk hK hN (Nat.le_refl V) 100 100 0 _ n (Nat.le_refl _) a2⟩
theorem WhX1.mv (h : WhX1 D M σ V K N A k) (nk : NdK D M σ D' M' σ' 106 K N) (hK : K ≤ K') (hN : N ≤ N') (hA : A ≤ A') (e : ∀ f, f = 3802 ∨ f = 3803 → mI M' f ((pl D' 113).getD k 0) = mI M f ((pl D 113).getD k 0)) (e2 : mR M' 3800 ((pl D' 113).getD k 0) = mR M 3800 ((pl D 113).getD k 0)) (t : ∀ f, f = 145 ∨ f = 146 ∨ f = 147 → tA σ' f k = tA σ f k) : WhX1 D' M' σ' V K' N' A' k := by
  obtain ⟨⟨n, a1, a2⟩, f, m, b1, b2, b3, b4, b5⟩ := h
  unfold WhX1
  rw [e _ (Or.inl rfl), e _ (Or.inr rfl), e2, t _ (Or.inl rfl), t _ (Or.inr (Or.inl rfl)), t _ (Or.inr (Or.inr rfl))]
  exact ⟨⟨n, a1, NdR.mv nk hK hN (Nat.le_refl V) 100 100 1 _ n (Nat.le_refl _) a2⟩, f, m, b1, b2, b3, b4, by omega⟩
/-- the next object of a table is there and written, with object 1 -/
theorem k_tbl (h : PoW D M) (hn : 167 ≤ mn M) (hc : mn M ≤ 601024) (hl : l = 111 ∨ l = 112 ∨ l = 113) (nx : Nx D M D' M1 l R) (F2 : Fz (fun o => o = 1 ∨ o = (pl D' l).getD R 0) M1 M2) (hs : mn M2 = mn M1 ∧ ms M2 = ms M1) (hr : ∀ o, mR M2 2605 o = mR M1 2605 o ∧ mR M2 4201 o = mR M1 4201 o ∧ ml M2 o = ml M1 o) (h32 : ∀ o, mR M2 3204 o = mR M1 3204 o) : PoW D' M2 ∧ Fq D (fun t => t = 1 ∨ t = l ∨ t = tg l R) M M2 ∧ (rmN D' M2 ≤ rmN D M ∧ rmS D' M2 ≤ rmS D M) ∧ So M M1 1 := by
  obtain ⟨w1, w2, w3, w4, w5, w6, w7, w8⟩ := nx
  have n1 := w4.1
  have hlL : l ∈ flL := by rcases hl with rfl | rfl | rfl <;> decide
  have hlA := flL_A l hlL
  have l2 : l < 167 ∧ l ≠ 1 := by omega
  have RX : R < 1000 := by
    have q := (w1.1 l hlA).2.2
    have : flX l ≤ 200 := by rcases hl with rfl | rfl | rfl <;> decide
    omega
  obtain ⟨a1, a2, a3⟩ := w1.2.1 l hlL R w2
  have W2 : PoW D' M2 := w1.gn (by omega) F2 (fun o ho z => by
    rcases z with z | z
    · exact Or.inl ⟨by omega, by rw [z]; decide⟩
    · rw [z, a3]
      exact Or.inr ⟨by omega, by unfold tg; omega, fun k => by unfold tg; omega⟩) (fun k _ => h32 _) (fun k _ => (hr _).1) (fun o h1 h2 => by omega)
  have f1 : Fq D (fun t => t = 1 ∨ t = l ∨ t = tg l R) M M1 := w4.mono (fun o ho z => by
    rcases z with z | z
    · rw [z, tgo_s l2.1]; exact Or.inr (Or.inl rfl)
    · exact Or.inr (Or.inl ((h.1 l hlA).2.1.tg hc ho z)))
  have f2 : Fq D' (fun t => t = 1 ∨ t = l ∨ t = tg l R) M1 M2 := F2.mono (fun o ho z => by
    rcases z with z | z
    · rw [z, tgo_s (by decide)]; exact Or.inl rfl
    · rw [z, w1.tv hlL w2]; exact Or.inr (Or.inr rfl))
  have rm := rm_same (D := D') hs hr
  have s1 : So M M1 1 := w4.so (by omega) (fun z => by
    rcases z with z | z
    · omega
    · have q := h.1 l hlA
      have := (q.2.1 (by omega)).1.2
      omega)
  exact ⟨W2, f1.tr f2 w3, by rw [rm.1, rm.2]; exact w6, s1⟩
theorem k_equation (h : PoW D M) (hn : 167 ≤ mn M) (cN : rmN D M ≤ 601024) (cS : rmS D M + 60100 ≤ 7293034) (h35 : mI M 35 1 = nI E) (hE : E < 120 ∧ E ≤ (pl D 111).length) (a b : Nat) : ∃ D' M', K_X0_equation a b M = some (.inl ((pl D' 111).getD E 0), M') ∧ (PoW D' M' ∧ E < (pl D' 111).length ∧ Dx D D' M ∧ (∀ i, i ≠ 111 → pl D' i = pl D i)) ∧ Fq D (fun t => t = 1 ∨ t = 111 ∨ t = tg 111 E) M M' ∧ (rmN D' M' ≤ rmN D M ∧ rmS D' M' ≤ rmS D M) ∧ ((∀ f, f ≠ 35 → mI M' f 1 = mI M f 1) ∧ (∀ f, mR M' f 1 = mR M f 1) ∧ mI M' 35 1 = nI (E + 1)) ∧ mR M' 3600 ((pl D' 111).getD E 0) = a ∧ mR M' 3601 ((pl D' 111).getD E 0) = b := by
  have c1 : mn M ≤ rmN D M := Nat.le_add_right _ _
  obtain ⟨p1, p2, p3, p4, p5⟩ := al_plain (M := M) 19 2 (by decide)
  have hi : K_X20_init (mn M) (mnew M (flK 111) 0 2) = some ((), mnew M 19 0 2) := by
    unfold K_X20_init
    rw [ifT (show ¬ mn M = 0 by omega)]
    rfl
  obtain ⟨D', M1, e, nx⟩ := pool_next (α := (Nat ⊕ Nat) × CM) h hn (l := 111) (by decide) hE.2 hE.1 (fun _ => hi) p1 p2 ⟨p3, p4⟩ (Nat.le_refl _) (fun z => absurd z (by decide)) (fun z => absurd z (by decide)) p5 cN cS (fun M => KJ_X0_equation_45 a b M)
  have w2 := nx.2.1
  obtain ⟨o, ho⟩ : ∃ o, o = (pl D' 111).getD E 0 := ⟨_, rfl⟩
  have ko : mk M1 o = 19 ∧ (167 ≤ o ∧ o < mn M1) := by
    have := nx.1.2.1 111 (by decide) E w2
    rw [ho]; exact ⟨this.1, this.2.1⟩
  obtain ⟨M2, hM2⟩ : ∃ M2, M2 = msI (msR (msR M1 3600 o a) 3601 o b) 35 1 (nI (E + 1)) := ⟨_, rfl⟩
  have F2 : Fz (fun q => q = 1 ∨ q = (pl D' 111).getD E 0) M1 M2 := by
    rw [hM2, ← ho]
    exact (((Fz.rf (X := fun q => q = 1 ∨ q = o)).msR (fun _ => Or.inr rfl)).msR (fun _ => Or.inr rfl)).msI (fun _ => Or.inl rfl)
  obtain ⟨W2, fq, rm, s1⟩ := k_tbl h hn (by omega) (Or.inl rfl) nx F2 (by rw [hM2]; exact ⟨rfl, rfl⟩) (fun q => by rw [hM2]; exact ⟨rfl, rfl, rfl⟩) (fun q => by rw [hM2]; rfl)
  have kk : KJ_X0_equation_45 a b M1 = some (.inl o, M2) := by
    unfold KJ_X0_equation_45
    rw [s1.i, h35, nx_get nx (by decide), ob_some, ← ho, ifT (Or.inr ko.1), ifT ko.1, nm_eq, mk_msR, ifT ko.1, nm_eq, mI_msR, mI_msR, s1.i, h35, nI_addL, nm_eq, ← hM2]
  refine ⟨D', M2, ?_, ⟨W2, w2, nx.2.2.1, nx.2.2.2.2.1⟩, fq, rm, ⟨fun f hf => ?_, fun f => ?_, ?_⟩, ?_, ?_⟩
  · unfold K_X0_equation
    have hne : ¬ nI E = 120 := fun z => by have := (bI_eq (b := 120) (by omega) (by decide)).mp z; omega
    rw [h35, ifF hne, ← ho]
    exact e.trans kk
  · rw [hM2, mI_msI, ifF (fun z => hf z.1), mI_msR, mI_msR]; exact s1.i f
  · rw [hM2, mR_msI, mR_msR, ifF (by omega), mR_msR, ifF (by omega)]; exact s1.r f
  · rw [hM2, mI_msI, ifT ⟨rfl, rfl⟩]
  · rw [← ho, hM2, mR_msI, mR_msR, ifF (by omega), mR_msR, ifT ⟨rfl, rfl⟩]
  · rw [← ho, hM2, mR_msI, mR_msR, ifT ⟨rfl, rfl⟩]
theorem BS.sm (h : BS zb z7 C B P mss fss V I Bm Lp x3 D M σ K N E A Wn) (hz : zb ≤ 1) : Sm 141 142 σ N N E A Wn := h.2.2.2.2.2.2.2.2.2 hz
/-- two trees that no equation has yet -/
theorem pd2 {S2 : List Nat} {N2 : Nat} (h : Sm 141 142 σ N N E A Wn) (g : Nd4 σ σ' N) (f : Ft S σ σ') (hS : [141, 142, 145, 151].all (fun k => !S.contains k) = true) (hN : N ≤ N') (g2 : Nd4 σ' σ2 N') (f2 : Ft S2 σ' σ2) (hS2 : [141, 142, 145, 151].all (fun k => !S2.contains k) = true) (hN2 : N' ≤ N2) (s1 : ∃ z, SzR σ' N' 100 n1 z ∧ z + N ≤ n1 + 1) (s2 : ∃ z, SzR σ2 N2 100 n2 z ∧ z + N' ≤ n2 + 1) : ∃ L z1 z2, Sm 141 142 σ2 N2 L E A Wn ∧ SzR σ2 N2 100 n1 z1 ∧ SzR σ2 N2 100 n2 z2 ∧ L + z1 ≤ n1 + 1 ∧ n1 + z2 ≤ n2 := by
  obtain ⟨z1, a1, a2⟩ := s1
  obtain ⟨z2, b1, b2⟩ := s2
  have l1 := a1.lt
  exact ⟨N, z1, z2, (h.ft g hN (Nat.le_refl _) f hS).ft g2 hN2 (Nat.le_refl _) f2 hS2, SzR.mv g2 hN2 _ _ _ _ _ (Nat.le_refl _) (Nat.le_refl _) a1, b1, by omega, by omega⟩
theorem z_equation (h : BS zb z7 C B P mss fss V I Bm Lp x3 D M σ K N E A Wn) (hz : zb ≤ 1 → ∃ L z1 z2, Sm 141 142 σ N L E A Wn ∧ SzR σ N 100 n1 z1 ∧ SzR σ N 100 n2 z2 ∧ L + z1 ≤ n1 + 1 ∧ n1 + z2 ≤ n2) (ga : NdR 0 D M σ 106 V 100 0 K N a n1) (gb : NdR 0 D M σ 106 V 100 0 K N b n2) : BO zb z7 C B P mss fss V I Bm Lp x3 id D M σ K N E A Wn (K_X0_equation a b M) (F_addEquation (nI n1) (nI n2) σ) := by
  have W := h.fw
  have h0 := h.h0
  have h167 := W.n167
  have hb := h
  obtain ⟨Fs, bv, ⟨⟨b1, b2, b3, b4⟩, b5⟩, ⟨⟨c1, c2, c3, c4⟩, c5⟩, ⟨⟨d1, d2, d3, d4⟩, d5⟩, j1, j2, j3, j4⟩ := hb
  by_cases hE : E = 120
  · obtain ⟨e1, e2, g⟩ := h.bad (x4 := 24) (by decide)
    refine Or.inl ⟨_, _, _, (), ?_, ?_, g⟩
    · unfold K_X0_equation
      rw [b1, ifT (show nI E = 120 by rw [hE]; rfl), e1, ob_some, ifT (wM_k M 24 0)]; rfl
    · unfold F_addEquation
      rw [t_isBad0 h0, ob_some, ifT (rfl : (0 : Int32) = 0), b2, ifT (show nI E = 120 by rw [hE]; rfl), e2, ob_some]
  · obtain ⟨D', M', e1, ⟨p1, p2, p3, p4⟩, fq, rm, ⟨i1, i2, i3⟩, r1, r2⟩ := k_equation W.2.1 h167 W.rN W.rS b1 (by omega) a b
    obtain ⟨σ', hσ'⟩ : ∃ s, s = tsI (tsA (tsA σ 141 E (nI n1)) 142 E (nI n2)) 143 (nI (E + 1)) := ⟨_, rfl⟩
    have f : Ft [141, 142, 143] σ σ' := by rw [hσ']; exact (((Ft.rf _ σ).p_tsA rfl).p_tsA rfl).p_tsI rfl
    have te : F_addEquation (nI n1) (nI n2) σ = some ((), σ') := by
      have x1 : inb (nI E) 400 := inb_nI' (by omega) (by decide)
      have hne : ¬ nI E = 120 := fun z => by have := (bI_eq (b := 120) (by omega) (by decide)).mp z; omega
      unfold F_addEquation
      rw [t_isBad0 h0, ob_some, ifT (rfl : (0 : Int32) = 0), b2, ifF hne, ifT x1, nm_eq, tI_tsA, b2, ifT x1, nm_eq, tI_tsA, tI_tsA, b2, nI_addL, nm_eq, ix_nI (by omega), ← hσ']
    have fq' := fq.mono (T' := TW) (fun t z => by
      unfold TW tg
      unfold tg at z
      omega)
    have sx : ∀ l k, l ∈ flL → k < (pl D l).length → tg l k ≠ 1 → tg l k ≠ 111 → tg l k ≠ tg 111 E → So M M' ((pl D l).getD k 0) := fun l k hl hk y1 y2 y3 => W.2.1.so3 hl hk fq (by omega)
    obtain ⟨W', v⟩ := W.mv2 (fq.mono (fun t z => by unfold TG; unfold tg at z; omega)) (i1 9 (by decide)) p1 p3 rm (fun q hq => by
      have hq' := fixO q hq
      have : ∀ q, q ∈ bfR → q.2.1 ≠ 111 := by decide +kernel
      exact (Fz.so fq (by omega) (fun z => by rw [tgo_s hq'.2] at z; have := this q hq; unfold tg at z; omega)).r _) (fun q hq => by
      have hq' := fixI q hq
      have : ∀ q, q ∈ bfI → q.2.1 ≠ 111 := by decide +kernel
      exact (Fz.so fq (by omega) (fun z => by rw [tgo_s hq'.2] at z; have := this q hq; unfold tg at z; omega)).i _) f (by decide)
    have hV := h.hV
    have s98 : ∀ k, k < V → So M M' ((pl D 98).getD k 0) := fun k hk => sx 98 k (by decide) (by omega) (by unfold tg; omega) (by unfold tg; omega) (by unfold tg; omega)
    obtain ⟨Fs', bt⟩ := Fs.bw ⟨rfl, rfl⟩ W' v fq (fun t z => by unfold TW tg; unfold tg at z; omega) (fun k hk => ⟨fun f _ => (s98 k hk).i f, fun f _ => (s98 k hk).r f⟩) p3 ⟨fun f hf => i1 f (fun z => by rw [z] at hf; exact absurd hf (by decide)), i2⟩ ⟨p4 106 (by decide), p4 109 (by decide)⟩ f (by decide) (by decide) (by decide)
    have nk := bt.2.2.1
    have ee : ∀ l, l ≠ 111 → pl D' l = pl D l := p4
    have s115 : So M M' 115 := Fz.so fq (by omega) (fun z => by rw [tgo_s (by decide)] at z; unfold tg at z; omega)
    have s114 : So M M' 114 := Fz.so fq (by omega) (fun z => by rw [tgo_s (by decide)] at z; unfold tg at z; omega)
    have t141 : ∀ j, tA σ' 141 j = if j = E then nI n1 else tA σ 141 j := fun j => by
      rw [hσ', tA_tsI, tA_tsA, ifF (by omega), tA_tsA]
      by_cases q : j = E
      · rw [ifT ⟨rfl, q⟩, ifT q]
      · rw [ifF (fun z => q z.2), ifF q]
    have t142 : ∀ j, tA σ' 142 j = if j = E then nI n2 else tA σ 142 j := fun j => by
      rw [hσ', tA_tsI, tA_tsA]
      by_cases q : j = E
      · rw [ifT ⟨rfl, q⟩, ifT q]
      · rw [ifF (fun z => q z.2), ifF q, tA_tsA, ifF (by omega)]
    refine Or.inr ⟨D', M', σ', K, N, E + 1, A, Wn, _, (), e1, te, ⟨Fs', fun v hv => ?_, ⟨⟨i3, by rw [hσ']; rfl, by omega, by omega⟩, fun k hk => ?_⟩, ⟨⟨(i1 37 (by decide)).trans c1, by rw [(f 152 rfl).1]; exact c2, c3, by rw [ee 112 (by decide)]; exact c4⟩, fun k hk => ?_⟩, ⟨⟨(i1 39 (by decide)).trans d1, by rw [(f 148 rfl).1]; exact d2, d3, by rw [ee 113 (by decide)]; exact d4⟩, fun k hk => ?_⟩, ⟨j1.1.mv (fun j => s115.a j) (f 155 rfl).2.2.1 (f 74 rfl).2.2.1 (f 75 rfl).2.2.1, by rw [(f 130 rfl).1]; exact j1.2.1, j1.2.2.mv ⟨i1 32 (by decide), i1 41 (by decide), i1 43 (by decide)⟩ (fun j => s114.x j) (fun k _ => by rw [ee 106 (by decide)]) (Nat.le_refl _) f (by decide)⟩, fun z => (i1 33 (by decide)).trans (j2 z), by rw [(f 161 rfl).1]; exact j3, by rw [(f 171 rfl).1]; exact j4.1, fun zz => ?_⟩, by omega, bt⟩
    · obtain ⟨x1, x2, x3⟩ := bv v hv
      have s := s98 v hv
      exact ⟨x1.mv nk (Nat.le_refl _) (Nat.le_refl _) (by rw [ee 98 (by decide), s.r]) ((f 158 rfl).2.2.1 v), x2.mv nk (Nat.le_refl _) (Nat.le_refl _) (by rw [ee 98 (by decide), s.r]) ((f 159 rfl).2.2.1 v), x3.mv (fun g _ => by rw [ee 98 (by decide), s.i]) ⟨(f 104 rfl).2.2.1 v, (f 160 rfl).2.2.1 v⟩⟩
    · by_cases q : k = E
      · rw [q]
        unfold EqX1
        rw [r1, r2, t141, t142, ifT rfl, ifT rfl]
        exact ⟨⟨n1, rfl, NdR.mv nk (Nat.le_refl _) (Nat.le_refl _) (Nat.le_refl V) 100 100 0 _ _ (Nat.le_refl _) ga⟩, n2, rfl, NdR.mv nk (Nat.le_refl _) (Nat.le_refl _) (Nat.le_refl V) 100 100 0 _ _ (Nat.le_refl _) gb⟩
      · have s := sx 111 k (by decide) (by omega) (by unfold tg; omega) (by unfold tg; omega) (by unfold tg; omega)
        exact (b5 k (by omega)).mv nk (Nat.le_refl _) (Nat.le_refl _) (fun g _ => by rw [(p3.1 111 k (by omega)).2, s.r]) ⟨by rw [t141, ifF q], by rw [t142, ifF q]⟩
    · have s := sx 112 k (by decide) (by omega) (by unfold tg; omega) (by unfold tg; omega) (by unfold tg; omega)
      exact (c5 k hk).mv nk (Nat.le_refl _) (Nat.le_refl _) (fun g _ => by rw [ee 112 (by decide), s.i]) (by rw [ee 112 (by decide), s.r]) (fun g hg => (f g (by rcases hg with rfl | rfl | rfl <;> rfl)).2.2.1 k)
    · have s := sx 113 k (by decide) (by omega) (by unfold tg; omega) (by unfold tg; omega) (by unfold tg; omega)
      exact (d5 k hk).mv nk (Nat.le_refl _) (Nat.le_refl _) (Nat.le_refl _) (fun g _ => by rw [ee 113 (by decide), s.i]) (by rw [ee 113 (by decide), s.r]) (fun g hg => (f g (by rcases hg with rfl | rfl | rfl <;> rfl)).2.2.1 k)
    · obtain ⟨L, z1, z2, s0, s1, s2, s3⟩ := hz zz
      exact s0.addE nk.n4 (fun k hk => ⟨by rw [t141, ifF (by omega)], by rw [t142, ifF (by omega)]⟩) (fun k _ => (f 151 rfl).2.2.1 k) (fun k _ => (f 145 rfl).2.2.1 k) (by rw [t141, ifT rfl]) (by rw [t142, ifT rfl]) s1 s2 s3 ⟨gb.nb.2, by
        have N1 := h.1.2.2.1.2.2.1
        have ax := h.1.2.2.1.2.1.2.2.1
        have := gb.nb.2
        omega⟩
end EQN
