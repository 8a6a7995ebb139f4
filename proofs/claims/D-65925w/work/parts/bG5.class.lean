/-! Layer B: the flat model: an element of a class, both sides -/
set_option maxRecDepth 100000
def FUeq (G : Nat) : Prop := FU = G + 1
theorem FUg : ∃ G, FUeq G ∧ 1000000 < G := ⟨FU - 1, by have := FUb; show FU = FU - 1 + 1; omega, FUb⟩
section CLASSEL
variable {C C' : PC} {D D' D2 : FQ} {M M' M1 M2 : CM} {σ σ' σ0 σ1 σ2 σ4 : TS} {mss fss xs bs qs os : List Nat} {B l k n o m u w Q I I' L V V' Bm Bm' b v r R R' R2 E E' cr i i' k0 fr e eo fl z env kk tf cb d len to : Nat} {P P' X T : Nat → Prop} {S S' O : List Nat} {a : Nat × Nat × Nat} {A W Wn W1 W2 : List (Nat × Nat × Nat)} {ks : List (Nat × Nat)} {x : Int64} {cf : Nat → Nat → Int32 → Int32 → Int32 → CM → Option ((Unit ⊕ Nat) × CM)} {cf' : Int32 → Int32 → Int32 → TS → Option (Unit × TS)}
theorem z_clsEl (hB1 : B ≤ 1280) (hel : d < 12 → ElP C B P mss fss cf cf' (d + 1)) (F : FiS C B P mss fss D M σ V I (b + 1) cr R E) (hC : Cx C P D M σ I R E d i tf cb fr W ks) (he : ElR C P M σ eo e) (h58 : e < ix (tI σ 58)) (h57 : tA σ 57 e = 0) (h51 : ¬ tB σ 51 e = 0) (h52 : tA σ 52 e &&& 16 = 0) (h3 : mR M 3003 ((pl D 100).getD b 0) = eo ∧ mI M 3001 ((pl D 100).getD b 0) = mI M 2002 eo ∧ mI M 3002 ((pl D 100).getD b 0) = tA σ 53 e ∧ tA σ 84 b = nI e ∧ tA σ 83 b = nI i ∧ mI M 3000 ((pl D 100).getD b 0) = mI M 2003 eo) (hNo : ∀ n, n < I → tA σ 75 n = nI i → ¬ tA σ 76 n = nI e) :
    (∃ D' M' σ' w, elB (KB_X0_instances cf) ((pl D 99).getD i 0) eo ((pl D 100).getD b 0) (nI fr) (nI (fr + (W ++ wcE i ks).length)) (nI d) M = some (.inr w, M') ∧ J_makeMember_116 cf' (nI i) (nI e) (nI d) (nI b) 0 σ = some ((), σ') ∧ FfO C B P mss fss TFf fiS [15, 16, 17, 18, 31] D D' M M' σ σ' w) ∨
    (∃ D' M' σ' V' I' Bm', elB (KB_X0_instances cf) ((pl D 99).getD i 0) eo ((pl D 100).getD b 0) (nI fr) (nI (fr + (W ++ wcE i ks).length)) (nI d) M = some (.inl (), M') ∧ J_makeMember_116 cf' (nI i) (nI e) (nI d) (nI b) 0 σ = some ((), σ') ∧ FiS C B P mss fss D' M' σ' V' I' Bm' cr R E ∧ (V ≤ V' ∧ I ≤ I' ∧ b + 1 ≤ Bm') ∧ SqM C P V I b R E i D D' M M' σ σ' ∧ (∀ r, r < R → ¬ (fr ≤ r ∧ r < fr + (W ++ wcE i ks).length) → hit D' M' r = hit D M r) ∧ (∀ c, c < (W ++ wcE i ks).length → hit D' M' (fr + c) = if ldB σ (tB σ 50 e) (ge (W ++ wcE i ks) c) = true then 1 else hit D M (fr + c)) ∧ (∀ c, b ≤ c → c < Bm' → MbC D' mss M' σ' V' I' c) ∧ tA σ' 83 b = nI i ∧ tA σ' 84 b = nI e ∧ (NwI σ' I I' i d ∧ VoS σ' V V' b Bm' ∧ NwC σ' V V' I I') ∧ ∀ c, b < c → c < Bm' → ∃ n, tA σ' 83 c = nI n ∧ n < I' ∧ I ≤ n) := by
  obtain ⟨w, z, fl, hv, ⟨hw, hx⟩, hMs, hty, h56⟩ := he.own h57
  obtain ⟨⟨l1, l2, l3, l4⟩, l98, l99, l100, l101⟩ := F.lens
  obtain ⟨hWN, h1280, hQ⟩ := F.wn hB1
  have hm := F.1.rm
  obtain ⟨G, hG, hGl⟩ := FUg
  have m24 : mss.length ≤ 24 := F.cn.2.1
  have hz9 := hv.2.2.2.1.2.2
  have hm9 : many z ≤ 9 ∧ 1 ≤ many z := by unfold many; by_cases y : z = 0 <;> simp [y] <;> omega
  have t12 : ¬ mI M 2002 eo = 12 := by
    rcases hty with ⟨_, q⟩ | ⟨w2, q1, q2, q3, q4⟩
    · exact absurd q h51
    · rw [q1, show (12 : Int32) = nI 12 from rfl, bI_eq (by omega) (by decide)]; omega
  have hC0 := hC
  obtain ⟨c1, c2, c3, c4, ⟨⟨c5, c6⟩, c7, c8, c9, c10⟩, c11⟩ := hC
  have i200 : i < 200 := by omega
  have ts := trR_succ d (by omega)
  have tl := trR_le (d + 1) (by omega)
  have he480 : e < 480 := by
    obtain ⟨E0, e1, e2⟩ := F.1.1.2.2.2.2.2.2.1
    rw [e1, ix_nI (by omega)] at h58
    omega
  obtain ⟨D2, M2, y, k0, n, g1, F2, v2, x2, st2, h1, h2, r2, f2, ⟨hn, hMx, hkn⟩, hy⟩ := k_rows hB1 F hC0 ⟨hv.1, hv.2.1, hv.2.2.1.1⟩ hMs ⟨hv.2.2.1.2, hw⟩
  obtain ⟨A, hA⟩ : ∃ A, A = adv σ (wc M w) (W ++ wcE i ks) := ⟨_, rfl⟩
  rw [← hA] at F2 r2
  have al : A.length ≤ (W ++ wcE i ks).length := by rw [hA]; exact adv_len
  obtain ⟨Wn, hWn⟩ : ∃ L, L = A ++ msE k0 n i := ⟨_, rfl⟩
  have lWn : Wn.length = A.length + n := by rw [hWn, List.length_append, msE_len]
  obtain ⟨R2, hR2⟩ : ∃ q, q = R + Wn.length := ⟨_, rfl⟩
  rw [← hWn, ← hR2] at F2
  rw [← hWn] at r2
  have lR : R2 ≤ trR (d + 1) := by omega
  have w1 : ∀ a, a ∈ W → 1 ≤ a.1 := fun a ha => by
    obtain ⟨j, hj, ej⟩ := List.getElem_of_mem ha
    have := c3 j (by rw [List.length_append]; omega)
    rw [ge_l hj] at this
    have e1 : ge W j = a := by unfold ge; rw [List.getD_eq_getElem?_getD, List.getElem?_eq_getElem hj]; exact ej
    rw [e1] at this
    obtain ⟨m, -, -, hk, -⟩ := this
    exact hk.1
  have ie : inb (nI e) 481 := inb_nI' (by omega) (by decide)
  have xe : ix (nI e) = e := ix_nI (by omega)
  have ib : inb (nI b) 96001 := inb_nI' (by omega) (by decide)
  have xb : ix (nI b) = b := ix_nI (by omega)
  have e53 := hv.2.2.2.1.2.1
  have hj : J_makeMember_116 cf' (nI i) (nI e) (nI d) (nI b) 0 σ = ob (F_classFor (nI e) (nI i) 0 σ) fun r s => J_makeMember_197 cf' (nI i) (nI e) (nI d) (nI b) 0 (nI (many z)) r s := by
    have j150 : ∀ y : Int32, J_makeMember_150 cf' (nI i) (nI e) (nI d) (nI b) 0 y σ = ob (F_classFor (nI e) (nI i) 0 σ) fun r s => J_makeMember_197 cf' (nI i) (nI e) (nI d) (nI b) 0 y r s := fun y => by
      unfold J_makeMember_150 J_makeMember_168
      rw [ifT (rfl : (0 : Int32) = 0)]
      simp only [if_true]
    unfold J_makeMember_116
    rw [ifT ie, xe, ifT h52, ifT ie, e53, ifT ie]
    unfold many
    by_cases q : z = 0
    · rw [ifT (show nI z = 0 from by rw [q]; rfl), ifT q, j150]; rfl
    · rw [ifF (show ¬ nI z = 0 from fun y => q ((bI_eq (b := 0) (by omega) (by decide)).mp y)), ifF q, j150]
  have tr2 : ∀ t, Tr 0 t → TFf t := fun t y => by unfold Tr tg at y; unfold TFf; omega
  have s2 := v2.2.1.1 eo hv.1
  have k2 : mk M2 eo = 11 := by rw [s2.k]; exact hv.2.1
  have isr : K_X11_isReal eo M2 = some (0, M2) := by
    unfold K_X11_isReal
    rw [ifT k2, ifF (by rw [s2.i]; exact t12)]
  have e99 : (pl D2 99).getD i 0 = (pl D 99).getD i 0 := (x2.1 99 i (by omega)).2
  have e100 : (pl D2 100).getD b 0 = (pl D 100).getD b 0 := (x2.1 100 b (by omega)).2
  have sb : So M M2 ((pl D 100).getD b 0) := F.1.2.1.so3 (by decide) (by omega) f2.1 (fun z => by unfold Tr tg at z; omega)
  have kmo : mk M ((pl D 100).getD b 0) = 16 := (F.1.2.1.2.1 100 (by decide) b (by omega)).1
  have h0 := F.g0
  rw [hj, g1]
  have hel2 : elC (KB_X0_instances cf) ((pl D 99).getD i 0) eo ((pl D 100).getD b 0) (nI R) y (nI d) M2 = obS (KB_X0_instances cf ((pl D 99).getD i 0) ((pl D 100).getD b 0) (nI R) y (nI d) M2) (fun w M4 => some (.inr w, M4)) fun _ M4 => nm (msI M4 18 1 (nI R)) fun M5 => some (.inl (), M5) := by
    unfold elC
    rw [ifT k2, isr, ob_some, ifT rfl]
  rw [hel2]
  have wcs : wc M2 w = wc M w := v2.2.2.1.2 w hw
  rcases z_cls (cf := cf) (x3 := nI R) (x5 := nI d) (io := (pl D 99).getD i 0) (mo := (pl D 100).getD b 0) (y := y) (eo := eo) hB1 F2 c2 w1 (he.wz v2 (fun _ z => z) h58) he480 h57 h51 ⟨by rw [sb.k]; exact kmo, by rw [sb.r]; exact h3.1, by rw [sb.i, s2.i]; exact h3.2.1⟩ (by
    rw [hx]
    rcases hy with q | ⟨w', q1, q2, q3, q4, q5⟩
    · exact Or.inl q
    · exact Or.inr ⟨w', q1, q2, q3, by rw [v2.2.2.1.2 w' q3]; exact q4, q5⟩) with ⟨r, z1, z2, z3⟩ | ⟨k, M3, z1, z2, z3, z4, z5⟩
  · -- no such class
    left
    obtain ⟨b1, b2, b3⟩ := F2.1.bad (r := r) z1 F2.g0
    refine ⟨D2, _, _, _, by rw [z2, obS_inr], ?_, (b3.mono (fun _ z => z) (by decide) (by decide)).tr v2 x2 (f2.1.mono tr2) (f2.2.mono (by decide)) (Ft.rf _ _)⟩
    rw [z3, ob_some]
    unfold J_makeMember_197
    rw [t_isBad1 (badT_ne z1), ob_some, ifF (show ¬ (1 : Int32) = 0 by decide)]
  · -- its instances
    have F3x : FiS C B P mss fss D2 M3 σ V I (b + 1) cr R2 E ∧ Wz C C P M2 M3 σ σ ∧ (∀ r, r < R2 → RwS D2 M2 D2 M3 r ∧ hit D2 M3 r = hit D2 M2 r) ∧ Fq D2 (fun t => t = tg 100 b) M2 M3 ∧ O1 [] M2 M3 ∧ (∀ f, f ≠ 3001 → mI M3 f ((pl D 100).getD b 0) = mI M2 f ((pl D 100).getD b 0)) ∧ ∀ o, mR M3 3003 o = mR M2 3003 o := by
      rcases z4 with q | q
      · rw [q]
        exact ⟨F2, Wz.rf (by have := F.1.1.2.2.2.2.1; omega), fun _ _ => ⟨RwS.rf, rfl⟩, Fq.rf, O1.rf _ _, fun _ _ => rfl, fun _ => rfl⟩
      · obtain ⟨g1, g2, g3, g4, g5⟩ := F2.mbw (b := b) (g := 3001) (u := y) (Nat.lt_succ_self b) (Or.inl rfl)
        rw [e100, ← q] at g1 g2 g3 g4 g5
        exact ⟨g1, g2, g3, g4, g5, fun f hf => by rw [q, mI_msI, ifF (fun z => hf z.1)], fun o => by rw [q]; rfl⟩
    obtain ⟨F3, v3, st3, f3, o3, m3, m3r⟩ := F3x
    have nI0 : nI 0 = (0 : Int32) := rfl
    have kmo3 : mk M3 ((pl D 100).getD b 0) = 16 := by rw [v3.1.2 _ (by have := (F2.1.2.1.2.1 100 (by decide) b (by have := F2.lens; omega)).2.1.2; rw [e100] at this; exact this), sb.k]; exact kmo
    obtain ⟨σa, hσa⟩ : ∃ s, s = tsA (tsA σ 86 b (nI k)) 85 b (nI I) := ⟨_, rfl⟩
    have fa : Ft [85, 86] σ σa := by rw [hσa]; exact ((Ft.rf _ σ).p_tsA rfl).p_tsA rfl
    have hfa : ([85, 86] : List Nat).all fiS.contains = true := by decide
    have ja : J_makeMember_197 cf' (nI i) (nI e) (nI d) (nI b) 0 (nI (many z)) (nI k) σ = obS (L_makeMember_240 cf' FU (nI i) (nI e) (nI d) (nI b) 0 (nI (many z)) (nI k) (nI 0) σa) (fun r161 s158 => some (r161, s158)) fun q157 s158 => some ((), s158) := by
      unfold J_makeMember_197
      rw [t_isBad0 h0, ob_some, ifT rfl, ifT ib, nm_eq, ifT (rfl : (0 : Int32) = 0), xb]
      unfold J_makeMember_236
      rw [ifT ib, xb, nm_eq, hσa, show tI (tsA σ 86 b (nI k)) 82 = nI I from F.2.2.1.2.1.2.1, nI0]
    have F4 := F3.tw fa (by decide) (by rw [(fa 93 rfl).1]; exact F3.2.2.2.2.2.1.1)
    have kpa : KpT σ σa V I b E i := by
      refine ⟨fun f hf n _ => ?_, fun n _ _ => (fa 88 rfl).2.2.1 n, fun f hf c hc => ?_, fun f hf n _ => ?_, fun f hf n _ => ?_, ⟨(fa 113 rfl).1, (fa 114 rfl).1⟩, fun c _ => (fa 112 rfl).2.2.1 c⟩
      · simp only [List.mem_cons, List.not_mem_nil, or_false] at hf
        rcases hf with rfl | rfl | rfl | rfl | rfl | rfl <;> exact (fa _ rfl).2.2.1 n
      · rw [hσa, tA_tsA, ifF (by omega), tA_tsA, ifF (by omega)]
      · simp only [List.mem_cons, List.not_mem_nil, or_false] at hf
        rcases hf with rfl | rfl | rfl | rfl | rfl | rfl | rfl | rfl | rfl | rfl <;> exact (fa _ rfl).2.2.1 n
      · simp only [List.mem_cons, List.not_mem_nil, or_false] at hf
        rcases hf with rfl | rfl | rfl <;> exact (fa _ rfl).2.2.1 n
    have sA : SqM C P V I b R E i D D2 M M2 σ σ := ⟨v2, x2, st2, f2.1.mono (fun t y => by unfold Tr tg at y; unfold TsF tg; omega), f2.2.mono (by decide), Ft.rf _ _, KpT.rf⟩
    have sB : SqM C P V I b R E i D2 D2 M2 M3 σ σ := ⟨v3, Dx.rf _ _, fun r hr => (st3 r (by omega)).1, f3.mono (fun t y => by rw [y]; unfold TsF tg; omega), o3.mono (by decide), Ft.rf _ _, KpT.rf⟩
    have sC : SqM C P V I b R E i D2 D2 M3 M3 σ σa := SqM.tw F3.1 fa (by decide) (by decide) kpa
    have sABC := (sA.tr sB (Nat.le_refl _) (Nat.le_refl _) (Nat.le_refl _) (Nat.le_refl _) (Or.inl rfl) (Nat.le_refl _) i200).tr sC (Nat.le_refl _) (Nat.le_refl _) (Nat.le_refl _) (Nat.le_refl _) (Or.inl rfl) (Nat.le_refl _) i200
    have hCa := c2.ft fa hfa (by decide) ⟨(fa 78 rfl).2.2.1 i, (fa 79 rfl).2.2.1 i⟩ (fun j _ => ⟨(fa 90 rfl).2.2.1 j, (fa 91 rfl).2.2.1 j, (fa 92 rfl).2.2.1 j⟩)
    have hAa : A = adv σa (wc M w) (W ++ wcE i ks) := by rw [adv_ft fa hfa]; exact hA
    have hxa : tB σa 50 e = wc M w := by rw [(fa 50 rfl).2.2.2]; exact hx
    rw [z2, z3, ob_some, ja]
    by_cases hd : d < 12
    · have kJ : KJ_X0_instances_87 cf ((pl D 99).getD i 0) ((pl D 100).getD b 0) (nI R) (nI d) eo (mss.getD k 0) M3 = obS (KL_X0_instances_110 cf FU ((pl D 99).getD i 0) ((pl D 100).getD b 0) (nI R) (nI d) eo (mss.getD k 0) (nI R2) (nI 0) M3) (fun r56 M53 => some (r56, M53)) fun q52 M53 => some (.inl (), M53) := by
        unfold KJ_X0_instances_87
        rw [ifF (show ¬ nI d = 12 from by rw [show (12 : Int32) = nI 12 from rfl, bI_eq (by omega) (by decide)]; omega), F3.r18.1, nm_eq]
        rw [nI0]
      have hq := z_instL (cf := cf) (cf' := cf') (σ0 := σa) (x := wc M w) (A := A) (Wn := Wn) (R := R) (R2 := R2) (b := b) (w := w) (z := z) (fl := fl) (eo := eo) (k := k) (k0 := k0) (n := n) (tf := tf) hB1 (hel hd) ⟨c5, hd⟩ hAa hWn hR2 ⟨by omega, lR, by omega, c10⟩ z1 hxa ⟨by rw [(fa 58 rfl).1]; exact h58, by rw [(fa 51 rfl).2.2.2]; exact h51, by rw [(fa 52 rfl).2.2.1]; exact h52⟩ (many z) 0 FU G D2 M3 σa V I (b + 1) (Nat.zero_add _) (by rw [show FU = G + 1 from hG]; omega) (by omega) F4 (Ft.rf _ _) hCa c1 ⟨Nat.lt_succ_self b, by rw [(fa 83 rfl).2.2.1]; exact h3.2.2.2.2.1, by rw [(fa 84 rfl).2.2.1]; exact h3.2.2.2.1, by rw [e100, m3 3000 (by decide), sb.i, h3.2.2.2.2.2]; exact hv.2.2.1.1, by rw [e100, m3 3002 (by decide), sb.i, h3.2.2.1]; exact e53⟩ (hv.wz sABC.1 fa hfa) (hMx.ft fa hfa) he480 (r2.mv (v3.tr (F3.1.wzT fa (by decide)).2 (fun _ z => z)) (Dx.rf _ _) (fun j hj => (st3 _ (by omega)).1) ⟨F2.2.1.1.2.1, Nat.le_refl _⟩ (fa.mono hfa)) (fun n' h1 h2 h3 => by
        rw [(fa 75 rfl).2.2.1] at h2
        rw [(fa 76 rfl).2.2.1] at h3
        exact absurd h3 (hNo n' h1 h2)) (fun c h1 _ => by omega)
      rw [e99, e100, ← show FU = G + 1 from hG] at hq
      rw [kJ]
      rcases hq with ⟨D5, M5, σ5, w5, y5, n1, n2, n3⟩ | ⟨D5, M5, σ5, V5, I5, Bm5, n1, n2, n3, ⟨n4, n5, n6⟩, n7, n8, n9, n10, n11, n12, n13, n14, n15⟩
      · left
        refine ⟨D5, M5, σ5, w5, by rw [n1, obS_inr, obS_inr], ?_, sABC.ff n3 i200⟩
        rw [n2]
        cases y5 <;> rfl
      · right
        obtain ⟨F6, v6, st6, f6⟩ := n3.cut (R := R) (by omega)
        have sE : SqM C P V5 I5 b R E i D5 D5 M5 (msI M5 18 1 (nI R)) σ5 σ5 := ⟨v6, Dx.rf _ _, fun r _ => (st6 r).1, f6.1.mono (fun t y => by rw [y]; exact Or.inl rfl), f6.2.mono (by decide), Ft.rf _ _, KpT.rf⟩
        have tot := (sABC.tr n7 (Nat.le_refl _) (Nat.le_refl _) (Nat.le_refl _) (Nat.le_refl _) (Or.inl rfl) (Nat.le_refl _) i200).tr sE n4 (by omega) (Nat.le_refl _) (Nat.le_refl _) (Or.inl rfl) (Nat.le_refl _) i200
        have n3l := n3.lens
        have e5b : (pl D5 100).getD b 0 = (pl D 100).getD b 0 := (tot.2.1.1 100 b (by omega)).2
        have s6 : ∀ c, c < Bm5 → So M5 (msI M5 18 1 (nI R)) ((pl D5 100).getD c 0) := fun c hc => n3.1.2.1.so3 (by decide) (by omega) f6.1 (fun z => by unfold tg at z; omega)
        have e83 : tA σ5 83 b = nI i := by rw [n10.2.2 83 (by decide), (fa 83 rfl).2.2.1]; exact h3.2.2.2.2.1
        have e84 : tA σ5 84 b = nI e := by rw [n10.2.2 84 (by decide), (fa 84 rfl).2.2.1]; exact h3.2.2.2.1
        have fT := tot.2.2.2.2.2.1
        refine ⟨D5, _, σ5, V5, I5, Bm5, by rw [n1, obS_inl, obS_inl, nm_eq], by rw [n2, obS_inl], F6, ⟨n4, by omega, by omega⟩, tot, fun r hr hn => ?_, fun c hc => ?_, fun c h1 h2 => ?_, e83, e84, ⟨n14.1, (VoS.no (fun ⟨e', y1, y2, y3, _⟩ => by
          have e480 := n3.e480
          rw [e84] at y1
          have := (bI_eq (a := e) (b := e') (by omega) (by omega)).mp y1
          rw [← this, (fT 51 rfl).2.2.2] at y3
          exact h51 y3)).tr n14.2.1 ⟨by omega, n6⟩, n14.2.2⟩, fun c h1 h2 => ?_⟩
        · rw [(st6 r).2, n8 r hr, (st3 r (by omega)).2]; exact h1 r hr hn
        · rw [(st6 _).2, n8 _ (by omega), (st3 _ (by omega)).2, hx]; exact h2 c hc
        · by_cases q : c = b
          · subst q
            refine ⟨e, ⟨e84, by rw [(fT 58 rfl).1]; exact h58⟩, Or.inr ⟨by rw [(fT 52 rfl).2.2.1]; exact h52, I, z, ⟨?_, ?_⟩, ⟨by rw [(fT 53 rfl).2.2.1]; exact e53, hz9⟩, Or.inr ⟨by rw [(fT 51 rfl).2.2.2]; exact h51, n5, fun j hj => ?_, k, z1, ?_, ?_⟩⟩⟩
            · rw [(s6 c (by omega)).i, e5b, n11, ifT rfl]
            · rw [n12, ifT rfl]
            · obtain ⟨n', y1, y2, y3⟩ := n15 j (Nat.zero_le _) hj
              exact ⟨n', ⟨y1.1, y1.2.1, fun q => y1.2.2 q⟩, by rw [e83]; exact y2, y3⟩
            · rw [n10.2.2 86 (by decide), hσa, tA_tsA, ifF (by omega), tA_tsA, ifT ⟨rfl, rfl⟩]
            · rw [(s6 c (by omega)).i, e5b, n10.1 3001 (by decide), ← z5]
              have pk := (F2.cc z1).1.1.1
              rw [(v6.2.1.1 _ pk).i, (n7.1.2.1.1 _ pk).i, (v3.2.1.1 _ pk).i]
          · obtain ⟨m1, -⟩ := n9 c (by omega) h2
            obtain ⟨n2', e', eo', w', -, -, ⟨p3a, p3b⟩, -⟩ := n3.2.1.2.2.1 c h2
            exact m1.mv v6 (Ft.rf _ _) (fun k hk => (n3.cc hk).1.1.1) rfl (s6 c h2) (by rw [p3a]; exact p3b.1.1) (Dx.rf _ _) ⟨rfl, rfl, rfl⟩ rfl (fun _ _ _ _ => rfl) (Nat.le_refl _) (Nat.le_refl _)
        · exact (n9 c (by omega) h2).2
    · left
      have d12 : d = 12 := by omega
      obtain ⟨σ2, hput, ht⟩ := t_istep (cf' := cf') (f := G) (j := 0) (m := many z) (d := d) (b := b) (k := k) (k0 := k0) (n := n) hCa hxa (by rw [(fa 0 rfl).1]; exact h0) F4.2.2.2.2.2.1.1 hAa (hMx.ft fa hfa) (by omega) (by omega) hm9.1 (by omega) (by rw [← hWn]; omega)
      rw [ifF hd, ← show FU = G + 1 from hG] at ht
      obtain ⟨p1, p2, p3, p4⟩ := hput
      have F5 := F4.tw p1 (by decide) p2
      obtain ⟨b1, b2, b3⟩ := F5.1.bad (r := 23) (by decide) F5.g0
      refine ⟨D2, _, _, _, ?_, by rw [ht, obS_inr], sABC.ff ((b3.mono (fun _ z => z) (by decide) (by decide)).tr (F4.1.wzT p1 (by decide)).2 (Dx.rf _ _) Fq.rf (O1.rf _ _) (p1.mono (by decide))) i200⟩
      unfold KJ_X0_instances_87
      rw [ifT (show nI d = 12 from by rw [d12]; rfl), b1, ob_some, ifT (wM_k M3 23 0), obS_inr]
end CLASSEL
