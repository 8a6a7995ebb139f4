/-! Layer B: the flat model: instances of an element, both sides, all of them -/
set_option maxRecDepth 100000
section INST3
variable {C C' : PC} {D D' D2 : FQ} {M M' M1 M2 : CM} {σ σ' σ0 σ1 σ2 σ4 : TS} {mss fss xs bs qs os : List Nat} {B l k n o m u w Q I I' L V V' Bm Bm' b v r R R' R2 E E' cr i i' k0 fr e eo fl z env kk tf cb d len to : Nat} {P P' X T : Nat → Prop} {S S' O : List Nat} {a : Nat × Nat × Nat} {A W Wn W1 W2 : List (Nat × Nat × Nat)} {ks : List (Nat × Nat)} {x : Int64} {cf : Nat → Nat → Int32 → Int32 → Int32 → CM → Option ((Unit ⊕ Nat) × CM)} {cf' : Int32 → Int32 → Int32 → TS → Option (Unit × TS)}
/-- the member whose instances are made stays, but for the first -/
def MbK (M M' : CM) (σ σ' : TS) (mo b : Nat) : Prop := (∀ f, f ≠ 3005 → mI M' f mo = mI M f mo) ∧ (∀ f, mR M' f mo = mR M f mo) ∧ (∀ f, f ∈ [83, 84, 86] → tA σ' f b = tA σ f b)
theorem MbK.tr (h : MbK M M1 σ σ1 o b) (g : MbK M1 M2 σ1 σ2 o b) : MbK M M2 σ σ2 o b := ⟨fun f hf => (g.1 f hf).trans (h.1 f hf), fun f => (g.2.1 f).trans (h.2.1 f), fun f hf => (g.2.2 f hf).trans (h.2.2 f hf)⟩
/-- other members stay -/
def KpC (D : FQ) (M M' : CM) (σ σ' : TS) (Bm b : Nat) : Prop := ∀ c, c < Bm → c ≠ b → So M M' ((pl D 100).getD c 0) ∧ ∀ f, f ∈ [83, 84, 85, 86] → tA σ' f c = tA σ f c
theorem z_instL (hB1 : B ≤ 1280) (hel : ElP C B P mss fss cf cf' (d + 1)) (hd : 1 ≤ d ∧ d < 12) (hA : A = adv σ0 x (W ++ wcE i ks)) (hWn : Wn = A ++ msE k0 n i) (hR2 : R2 = R + Wn.length) (hlv : Wn.length ≤ 426 * d ∧ R2 ≤ trR (d + 1) ∧ E ≤ R ∧ cb + ks.length ≤ d) (hk : k < mss.length) (hx : tB σ0 50 e = x) (hX0 : (e < ix (tI σ0 58)) ∧ ¬ tB σ0 51 e = 0 ∧ tA σ0 52 e &&& 16 = 0) :
    ∀ (dd j f g : Nat) (D : FQ) (M : CM) (σ : TS) (V I Bm : Nat), j + dd = many z → dd < f → dd < g → FiS C B P mss fss D M σ V I Bm cr R2 E → Ft fiS σ0 σ → CvT σ E i tf cb W ks → i < I → (b < Bm ∧ tA σ 83 b = nI i ∧ tA σ 84 b = nI e ∧ mI M 3000 ((pl D 100).getD b 0) = nI w ∧ mI M 3002 ((pl D 100).getD b 0) = nI z) → ElV P M σ eo e w fl z → MxT σ e k0 n → e < 480 → RsR C P D M σ I R Wn → (∀ n', n' < I → tA σ 75 n' = nI i → tA σ 76 n' = nI e → ∃ j', j' < j ∧ tA σ 77 n' = nI (if z = 0 then 0 else j' + 1)) → (∀ c, c < Bm → tA σ 83 c = nI i → c ≤ b) →
    (∃ D' M' σ' w y, KL_X0_instances_110 cf f ((pl D 99).getD i 0) ((pl D 100).getD b 0) (nI R) (nI d) eo (mss.getD k 0) (nI R2) (nI j) M = some (.inr (.inr w), M') ∧ L_makeMember_240 cf' (g + 1) (nI i) (nI e) (nI d) (nI b) 0 (nI (many z)) (nI k) (nI j) σ = some (y, σ') ∧ FfO C B P mss fss TFf fiS [15, 16, 17, 18, 31] D D' M M' σ σ' w) ∨
    (∃ D' M' σ' V' I' Bm', KL_X0_instances_110 cf f ((pl D 99).getD i 0) ((pl D 100).getD b 0) (nI R) (nI d) eo (mss.getD k 0) (nI R2) (nI j) M = some (.inl (), M') ∧ L_makeMember_240 cf' (g + 1) (nI i) (nI e) (nI d) (nI b) 0 (nI (many z)) (nI k) (nI j) σ = some (.inl (), σ') ∧ FiS C B P mss fss D' M' σ' V' I' Bm' cr R2 E ∧ (V ≤ V' ∧ I + dd ≤ I' ∧ Bm ≤ Bm') ∧ SqM C P V I b R E i D D' M M' σ σ' ∧ (∀ r, r < R → hit D' M' r = hit D M r) ∧ (∀ c, Bm ≤ c → c < Bm' → MbC D' mss M' σ' V' I' c ∧ ∃ n, tA σ' 83 c = nI n ∧ n < I' ∧ I ≤ n) ∧ MbK M M' σ σ' ((pl D 100).getD b 0) b ∧ mI M' 3005 ((pl D 100).getD b 0) = (if j = 0 then nI I else mI M 3005 ((pl D 100).getD b 0)) ∧ tA σ' 85 b = (if j = 0 then nI I else tA σ 85 b) ∧ KpC D M M' σ σ' Bm b ∧ (NwI σ' I I' i d ∧ VoS σ' V V' Bm Bm' ∧ NwC σ' V V' I I') ∧ ∀ j', j ≤ j' → j' < many z → ∃ n, (I ≤ n ∧ n < I' ∧ (j' = j → n = I)) ∧ tA σ' 75 n = nI i ∧ tA σ' 76 n = nI e ∧ tA σ' 77 n = nI (if z = 0 then 0 else j' + 1)) := by
  intro dd
  have tl := trR_le (d + 1) (by omega)
  have fu := FUb
  induction dd with
  | zero =>
    intro j f g D M σ V I Bm hj hf hg F f0 hC hi hb he hM h480 hR hN hT
    obtain ⟨f, rfl⟩ : ∃ n, f = n + 1 := ⟨f - 1, by omega⟩
    have hz9 := he.2.2.2.1.2.2
    have hm9 : many z ≤ 9 ∧ 1 ≤ many z := by unfold many; by_cases y : z = 0 <;> simp [y] <;> omega
    have l := F.lens
    have km : mk M ((pl D 100).getD b 0) = 16 := (F.1.2.1.2.1 100 (by decide) b (by omega)).1
    refine Or.inr ⟨D, M, σ, V, I, Bm, ?_, ?_, F, ⟨Nat.le_refl _, Nat.le_refl _, Nat.le_refl _⟩, SqM.rf (by have := F.1.1.2.2.2.2.1; omega), fun _ _ => rfl, fun c h1 h2 => by omega, ⟨fun _ _ => rfl, fun _ => rfl, fun _ _ => rfl⟩, (ifF (by omega)).symm, (ifF (by omega)).symm, fun _ _ _ => ⟨So.rf _ _, fun _ _ => rfl⟩, ⟨NwI.nil (Nat.le_refl _), VoS.nil, NwC.nil⟩, fun j' h1 h2 => by omega⟩
    · rw [KL_X0_instances_110, ifT km, k_many km hb.2.2.2.2 hz9, ob_some, ifT ((bI_le (by omega) (by omega)).mpr (by omega))]
    · rw [L_makeMember_240, ifT ((bI_le (by omega) (by omega)).mpr (by omega))]
  | succ dd ih =>
    intro j f g D M σ V I Bm hj hf hg F f0 hC hi hb he hM h480 hR hN hT
    obtain ⟨f, rfl⟩ : ∃ n, f = n + 1 := ⟨f - 1, by omega⟩
    obtain ⟨g, rfl⟩ : ∃ n, g = n + 1 := ⟨g - 1, by omega⟩
    have hz9 := he.2.2.2.1.2.2
    have hm9 : many z ≤ 9 ∧ 1 ≤ many z := by unfold many; by_cases y : z = 0 <;> simp [y] <;> omega
    obtain ⟨⟨l1, l2, l3, l4⟩, l98, l99, l100, l101⟩ := F.lens
    obtain ⟨hWN, h1280, hQ⟩ := F.wn hB1
    have hm := F.1.rm
    have h167 := F.1.n167
    have hfi : fiS.all fiS.contains = true := by decide
    have hMt := F.tm24 hB1
    have m24 : mss.length ≤ 24 := F.cn.2.1
    have km : mk M ((pl D 100).getD b 0) = 16 := (F.1.2.1.2.1 100 (by decide) b (by omega)).1
    have hx' : tB σ 50 e = x := by rw [(f0 50 rfl).2.2.2]; exact hx
    have hA' : A = adv σ x (W ++ wcE i ks) := by rw [adv_ft f0 hfi]; exact hA
    obtain ⟨σ2, hput, ht⟩ := t_istep (cf' := cf') (f := g + 1) (j := j) (m := many z) (d := d) (b := b) (k := k) (k0 := k0) (n := n) hC hx' F.g0 F.2.2.2.2.2.1.1 hA' hM (by omega) (by omega) hm9.1 (by omega) (by rw [← hWn]; omega)
    rw [← hWn] at hput
    rw [ifT hd.2] at ht
    have hput0 := hput
    obtain ⟨p1, p2, p3, p4⟩ := hput
    have F2 := F.tw p1 (by decide) p2
    have s2 : SqM C P V I b R E i D D M M σ σ2 := SqM.tw F.1 p1 (by decide) (by decide) (KpT.put hput0)
    have hj9 : j < 9 := by omega
    have ht2 := t_jstep (cf' := cf') (rec := L_makeMember_240 cf' (g + 1)) (i := i) (d := d) (m := many z) (k := k) (E := E) (j := j) (b := b) F2.g0 (show e < 481 by omega) (z := z) ⟨by rw [(p1 53 rfl).2.2.1]; exact he.2.2.2.1.2.1, hz9⟩ (by omega) hj9
    rw [ht2] at ht
    -- the component's rows
    obtain ⟨M1, r1, F3, v3, st3, h3, f3, mn3⟩ := k_reset (cf := cf) (x1 := (pl D 99).getD i 0) (x2 := (pl D 100).getD b 0) (x6 := eo) (x7 := mss.getD k 0) (x3 := nI R) (x5 := nI d) (x9 := nI j) (to := R2) (Nat.le_refl _) Wn.length R FU M (by omega) (by omega) F2
    have s3 : SqM C P V I b R E i D D M M1 σ2 σ2 := ⟨v3, Dx.rf D M, fun r hr => st3 r (by omega), f3.1.mono (fun t y => by unfold Tr tg at y; unfold TsF tg; omega), f3.2.mono (by decide), Ft.rf _ _, KpT.rf⟩
    have sb1 : So M M1 ((pl D 100).getD b 0) := F.1.2.1.so3 (by decide) (by omega) f3.1 (fun z => by unfold Tr tg at z; omega)
    have se1 := v3.2.1.1 eo he.1
    have hbσ2 : tA σ2 83 b = nI i ∧ tA σ2 84 b = nI e := ⟨by rw [(p1 83 rfl).2.2.1]; exact hb.2.1, by rw [(p1 84 rfl).2.2.1]; exact hb.2.2.1⟩
    obtain ⟨idx, hidx⟩ : ∃ idx, idx = if z = 0 then 0 else j + 1 := ⟨_, rfl⟩
    have idx9 : idx ≤ 9 := by
      rw [hidx]
      by_cases q : z = 0
      · rw [ifT q]; omega
      · rw [ifF q]; omega
    have e3000 : mI M1 3000 ((pl D 100).getD b 0) = nI w := by rw [sb1.i]; exact hb.2.2.2.1
    have k110 : ∀ A : Option ((Nat ⊕ Nat) × CM), K_X0_newInst ((pl D 99).getD i 0) (mss.getD k 0) (nI w) (nI idx) M1 = A → A = some (.inr (mn M1), wM M1 24 0) → KL_X0_instances_110 cf (f + 1) ((pl D 99).getD i 0) ((pl D 100).getD b 0) (nI R) (nI d) eo (mss.getD k 0) (nI R2) (nI j) M = some (.inr (.inr (mn M1)), wM M1 24 0) := fun A h1 h2 => by
      have k176 : ∀ y : Int32, y = nI idx → KJ_X0_instances_176_110 cf (KL_X0_instances_110 cf f) ((pl D 99).getD i 0) ((pl D 100).getD b 0) (nI R) (nI d) eo (mss.getD k 0) (nI R2) (nI j) 1 ((pl D 99).getD i 0) (mss.getD k 0) (nI w) y M1 = some (.inr (.inr (mn M1)), wM M1 24 0) := fun y hy => by
        unfold KJ_X0_instances_176_110
        rw [ifT (show 1 = 1 ∧ mk M1 1 = 1 from ⟨rfl, F3.1.k1⟩), hy, h1, h2, obS_inr]
      rw [KL_X0_instances_110, ifT km, k_many km hb.2.2.2.2 hz9, ob_some, ifF (fun q => by have := (bI_le (by omega) (by omega)).mp q; omega), r1, ob_some, ifT (by rw [se1.k]; exact he.2.1), ifT (by rw [se1.k]; exact he.2.1), se1.i, se1.i, he.2.2.2.1.1, he.2.2.1.1]
      by_cases q : z = 0
      · rw [ifT (show nI z = 0 from by rw [q]; rfl), k176 0 (by rw [hidx, ifT q]; rfl)]
      · rw [ifF (show ¬ nI z = 0 from fun y => q ((bI_eq (b := 0) (by omega) (by decide)).mp y)), nI_addL, k176 _ (by rw [hidx, ifF q])]
    have s16 := F3.2.2.1.2.1
    have s23 := s2.tr s3 (Nat.le_refl _) (Nat.le_refl _) (Nat.le_refl _) (Nat.le_refl _) (Or.inl rfl) (Nat.le_refl _) (show i < 200 by omega)
    by_cases hI : I = 200
    · -- there are 200 already
      left
      obtain ⟨b1, b2, b3⟩ := F3.1.bad (r := 24) (by decide) F3.g0
      have kn : K_X0_newInst ((pl D 99).getD i 0) (mss.getD k 0) (nI w) (nI idx) M1 = some (.inr (mn M1), wM M1 24 0) := by
        unfold K_X0_newInst
        rw [s16.1, hI, ifT (by decide), b1, ob_some, ifT (wM_k M1 24 0)]
      have tn : F_newInstance (nI i) (nI e) (nI idx) (nI k) (nI E) σ2 = some (0, badT σ2 24) := by
        unfold F_newInstance
        rw [s16.2.1, hI, ifT (by decide), b2, ob_some]
      have b3' := b3.mono (T' := TFf) (S' := fiS) (O' := [15, 16, 17, 18, 31]) (fun _ z => z) (by decide) (by decide)
      obtain ⟨s5, hs5⟩ : ∃ s, s = if j = 0 then tsA (badT σ2 24) 85 b 0 else badT σ2 24 := ⟨_, rfl⟩
      have f5 : Ft [85] (badT σ2 24) s5 := by
        rw [hs5]
        by_cases q : j = 0
        · rw [ifT q]; exact (Ft.rf _ _).p_tsA rfl
        · rw [ifF q]; exact Ft.rf _ _
      refine ⟨D, _, s5, _, .inr (), k110 _ rfl kn, ?_, s23.ff (b3'.tw f5 (by decide) (by decide) ⟨rfl, rfl⟩) (by omega)⟩
      rw [ht, ← hidx, tn, ob_some, ← hs5]
      unfold J_makeMember_515_240
      rw [t_isBad1 (by rw [(f5 0 rfl).1]; exact badT_ne (by decide)), ob_some, ifF (show ¬ (1 : Int32) = 0 by decide)]
    · -- one more
      have hI2 : I < 200 := by omega
      obtain ⟨D2, M2, c1, c2, F4, v4, x4, st4, f4, o4, i4⟩ := z_newInst (b := b) (e := e) (k := k) (idx := idx) (E := E) (len := Wn.length) F3 hi hI2 ⟨hb.1, hbσ2⟩ hk idx9 (by omega) (fun n' h1 h2 h3 => by
        rw [(p1 75 rfl).2.2.1] at h2
        rw [(p1 76 rfl).2.2.1] at h3
        rw [(p1 77 rfl).2.2.1]
        obtain ⟨j', j1, j2⟩ := hN n' h1 h2 h3
        refine ⟨_, ?_, j2⟩
        rw [hidx]
        by_cases q : z = 0
        · have : many z = 1 := by unfold many; rw [ifT q]
          omega
        · rw [ifF q, ifF q]; omega) (fun c h1 h2 => by
        rw [(p1 83 rfl).2.2.1] at h2
        exact hT c h1 h2) (by
        have f02 := f0
        refine ⟨⟨by rw [(p1 58 rfl).1, (f02 58 rfl).1]; exact hX0.1, z, by rw [(p1 53 rfl).2.2.1]; exact he.2.2.2.1.2.1, ?_⟩, by rw [(p1 51 rfl).2.2.2, (f02 51 rfl).2.2.2]; exact hX0.2.1, by rw [(p1 52 rfl).2.2.1, (f02 52 rfl).2.2.1]; exact hX0.2.2⟩
        rw [hidx]
        by_cases q : z = 0
        · rw [ifT q]; exact ⟨⟨hz9, Nat.zero_le _⟩, Or.inl q⟩
        · rw [ifF q]
          have : many z = z := by unfold many; rw [ifF q]
          exact ⟨⟨hz9, by omega⟩, Or.inr (by omega)⟩)
      rw [e3000] at c1
      obtain ⟨σ3, hσ3⟩ : ∃ s, s = niT σ2 I i e k E Wn.length (nI idx) := ⟨_, rfl⟩
      rw [← hσ3] at c2 F4 v4
      have kp4 : KpT σ2 σ3 V I b E i := by rw [hσ3]; exact KpT.ni
      have ff4 : Ft [74, 75, 76, 77, 78, 79, 82, 88] σ2 σ3 := by rw [hσ3]; exact niT_f
      have vv4 := (niT_v (σ := σ2) (I := I) (i := i) (e := e) (k := k) (E := E) (len := Wn.length) (idx := nI idx)).1
      rw [← hσ3] at vv4
      have s4 : SqM C P V I b R E i D D2 M1 M2 σ2 σ3 := ⟨v4, x4, fun r hr => (st4 r (by omega)).1, f4.mono (fun t y => by unfold TsF tg at *; omega), o4.mono (by decide), ff4.mono (by decide), kp4⟩
      obtain ⟨io2, hio2⟩ : ∃ o, o = (pl D2 99).getD I 0 := ⟨_, rfl⟩
      rw [← hio2] at c1 i4
      have l4' := F4.lens
      have kio2 : mk M2 io2 = 14 := by rw [hio2]; exact (F4.1.2.1.2.1 99 (by decide) I (by omega)).1
      have e100 : (pl D2 100).getD b 0 = (pl D 100).getD b 0 := (x4.1 100 b (by omega)).2
      have sb2 : So M1 M2 ((pl D 100).getD b 0) := F3.1.2.1.so3 (by decide) (by omega) f4 (fun z => by unfold tg at z; omega)
      have kmo2 : mk M2 ((pl D 100).getD b 0) = 16 := by rw [sb2.k, sb1.k]; exact km
      -- the first is noted
      obtain ⟨M3, hM3⟩ : ∃ N, N = if j = 0 then msI M2 3005 ((pl D 100).getD b 0) (nI I) else M2 := ⟨_, rfl⟩
      obtain ⟨s5, hs5⟩ : ∃ s, s = if j = 0 then tsA σ3 85 b (nI I) else σ3 := ⟨_, rfl⟩
      have f5 : Ft [85] σ3 s5 := by
        rw [hs5]
        by_cases q : j = 0
        · rw [ifT q]; exact (Ft.rf _ _).p_tsA rfl
        · rw [ifF q]; exact Ft.rf _ _
      have kp5 : KpT σ3 s5 V I b E i := by
        refine ⟨fun f hf n _ => ?_, fun n _ _ => (f5 88 rfl).2.2.1 n, fun f hf c hc => ?_, fun f hf n _ => ?_, fun f hf n _ => ?_, ⟨(f5 113 rfl).1, (f5 114 rfl).1⟩, fun c _ => (f5 112 rfl).2.2.1 c⟩
        · simp only [List.mem_cons, List.not_mem_nil, or_false] at hf
          rcases hf with rfl | rfl | rfl | rfl | rfl | rfl <;> exact (f5 _ rfl).2.2.1 n
        · rw [hs5]
          by_cases q : j = 0
          · rw [ifT q, tA_tsA, ifF (by omega)]
          · rw [ifF q]
        · simp only [List.mem_cons, List.not_mem_nil, or_false] at hf
          rcases hf with rfl | rfl | rfl | rfl | rfl | rfl | rfl | rfl | rfl | rfl <;> exact (f5 _ rfl).2.2.1 n
        · simp only [List.mem_cons, List.not_mem_nil, or_false] at hf
          rcases hf with rfl | rfl | rfl <;> exact (f5 _ rfl).2.2.1 n
      have st5 : FiS C B P mss fss D2 M3 σ3 V (I + 1) Bm cr R2 (E + Wn.length) ∧ SqM C P V I b R E i D2 D2 M2 M3 σ3 σ3 ∧ (∀ r, r < R2 → hit D2 M3 r = hit D2 M2 r) ∧ (∀ r, r < R2 → RwS D2 M2 D2 M3 r) ∧ MbK M2 M3 σ3 σ3 ((pl D 100).getD b 0) b ∧ mI M3 3005 ((pl D 100).getD b 0) = (if j = 0 then nI I else mI M2 3005 ((pl D 100).getD b 0)) ∧ ∀ c, c < Bm → c ≠ b → So M2 M3 ((pl D2 100).getD c 0) := by
        rw [hM3]
        by_cases q : j = 0
        · rw [ifT q, ifT q]
          obtain ⟨g1, g2, g3, g4, g5⟩ := F4.mbw (b := b) (g := 3005) (u := nI I) hb.1 (Or.inr rfl)
          rw [e100] at g1 g2 g3 g4 g5
          exact ⟨g1, ⟨g2, Dx.rf D2 M2, fun r hr => (g3 r (by omega)).1, g4.mono (fun t y => by rw [y]; unfold TsF tg; omega), g5.mono (by decide), Ft.rf _ _, KpT.rf⟩, fun r hr => (g3 r hr).2, fun r hr => (g3 r hr).1, ⟨fun f hf => by rw [mI_msI, ifF (fun z => hf z.1)], fun f => rfl, fun f hf => rfl⟩, by rw [mI_msI, ifT ⟨rfl, rfl⟩], fun c h1 h2 => F4.1.2.1.so3 (by decide) (by omega) g4 (fun z => by unfold tg at z; omega)⟩
        · rw [ifF q, ifF q]
          exact ⟨F4, SqM.rf (by have := F.1.1.2.2.2.2.1; omega), fun _ _ => rfl, fun _ _ => RwS.rf, ⟨fun _ _ => rfl, fun _ => rfl, fun _ _ => rfl⟩, rfl, fun _ _ _ => So.rf _ _⟩
      obtain ⟨F5, s5a, h5, rw5, mk5, e5, kc5⟩ := st5
      have s5b : SqM C P V I b R E i D2 D2 M3 M3 σ3 s5 := SqM.tw F5.1 f5 (by decide) (by decide) kp5
      have F6 := F5.tw f5 (by decide) (by rw [(f5 93 rfl).1]; exact F5.2.2.2.2.2.1.1)
      have i200 : i < 200 := by omega
      have sall := (((s23.tr s4 (Nat.le_refl _) (Nat.le_refl _) (Nat.le_refl _) (Nat.le_refl _) (Or.inl rfl) (Nat.le_refl _) i200).tr s5a (Nat.le_refl _) (Nat.le_refl _) (Nat.le_refl _) (Nat.le_refl _) (Or.inl rfl) (Nat.le_refl _) i200).tr s5b (Nat.le_refl _) (Nat.le_refl _) (Nat.le_refl _) (Nat.le_refl _) (Or.inl rfl) (Nat.le_refl _) i200)
      -- the elements of its class
      have f26 : Ft [74, 75, 76, 77, 78, 79, 82, 85, 88, 113] σ2 s5 := (ff4.mono (by decide)).tr (f5.mono (by decide))
      obtain ⟨c114, c113, cle⟩ : tI s5 114 = nI (cb + ks.length) ∧ tI s5 113 = nI cb ∧ cb + ks.length ≤ 200 := by
        obtain ⟨-, -, -, ⟨q1, q2, q3, q4⟩, -⟩ := hC
        exact ⟨by rw [(f26 114 rfl).1, (p1 114 rfl).1]; exact q2, by rw [(f5 113 rfl).1, (ff4 113 rfl).1, (p1 113 rfl).1]; exact q1, q3⟩
      obtain ⟨s6, hs6⟩ : ∃ s, s = tsI s5 113 (tI s5 114) := ⟨_, rfl⟩
      have f6 : Ft [113] s5 s6 := by rw [hs6]; exact (Ft.rf _ _).p_tsI rfl
      have F7 := F6.tw f6 (by decide) (by rw [(f6 93 rfl).1]; exact F6.2.2.2.2.2.1.1)
      obtain ⟨-, w6⟩ := F6.1.wzT f6 (by decide)
      have fall : Ft fiS σ s6 := sall.2.2.2.2.2.1.tr (f6.mono (by decide))
      have v6 : Wz C C P M M3 σ s6 := sall.1.tr w6 (fun _ z => z)
      have x6 : Dx D D2 M := sall.2.1
      have rwA : ∀ r, r < R2 → RwS D M D2 M3 r := fun r hr => ((st3 r hr).tr (st4 r hr).1).tr (rw5 r hr)
      have rs6 : RsR C P D2 M3 s6 (I + 1) R Wn := hR.mv v6 x6 (fun j hj => rwA _ (by omega)) ⟨l99, Nat.le_succ I⟩ fall
      have es6 : EsR s6 E Wn := p3.mv ((f26.mono (by decide)).tr (f6.mono (by decide))) (fun j _ _ => ⟨((f6 90 rfl).2.2.1 j).trans ((f26 90 rfl).2.2.1 j), ((f6 91 rfl).2.2.1 j).trans ((f26 91 rfl).2.2.1 j), ((f6 92 rfl).2.2.1 j).trans ((f26 92 rfl).2.2.1 j)⟩)
      have gem : ∀ a, a ∈ Wn → ∃ c, c < Wn.length ∧ ge Wn c = a := fun a ha => by
        obtain ⟨c, hc, ec⟩ := List.getElem_of_mem ha
        exact ⟨c, hc, by unfold ge; rw [List.getD_eq_getElem?_getD, List.getElem?_eq_getElem hc]; exact ec⟩
      have mge : ∀ c, c < Wn.length → ge Wn c ∈ Wn := fun c hc => by
        unfold ge; rw [List.getD_eq_getElem?_getD, List.getElem?_eq_getElem hc]; exact List.getElem_mem hc
      have nb6 : ∀ a, a ∈ Wn → EnB s6 a := fun a ha => by
        obtain ⟨c, hc, ec⟩ := gem a ha
        have := rs6 c hc
        rw [ec] at this
        obtain ⟨m, -, hE⟩ := this
        exact (hE.enb (by omega) (F7.tm24 hB1) (F7.wn hB1).2.2 (F7.wn hB1).1 h1280).1
      have hit0 : ∀ r, R ≤ r → r < R2 → hit D2 M3 r = 0 := fun r h1 h2 => by
        rw [h5 r h2, (st4 r h2).2, h3 r h2, ifT ⟨h1, h2⟩]
      have cx : Cx C P D2 M3 s6 (I + 1) R2 (E + Wn.length) (d + 1) I E (cb + ks.length) R Wn [] := by
        refine ⟨Nat.lt_succ_self I, ⟨⟨hI2, ?_, ?_, Nat.le_refl _⟩, es6, nb6, ⟨by rw [hs6]; exact c114, by rw [(f6 114 rfl).1]; exact c114, cle, fun j hj => absurd hj (Nat.not_lt_zero _)⟩, ?_⟩, ?_, ?_, ⟨⟨by omega, by omega⟩, ?_, hlv.2.1, by omega, ?_⟩, fun c hc => ?_⟩
        · rw [(f6 78 rfl).2.2.1, (f5 78 rfl).2.2.1]; exact vv4.2.2.2.2.2.1
        · rw [(f6 79 rfl).2.2.1, (f5 79 rfl).2.2.1]; exact vv4.2.2.2.2.2.2.1
        · show E + Wn.length + Wn.length + 0 ≤ 40000; omega
        · show RsR C P D2 M3 s6 (I + 1) R (Wn ++ []); rw [List.append_nil]; exact rs6
        · show R + (Wn ++ []).length ≤ R2; rw [List.append_nil]; omega
        · show (Wn ++ []).length ≤ 426 * (d + 1 - 1); rw [List.append_nil]; exact hlv.1
        · show cb + ks.length + 0 ≤ d + 1; omega
        · have hc : c < (Wn ++ []).length := hc
          rw [List.append_nil] at hc
          exact Or.inl (hit0 _ (by omega) (by omega))
      have hq := hel D2 M3 s6 V (I + 1) Bm cr R2 (E + Wn.length) I E (cb + ks.length) R Wn [] k F7 cx hk
      rw [show wcE I [] = [] from rfl, List.append_nil, ← hR2, ← hio2] at hq
      have kk := k_inst1 (cf := cf) (f := f) (I := I) (io2 := io2) (j := j) (z := z) (w := w) (mo := (pl D 100).getD b 0) (io := (pl D 99).getD i 0) (cls := mss.getD k 0) (eo := eo) (x3 := nI R) (x5 := nI d) (x8 := nI R2) (M := M) (M1 := M1) (M2 := M2) (by omega) ⟨km, hb.2.2.2.2⟩ hz9 r1 ⟨by rw [se1.k]; exact he.2.1, by rw [se1.i]; exact he.2.2.2.1.1, by rw [se1.i]; exact he.2.2.1.1, F3.1.k1⟩ (by rw [← hidx]; exact c1) ⟨kio2, i4, kmo2⟩
      rw [← hM3] at kk
      unfold KJ_X0_instances_195_110 at kk
      rw [nI_addL, nI_addL] at kk
      rw [kk, ht, ← hidx, c2, ob_some, ← hs5]
      have stop : ∀ s : TS, tI s 0 ≠ 0 → L_makeMember_240 cf' (g + 1) (nI i) (nI e) (nI d) (nI b) 0 (nI (many z)) (nI k) (nI (j + 1)) s = some (.inl (), s) := fun s hs => by
        rw [L_makeMember_240]
        by_cases q : nI (many z) ≤ nI (j + 1)
        · rw [ifT q]
        · rw [ifF q, t_isBad1 hs, ob_some, ifF (show ¬ (1 : Int32) = 0 by decide)]
      have sFf : ∀ {D4 : FQ} {M4 : CM} {s7 : TS} {w4 : Nat}, FfO C B P mss fss TFf fiS [15, 16, 17, 18, 31] D2 D4 M3 M4 s6 s7 w4 → FfO C B P mss fss TFf fiS [15, 16, 17, 18, 31] D D4 M M4 σ s7 w4 := fun h => sall.ff (h.tr w6 (Dx.rf _ _) Fq.rf (O1.rf _ _) (f6.mono (by decide))) i200
      rcases hq with ⟨D4, M4, σ4, w4, q1, q2, q3⟩ | ⟨D4, M4, σ4, V4, I4, Bm4, q1, q2, F8, ⟨gV, gI, gB⟩, s8, hp8, mb8, ⟨⟨dp8, nw8⟩, vo8, cn8, ci8⟩, has8⟩
      · left
        have b4 : tI σ4 0 ≠ 0 := q3.2.2.2.2.1.2.2.1
        have tk := t_kstep (cf' := cf') (rec := L_makeMember_240 cf' (g + 1)) (i := i) (e := e) (d := d) (b := b) (m := many z) (k := k) (j := j) (E := E) (I := I) (cb := cb) (len := Wn.length) (s3 := s5) (s4 := σ4) F6.g0 hI2 c113 (by rw [← hs6]; exact q2) (fun z => absurd z b4) hj9
        rw [ifF b4] at tk
        have f9 : Ft [93, 113] σ4 (tsI (tsI σ4 113 (nI cb)) 93 (nI E)) := ((Ft.rf _ _).p_tsI rfl).p_tsI rfl
        refine ⟨D4, M4, _, w4, .inl (), by rw [q1, obS_inr], by rw [tk]; exact stop _ b4, sFf (q3.tw f9 (by decide) (by decide) ⟨rfl, rfl⟩)⟩
      · have g4 := F8.g0
        have e79 : tA σ4 79 I = nI Wn.length := by rw [s8.2.2.2.2.2.2.1 79 (by decide) I (Nat.lt_succ_self I)]; exact cx.2.1.1.2.2.1
        have tk := t_kstep (cf' := cf') (rec := L_makeMember_240 cf' (g + 1)) (i := i) (e := e) (d := d) (b := b) (m := many z) (k := k) (j := j) (E := E) (I := I) (cb := cb) (len := Wn.length) (s3 := s5) (s4 := σ4) F6.g0 hI2 c113 (by rw [← hs6]; exact q2) (fun _ => e79) hj9
        rw [ifT g4] at tk
        obtain ⟨σ7, hσ7⟩ : ∃ s, s = tsI σ4 113 (nI cb) := ⟨_, rfl⟩
        rw [← hσ7] at tk
        have f7 : Ft [113] σ4 σ7 := by rw [hσ7]; exact (Ft.rf _ _).p_tsI rfl
        have F9 := F8.tw f7 (by decide) (by rw [(f7 93 rfl).1]; exact F8.2.2.2.2.2.1.1)
        have has7 : HasP σ7 Bm Bm4 I k (d + 1) := by
          subst hσ7
          exact ⟨fun s fs x dp g h1 h2 => has8.1 s ((f7.mono (by decide)).tr fs) x dp g h1 h2, has8.2.fwd f7 (by decide) _ _⟩
        have hsq : ∀ a, hsL σ7 Bm Bm4 I a ↔ hsL σ4 Bm Bm4 I a := fun a => by
          have f7' : Ft fiS σ4 σ7 := f7.mono (by decide)
          have hh : ∀ x, hs σ7 Bm Bm4 I x ↔ hs σ4 Bm Bm4 I x := fun x => by subst hσ7; exact Iff.rfl
          constructor
          · rintro ⟨x, h, g⟩
            rw [ldB_ft f7'] at g
            exact ⟨x, (hh x).mp h, g⟩
          · rintro ⟨x, h, g⟩
            exact ⟨x, (hh x).mpr h, by rw [ldB_ft f7']; exact g⟩
        have es7 : EsR σ7 E Wn := es6.mv (s8.2.2.2.2.2.1.tr (f7.mono (by decide))) (fun j _ hj => by
          have k5 := s8.2.2.2.2.2.2.2.2.2.2.1
          exact ⟨((f7 90 rfl).2.2.1 j).trans (k5 90 (by decide) j (by omega)), ((f7 91 rfl).2.2.1 j).trans (k5 91 (by decide) j (by omega)), ((f7 92 rfl).2.2.1 j).trans (k5 92 (by decide) j (by omega))⟩)
        have nb7 : ∀ a, a ∈ Wn → EnB σ7 a := fun a ha => ((nb6 a ha).ft s8.2.2.2.2.2.1 hfi).ft f7 (by decide)
        have tle := t_leads (k := k) (d := d + 1) (E := E) (len := Wn.length) (p := Bm) (q := Bm4) (i := I) F9.g0 has7 (by omega) (by omega) Wn 0 FU (by omega) (by omega) es7 nb7
        rw [Nat.add_zero] at tle
        have hitc : ∀ c, c < Wn.length → (hsL σ4 Bm Bm4 I (ge Wn c) ↔ hit D4 M4 (R + c) ≠ 0) := fun c hc => by
          by_cases y : hsL σ4 Bm Bm4 I (ge Wn c)
          · rw [(hp8.2 c hc).1 y]; exact ⟨fun _ => by decide, fun _ => y⟩
          · rw [(hp8.2 c hc).2 y, hit0 _ (by omega) (by omega)]
            exact ⟨fun z => absurd z y, fun z => absurd rfl z⟩
        have tkL : F_leads (nI E) (nI Wn.length) (nI k) σ7 = ob (L_leads_3 FU (nI E) (nI Wn.length) (nI k) (nI E) σ7) fun _ s43 => some ((), s43) := rfl
        rw [tkL] at tk
        rcases z_allHit F8 (Nat.le_refl _) (fr := R) (by omega) with ⟨y1, y2⟩ | ⟨⟨r, y1, y2, y3⟩, y4⟩
        · -- all are hit
          rcases tle with ⟨⟨a, u1, u2⟩, u3⟩ | ⟨u1, u2⟩
          · exfalso
            obtain ⟨c, hc, ec⟩ := gem a u1
            refine u2 ((hsq a).mpr ?_)
            rw [← ec]
            exact (hitc c hc).mpr (y1 _ (by omega) (by omega))
          · rw [u2, ob_some, ob_some] at tk
            obtain ⟨σ8, hσ8⟩ : ∃ s, s = tsI σ7 93 (nI E) := ⟨_, rfl⟩
            rw [← hσ8] at tk
            have f8 : Ft [93] σ7 σ8 := by rw [hσ8]; exact (Ft.rf _ _).p_tsI rfl
            have F10 := F9.tw f8 (by decide) (show tI σ8 93 = nI E by rw [hσ8]; rfl)
            have s9 : SqM C P V (I + 1) Bm R2 (E + Wn.length) I D2 D4 M3 M4 s5 σ7 := by
              have h := s8
              rw [hs6] at h
              have := h.ch F6.1 F8.1
              rw [c113, ← hσ7] at this
              exact this
            have s10 : SqM C P V4 I4 Bm4 R2 E i D4 D4 M4 M4 σ7 σ8 := SqM.tw F9.1 f8 (by decide) (by decide) (by rw [hσ8]; exact ⟨fun _ _ _ _ => rfl, fun _ _ _ => rfl, fun _ _ _ _ => rfl, fun _ _ _ _ => rfl, fun _ _ _ _ => rfl, ⟨rfl, rfl⟩, fun _ _ => rfl⟩)
            have tot := (sall.tr s9 (Nat.le_refl _) (Nat.le_succ I) (by omega) (by omega) (Or.inr (Nat.le_refl I)) (by omega) hI2).tr s10 gV (by omega) (by omega) (Nat.le_refl _) (Or.inl rfl) (by omega) i200
            have e99t : (pl D4 99).getD i 0 = (pl D 99).getD i 0 := (tot.2.1.1 99 i (by omega)).2
            have e100t : (pl D4 100).getD b 0 = (pl D 100).getD b 0 := (tot.2.1.1 100 b (by omega)).2
            have sb4 : So M3 M4 ((pl D 100).getD b 0) := by
              have := F5.1.2.1.so3 (k := b) (l := 100) (by decide) (by have := F5.lens; omega) s8.2.2.2.1 (fun z => by unfold TsF tg at z; omega)
              rw [e100] at this; exact this
            have mkA : MbK M M4 σ σ8 ((pl D 100).getD b 0) b := by
              refine ⟨fun f hf => by rw [sb4.i, mk5.1 f hf, sb2.i, sb1.i], fun f => by rw [sb4.r, mk5.2.1 f, sb2.r, sb1.r], fun f hf => ?_⟩
              have k3 := s9.2.2.2.2.2.2.2.2.1
              have e1 : tA σ8 f b = tA s5 f b := by
                have : tA σ8 f b = tA σ7 f b := by rw [hσ8]; rfl
                rw [this]
                exact k3 f (by simp only [List.mem_cons, List.not_mem_nil, or_false] at hf ⊢; omega) b hb.1
              rw [e1]
              simp only [List.mem_cons, List.not_mem_nil, or_false] at hf
              rcases hf with rfl | rfl | rfl
              · exact ((f26 83 rfl).2.2.1 b).trans ((p1 83 rfl).2.2.1 b)
              · exact ((f26 84 rfl).2.2.1 b).trans ((p1 84 rfl).2.2.1 b)
              · exact ((f26 86 rfl).2.2.1 b).trans ((p1 86 rfl).2.2.1 b)
            have e85 : tA σ8 85 b = if j = 0 then nI I else tA σ 85 b := by
              have h1 : tA σ8 85 b = tA σ7 85 b := by rw [hσ8]; rfl
              rw [h1, s9.2.2.2.2.2.2.2.2.1 85 (by decide) b hb.1, hs5]
              by_cases q : j = 0
              · rw [ifT q, ifT q, tA_tsA, ifT ⟨rfl, rfl⟩]
              · rw [ifF q, ifF q, (ff4 85 rfl).2.2.1, (p1 85 rfl).2.2.1]
            have e3005 : mI M4 3005 ((pl D 100).getD b 0) = if j = 0 then nI I else mI M 3005 ((pl D 100).getD b 0) := by
              rw [sb4.i, e5, sb2.i, sb1.i]
            have rwT : ∀ r, r < R2 → RwS D M D4 M4 r := fun r hr => (rwA r hr).tr (s8.2.2.1 r hr)
            have kcA : KpC D M M4 σ σ8 Bm b := fun c h1 h2 => by
              have q1 : So M M1 ((pl D 100).getD c 0) := F.1.2.1.so3 (by decide) (by omega) f3.1 (fun z => by unfold Tr tg at z; omega)
              have q2 : So M1 M2 ((pl D 100).getD c 0) := F3.1.2.1.so3 (by decide) (by omega) f4 (fun z => by unfold tg at z; omega)
              have ec : (pl D2 100).getD c 0 = (pl D 100).getD c 0 := (x4.1 100 c (by omega)).2
              have q3 := kc5 c h1 h2
              have q4 := F5.1.2.1.so3 (k := c) (l := 100) (by decide) (by have := F5.lens; omega) s8.2.2.2.1 (fun z => by unfold TsF tg at z; omega)
              rw [ec] at q3 q4
              refine ⟨((q1.tr q2).tr q3).tr q4, fun f hf => ?_⟩
              have k3 := s9.2.2.2.2.2.2.2.2.1
              have e1 : tA σ8 f c = tA s5 f c := by
                have : tA σ8 f c = tA σ7 f c := by rw [hσ8]; rfl
                rw [this]
                exact k3 f (by simp only [List.mem_cons, List.not_mem_nil, or_false] at hf ⊢; omega) c h1
              have e2 : tA s5 f c = tA σ3 f c := by
                rw [hs5]
                by_cases q : j = 0
                · rw [ifT q, tA_tsA, ifF (by omega)]
                · rw [ifF q]
              rw [e1, e2]
              simp only [List.mem_cons, List.not_mem_nil, or_false] at hf
              rcases hf with rfl | rfl | rfl | rfl <;> exact ((ff4 _ rfl).2.2.1 c).trans ((p1 _ rfl).2.2.1 c)
            have eI74 : tA σ8 74 I = nI k := by
              have : tA σ8 74 I = tA σ7 74 I := by rw [hσ8]; rfl
              rw [this, s9.2.2.2.2.2.2.1 74 (by decide) I (Nat.lt_succ_self I), (f5 74 rfl).2.2.1]
              exact vv4.2.2.2.2.1
            have eI : tA σ8 75 I = nI i ∧ tA σ8 76 I = nI e ∧ tA σ8 77 I = nI idx := by
              have e1 : ∀ f, f ∈ [74, 75, 76, 77, 78, 79] → tA σ8 f I = tA s5 f I := fun f hf => by
                have : tA σ8 f I = tA σ7 f I := by rw [hσ8]; rfl
                rw [this]
                exact s9.2.2.2.2.2.2.1 f hf I (Nat.lt_succ_self I)
              rw [e1 75 (by decide), e1 76 (by decide), e1 77 (by decide), (f5 75 rfl).2.2.1, (f5 76 rfl).2.2.1, (f5 77 rfl).2.2.1]
              exact ⟨vv4.2.1, vv4.2.2.1, vv4.2.2.2.1⟩
            have nx := ih (j + 1) f g D4 M4 σ8 V4 I4 Bm4 (by omega) (by omega) (by omega) F10 (f0.tr tot.2.2.2.2.2.1) (hC.kp tot.2.2.2.2.2.1 tot.2.2.2.2.2.2 hi) (by omega) ⟨by omega, by rw [mkA.2.2 83 (by decide)]; exact hb.2.1, by rw [mkA.2.2 84 (by decide)]; exact hb.2.2.1, by rw [e100t, mkA.1 3000 (by decide)]; exact hb.2.2.2.1, by rw [e100t, mkA.1 3002 (by decide)]; exact hb.2.2.2.2⟩ (he.wz tot.1 tot.2.2.2.2.2.1 hfi) (hM.ft tot.2.2.2.2.2.1 hfi) h480 (hR.mv tot.1 tot.2.1 (fun j hj => rwT _ (by omega)) ⟨l99, by omega⟩ tot.2.2.2.2.2.1) (fun n' h1 h2 h3 => by
              by_cases q : n' < I
              · have kp := tot.2.2.2.2.2.2.1
                rw [kp 75 (by decide) n' q] at h2
                rw [kp 76 (by decide) n' q] at h3
                rw [kp 77 (by decide) n' q]
                obtain ⟨j', j1, j2⟩ := hN n' q h2 h3
                exact ⟨j', by omega, j2⟩
              · by_cases q2 : n' = I
                · rw [q2]
                  exact ⟨j, Nat.lt_succ_self j, by rw [eI.2.2]; exact congrArg nI hidx⟩
                · obtain ⟨p, p1', p2', p3', -⟩ := nw8 n' (by omega) h1
                  have e1 : tA σ8 75 n' = tA σ4 75 n' := by rw [hσ8, hσ7]; rfl
                  rw [e1, p1'] at h2
                  have := (bI_eq (a := p) (b := i) (by omega) (by omega)).mp h2
                  omega) (fun c h1 h2 => by
              by_cases q : c < Bm
              · by_cases q2 : c = b
                · omega
                · rw [(kcA c q q2).2 83 (by decide)] at h2
                  exact hT c q h2
              · obtain ⟨-, n', m2, m3, m4⟩ := mb8 c (by omega) h1
                have t48 : tA σ8 83 c = tA σ4 83 c := by rw [hσ8, hσ7]; rfl
                rw [t48, m2] at h2
                have F10l := F10.lens
                have := (bI_eq (a := n') (b := i) (by omega) (by omega)).mp h2
                omega)
            rw [e99t, e100t] at nx
            rw [q1, obS_inl, y2, obS_inl, nm_eq, tk]
            rcases nx with ⟨D5, M5, σ5, w5, y5, n1, n2, n3⟩ | ⟨D5, M5, σ5, V5, I5, Bm5, n1, n2, n3, ⟨n4, n5, n6⟩, n7, n8, n9, n10, n11, n12, n13, ⟨⟨dp14, n14⟩, vo14, cn14⟩, n15⟩
            · exact Or.inl ⟨D5, M5, σ5, w5, y5, n1, n2, tot.ff n3 i200⟩
            · right
              refine ⟨D5, M5, σ5, V5, I5, Bm5, n1, n2, n3, ⟨by omega, by omega, by omega⟩, tot.tr n7 gV (by omega) (Nat.le_refl _) (Nat.le_refl _) (Or.inl rfl) (Nat.le_refl _) i200, fun r hr => ?_, fun c h1 h2 => ?_, mkA.tr n10, ?_, ?_, fun c h1 h2 => ?_, ⟨⟨fun n => if n = I then d + 1 else if n < I4 then dp8 n else dp14 n, fun n' h1 h2 => ?_⟩, (vo8.mv gB (((f7.mono (by decide)).tr (f8.mono (by decide))).tr n7.2.2.2.2.2.1) (fun c y1 y2 => by
                have t48 : ∀ f, f ∈ [83, 84, 85, 86] → tA σ5 f c = tA σ4 f c := fun f hf => ((n13 c y2 (by omega)).2 f hf).trans (by rw [hσ8, hσ7]; rfl)
                exact ⟨⟨t48 83 (by decide), t48 84 (by decide)⟩, fun _ => t48 85 (by decide)⟩) (fun v _ v2 => (n7.2.2.2.2.2.2.2.2.2.1 96 (by decide) v v2).trans (by rw [hσ8, hσ7]; rfl))).tr vo14 ⟨gB, n6⟩, by
                have e96 : ∀ v, v < V4 → tA σ5 96 v = tA σ4 96 v := fun v v2 => (n7.2.2.2.2.2.2.2.2.2.1 96 (by decide) v v2).trans (by rw [hσ8, hσ7]; rfl)
                have l5 := n3.lens
                have l4b := F8.lens
                have c4 : NwC σ4 V V4 I I4 := fun n y1 y2 => by
                  by_cases y : n = I
                  · rw [y]
                    exact ⟨k, 13 - (d + 1), by rw [← eI74, hσ8, hσ7]; rfl, by omega, ci8⟩
                  · exact cn8 n (by omega) y2
                exact c4.tr cn14 (((f7.mono (S' := fiS) (by decide)).tr (f8.mono (by decide))).tr n7.2.2.2.2.2.1) (by decide) ⟨gV, n4⟩ ⟨by omega, by omega⟩ (fun u _ y2 => e96 u y2) (fun n hn => (n7.2.2.2.2.2.2.1 74 (by decide) n hn).trans (by rw [hσ8, hσ7]; rfl)) (fun v y1 y2 => by
                  obtain ⟨c, c1, c2, -, c4⟩ := vo8.own gB v y1 y2
                  obtain ⟨-, n', m2, m3, -⟩ := mb8 c c1 c2
                  exact ⟨n', by rw [e96 v y2, c4]; exact m2, m3⟩) (fun v y1 y2 => by
                  obtain ⟨c, c1, c2, -, c4⟩ := vo14.own n6 v y1 y2
                  obtain ⟨-, n', m2, m3, m4⟩ := n9 c c1 c2
                  exact ⟨n', by rw [c4]; exact m2, by omega, Or.inr m4⟩) (by omega)⟩, fun j' h1 h2 => ?_⟩
              · rw [n8 r hr, hp8.1 r (by omega) (by omega), h5 r (by omega), (st4 r (by omega)).2, h3 r (by omega), ifF (by omega)]
              · by_cases y : c < Bm4
                · obtain ⟨m1, n', m2, m3, m4⟩ := mb8 c h1 y
                  have F10l := F10.lens
                  obtain ⟨qs, qt⟩ := n13 c y (by omega)
                  have f48 : Ft [113, 93] σ4 σ8 := (f7.mono (by decide)).tr (f8.mono (by decide))
                  have t48 : ∀ f, f ∈ [83, 84, 85, 86] → tA σ5 f c = tA σ4 f c := fun f hf => (qt f hf).trans (by rw [hσ8, hσ7]; rfl)
                  obtain ⟨n2', e', eo', w', -, -, ⟨p3a, p3b⟩, -⟩ := F8.2.1.2.2.1 c y
                  refine ⟨m1.mv ((F8.1.wzT f48 (by decide)).2.tr n7.1 (fun _ z => z)) ((f48.mono (by decide)).tr n7.2.2.2.2.2.1) (fun k hk => (F8.cc hk).1.1.1) (n7.2.1.1 100 c (by omega)).2 qs (by rw [p3a]; exact p3b.1.1) n7.2.1 ⟨t48 84 (by decide), t48 85 (by decide), t48 86 (by decide)⟩ (t48 83 (by decide)) (fun f hf n hn => (n7.2.2.2.2.2.2.1 f hf n hn).trans (by rw [hσ8, hσ7]; rfl)) n4 (by omega), n', by rw [t48 83 (by decide)]; exact m2, by omega, by omega⟩
                · obtain ⟨m1, n', m2, m3, m4⟩ := n9 c (by omega) h2
                  exact ⟨m1, n', m2, m3, by omega⟩
              · rw [n11, ifF (by omega), e3005]
              · rw [n12, ifF (by omega), e85]
              · have ec : (pl D4 100).getD c 0 = (pl D 100).getD c 0 := (tot.2.1.1 100 c (by omega)).2
                obtain ⟨u1', u2'⟩ := kcA c h1 h2
                obtain ⟨u3', u4'⟩ := n13 c (by omega) h2
                rw [ec] at u3'
                exact ⟨u1'.tr u3', fun f hf => (u4' f hf).trans (u2' f hf)⟩
              · have kp := n7.2.2.2.2.2.2.1
                by_cases q : n' < I4
                · have fE : Ft fiS σ4 σ5 := ((f7.mono (by decide)).tr (f8.mono (by decide))).tr n7.2.2.2.2.2.1
                  have e74 : tA σ8 74 n' = tA σ4 74 n' := by rw [hσ8, hσ7]; rfl
                  rw [kp 75 (by decide) n' q, kp 74 (by decide) n' q, e74]
                  by_cases q2 : n' = I
                  · rw [q2]
                    exact ⟨i, eI.1, i200, Or.inl ⟨rfl, by show d < (if I = I then d + 1 else if I < I4 then dp8 I else dp14 I); rw [ifT rfl]; omega⟩, by show (if I = I then d + 1 else if I < I4 then dp8 I else dp14 I) ≤ 13; rw [ifT rfl]; omega, k, 13 - (d + 1), by rw [q2] at e74; rw [← e74]; exact eI74, has8.2.fwd fE (by decide) _ _, by omega⟩
                  · obtain ⟨p, p1', p2', p3', p4', kk, gg, p5', p6', p7'⟩ := nw8 n' (by omega) q
                    have e1 : tA σ8 75 n' = tA σ4 75 n' := by rw [hσ8, hσ7]; rfl
                    have en : (if n' = I then d + 1 else if n' < I4 then dp8 n' else dp14 n') = dp8 n' := by rw [ifF q2, ifT q]
                    refine ⟨p, e1.trans p1', p2', Or.inr ?_, by show (if n' = I then d + 1 else if n' < I4 then dp8 n' else dp14 n') ≤ 13; rw [en]; exact p4', kk, gg, p5', p6'.fwd fE (by decide) _ _, p7'⟩
                    show I ≤ p ∧ p < n' ∧ (if p = I then d + 1 else if p < I4 then dp8 p else dp14 p) < (if n' = I then d + 1 else if n' < I4 then dp8 n' else dp14 n')
                    rw [en]
                    rcases p3' with ⟨a1, a2⟩ | ⟨a1, a2, a3⟩
                    · exact ⟨by omega, by omega, by rw [ifT a1]; exact a2⟩
                    · exact ⟨by omega, a2, by rw [ifF (by omega), ifT (by omega)]; exact a3⟩
                · obtain ⟨p, p1', p2', p3', p4', p5'⟩ := n14 n' (by omega) h2
                  have en : (if n' = I then d + 1 else if n' < I4 then dp8 n' else dp14 n') = dp14 n' := by rw [ifF (by omega), ifF q]
                  refine ⟨p, p1', p2', ?_, by show (if n' = I then d + 1 else if n' < I4 then dp8 n' else dp14 n') ≤ 13; rw [en]; exact p4', p5'⟩
                  rcases p3' with ⟨a1, a2⟩ | ⟨a1, a2, a3⟩
                  · exact Or.inl ⟨a1, by show d < (if n' = I then d + 1 else if n' < I4 then dp8 n' else dp14 n'); rw [en]; exact a2⟩
                  · exact Or.inr ⟨by omega, a2, by show (if p = I then d + 1 else if p < I4 then dp8 p else dp14 p) < (if n' = I then d + 1 else if n' < I4 then dp8 n' else dp14 n'); rw [en, ifF (by omega), ifF (by omega)]; exact a3⟩
              · have kp := n7.2.2.2.2.2.2.1
                by_cases q : j' = j
                · refine ⟨I, ⟨Nat.le_refl _, by omega, fun _ => rfl⟩, ?_⟩
                  rw [kp 75 (by decide) I (by omega), kp 76 (by decide) I (by omega), kp 77 (by decide) I (by omega), q, ← hidx]
                  exact eI
                · obtain ⟨n', ⟨n1', n2', -⟩, n3'⟩ := n15 j' (by omega) h2
                  exact ⟨n', ⟨by omega, n2', fun y => absurd y q⟩, n3'⟩
        · -- one isn't
          rcases tle with ⟨u1, u3⟩ | ⟨u1, u2⟩
          · left
            obtain ⟨b1, b2, b3⟩ := F9.1.bad (r := 21) (by decide) F9.g0
            rw [u3, ob_some, ob_some] at tk
            have b7 : tI (badT σ7 21) 0 ≠ 0 := badT_ne (by decide)
            have f9 : Ft [93] (badT σ7 21) (tsI (badT σ7 21) 93 (nI E)) := (Ft.rf _ _).p_tsI rfl
            refine ⟨D4, _, _, _, .inl (), by rw [q1, obS_inl, y4, obS_inr], by rw [tk]; exact stop _ b7, sFf (s8.ff (FfO.tr ((b3.mono (fun _ z => z) (by decide) (by decide)).tw f9 (by decide) (by decide) ⟨rfl, rfl⟩) (F8.1.wzT f7 (by decide)).2 (Dx.rf _ _) Fq.rf (O1.rf _ _) (f7.mono (by decide))) hI2)⟩
          · exfalso
            have hc : r - R < Wn.length := by omega
            have := (hitc (r - R) hc).mp ((hsq _).mp (u1 _ (mge _ hc)))
            rw [show R + (r - R) = r by omega] at this
            exact this y3
end INST3
