/-! Layer B: the flat model: the variables of an element, whole -/
set_option maxRecDepth 100000
section VARS4
variable {C C' : PC} {D D' D2 : FQ} {M M' M1 M2 : CM} {σ σ' σ0 σ2 : TS} {mss fss xs bs qs os : List Nat} {B l k n o m u w Q I I' L V V' Bm Bm' b v r R E E' cr i k0 fr e eo fl z env kk tf cb : Nat} {P P' X T : Nat → Prop} {S S' : List Nat} {a : Nat × Nat × Nat} {A W W1 W2 : List (Nat × Nat × Nat)} {ks : List (Nat × Nat)} {x : Int64} {x3 x4 x5 x6 x7 x8 : Int32} {cf : Int32 → Int32 → Int32 → TS → Option (Unit × TS)} {p q : Int32 × Int32}
/-- a member's class or first is written -/
theorem FiS.mbw {g : Nat} {u : Int32} (F : FiS C B P mss fss D M σ V I Bm cr R E) (hb : b < Bm) (hg : g = 3001 ∨ g = 3005) : FiS C B P mss fss D (msI M g ((pl D 100).getD b 0) u) σ V I Bm cr R E ∧ Wz C C P M (msI M g ((pl D 100).getD b 0) u) σ σ ∧ (∀ r, r < R → RwS D M D (msI M g ((pl D 100).getD b 0) u) r ∧ hit D (msI M g ((pl D 100).getD b 0) u) r = hit D M r) ∧ Fq D (fun t => t = tg 100 b) M (msI M g ((pl D 100).getD b 0) u) ∧ O1 [] M (msI M g ((pl D 100).getD b 0) u) := by
  have W := F.1
  have h167 := W.n167
  obtain ⟨r1, r2⟩ := F.r18
  obtain ⟨⟨l1, l2, l3, l4⟩, l98, l99, l100, l101⟩ := F.lens
  obtain ⟨a1, a2, a3⟩ := W.2.1.2.1 100 (by decide) b (by omega)
  have Fz1 : Fz (fun o => o = (pl D 100).getD b 0) M (msI M g ((pl D 100).getD b 0) u) := Fz.rf.msI (fun _ => rfl)
  have W2 : PoW D (msI M g ((pl D 100).getD b 0) u) := W.2.1.wr h167 (by decide) (show b < (pl D 100).length by omega) Fz1 (fun z => absurd z (by decide)) (fun z => absurd z (by decide)) (fun o h1 h2 => absurd h2 (by show ¬ o < mn M; omega))
  have fq : Fq D (fun t => t = tg 100 b) M (msI M g ((pl D 100).getD b 0) u) := Fz1.mono (fun o ho z => by rw [z]; exact W.2.1.tv (by decide) (by omega))
  have rm := rm_same (D := D) (M := M) (M' := msI M g ((pl D 100).getD b 0) u) ⟨rfl, rfl⟩ (fun o => ⟨rfl, rfl, rfl⟩)
  have o1 : O1 [] M (msI M g ((pl D 100).getD b 0) u) := O1.so (Fz1.so (by omega) (by omega))
  obtain ⟨W', v⟩ := W.mv (fq.mono (fun t z => by unfold TFf; rw [z]; unfold tg; omega)) o1 (by decide) W2 (Dx.rf D M) (by rw [rm.1, rm.2]; exact ⟨Nat.le_refl _, Nat.le_refl _⟩) (Ft.rf [] σ) (by decide)
  have N := F.2.1.kpx W.2.1 fq (fun t z => by
    rw [z]
    refine ⟨fun v hv => ?_, fun n hn => ?_⟩ <;> unfold tg <;> omega) (fun c hc => ⟨fun f h1 h2 => by rw [mI_msI, ifF (by omega)], fun f => rfl⟩) v (Dx.rf D M) Tk.rf
  obtain ⟨-, -, ⟨⟨b1, b2, b3⟩, ⟨b4, b5, b6⟩, b7, b8⟩, ⟨g', g1, g2, g3, g4⟩, -, e, os, c1, c2⟩ := F
  refine ⟨⟨W', N, ⟨⟨by rw [o1.1 15 rfl]; exact b1, b2, b3⟩, ⟨by rw [o1.1 16 rfl]; exact b4, b5, b6⟩, by rw [o1.1 17 rfl]; exact b7, b8⟩, ⟨g', by rw [o1.1 31 rfl]; exact g1, g2, g3, g4⟩, ⟨by rw [o1.1 18 rfl]; exact r1, r2⟩, e, os, by rw [← c2.1]; exact (W'.2.1.1 102 (by decide)).1, c2⟩, v, fun k hk => ⟨⟨rfl, rfl, ?_, rfl⟩, ?_⟩, fq, o1⟩
  · rw [mI_msI, ifF (by omega)]
  · show mI (msI M g ((pl D 100).getD b 0) u) 2803 ((pl D 101).getD k 0) = _
    rw [mI_msI, ifF (by omega)]; rfl
/-- all variables of an element, both sides -/
theorem z_vars (hB1 : B ≤ 1280) (F : FiS C B P mss fss D M σ V I Bm cr R E) (hR : R < 33300) (hA : A = adv σ x (W ++ wcE i ks)) (hr : fr + (A ++ msE k0 n i).length = R) (hRs : RsR C P D M σ I fr (A ++ msE k0 n i)) (hC : CvT σ E i tf cb W ks) (hb : i < I ∧ b < Bm ∧ mI M 3002 ((pl D 100).getD b 0) = nI z ∧ mR M 3003 ((pl D 100).getD b 0) = eo) (he : ElV P M σ eo e w fl z) (hd : AxR C P D M σ I (mR M 2007 eo) ((pl D 99).getD i 0) (tA σ 56 e) (nI i)) (hM : MxT σ e k0 n) (hw : w < 38 + cm C ∧ tB σ 50 e = wc M w ∧ tB σ 50 e = x) (h58 : e < ix (tI σ 58) ∧ e < 481) :
    (∃ D' M' σ', K_X0_variables ((pl D 99).getD i 0) ((pl D 100).getD b 0) (nI fr) M = some (.inl (), M') ∧ L_makeMember_240 cf FU (nI i) (nI e) x3 x4 1 (nI (many z)) x7 0 σ = some (.inl (), σ') ∧ FiS C B P mss fss D' M' σ' (V + many z) I Bm cr R E ∧ Wz C C P M M' σ σ' ∧ Dx D D' M ∧ (∀ r, r < R → RwS D M D' M' r ∧ hit D' M' r = hit D M r) ∧ Fq D (fun t => TvF V t ∨ t = tg 100 b) M M' ∧ O1 [15] M M' ∧ Ft vaS σ σ' ∧ (∀ j, j < E → tA σ' 90 j = tA σ 90 j ∧ tA σ' 91 j = tA σ 91 j ∧ tA σ' 92 j = tA σ 92 j) ∧ ((∀ f, f ∈ [94, 95, 96, 97, 98, 99, 100, 101, 102, 103] → ∀ j, j < V → tA σ' f j = tA σ f j) ∧ ∀ v, V ≤ v → v < V + many z → tA σ' 96 v = nI i) ∧ mI M' 3005 ((pl D 100).getD b 0) = nI V ∧ mI M' 3001 ((pl D 100).getD b 0) = mI M 3001 ((pl D 100).getD b 0)) ∨
    (∃ D' M' σ' w, K_X0_variables ((pl D 99).getD i 0) ((pl D 100).getD b 0) (nI fr) M = some (.inr w, M') ∧ L_makeMember_240 cf FU (nI i) (nI e) x3 x4 1 (nI (many z)) x7 0 σ = some (.inl (), σ') ∧ FfO C B P mss fss TFf fiS [15, 16, 17, 18, 31] D D' M M' σ σ' w) := by
  have fu := FUb
  have hz9 := he.2.2.2.1.2.2
  have hm9 : many z ≤ 9 ∧ 1 ≤ many z := by unfold many; by_cases y : z = 0 <;> simp [y] <;> omega
  obtain ⟨⟨l1, l2, l3, l4⟩, l98, l99, l100, l101⟩ := F.lens
  have hm := F.1.rm
  have km : mk M ((pl D 100).getD b 0) = 16 := (F.1.2.1.2.1 100 (by decide) b (by omega)).1
  obtain ⟨hWN, h1280, hQ⟩ := F.wn hB1
  have hMt : tM σ ≤ 2400 := by
    obtain ⟨-, -, -, -, -, -, -, ⟨K, y1, y2, y3⟩, -⟩ := F.1.1
    unfold tM; rw [y1, ix_nI (by omega)]; omega
  have own62 : ∀ a, a ∈ A → tA σ 62 a.1 = 0 := by
    rw [hA]
    have : ∀ L : List (Nat × Nat × Nat), ∀ a, a ∈ adv σ x L → tA σ 62 a.1 = 0 := fun L => by
      induction L with
      | nil => intro a ha; exact absurd ha List.not_mem_nil
      | cons c L ih =>
        intro a ha
        have ha : a ∈ (if ldB σ x c = true ∧ tA σ 62 c.1 = 0 then (c.1, c.2.1 + 1, c.2.2) :: adv σ x L else adv σ x L) := ha
        by_cases q : ldB σ x c = true ∧ tA σ 62 c.1 = 0
        · rw [ifT q] at ha
          rcases List.mem_cons.mp ha with g | g
          · rw [g]; exact q.2
          · exact ih a g
        · rw [ifF q] at ha; exact ih a ha
    exact this _
  have enc : ∀ a, a ∈ A → EnB σ a ∧ tA σ 62 a.1 = 0 ∧ EnC σ a := fun a ha => by
    obtain ⟨j, hj, ej⟩ := List.getElem_of_mem ha
    have hlt : j < (A ++ msE k0 n i).length := by rw [List.length_append]; omega
    have := hRs j hlt
    rw [ge_l hj] at this
    have e1 : ge A j = a := by unfold ge; rw [List.getD_eq_getElem?_getD, List.getElem?_eq_getElem hj]; exact ej
    rw [e1] at this
    obtain ⟨m, -, hE⟩ := this
    obtain ⟨q1, q2, q3, q4⟩ := hE.enb l2 hMt hQ hWN h1280
    exact ⟨q1, own62 a ha, q3 (own62 a ha)⟩
  -- the component reads its rows
  have ax00 : AxR C P D M σ I 0 0 (0, 0).1 (0, 0).2 := Or.inl ⟨rfl, rfl⟩
  have sc := k_scan (x1 := (pl D 99).getD i 0) (x2 := (pl D 100).getD b 0) (x4 := eo) hB1 F hR (A ++ msE k0 n i) fr FU 0 0 0 0 (0, 0) (0, 0) hr (by omega) hRs ax00 ax00
  have hf0 : Ft fiS σ σ := Ft.rf _ _
  rcases sc with ⟨⟨a, ha, hv⟩, sc⟩ | ⟨nb, y5, y6, y7, y8, sc, ax1, ax2⟩
  · -- not meant for a variable
    right
    obtain ⟨σ2, g2, g3⟩ := t_vstep (cf := cf) (x3 := x3) (x4 := x4) (x7 := x7) (f := FU - 2) (k0 := k0) (n := n) (V := V) (kk := 0) (m := many z) hC hw.2.2 F.g0 F.2.2.2.2.2.1.1 hA enc hM h58.2 F.2.2.1.1.2.1 l1 he.2.2.2.2.1.2.2 ⟨he.2.2.2.1.2.1, hz9⟩ (by omega) hm9.1
    rw [show FU - 2 + 2 = FU by omega] at g3
    obtain ⟨p1, p2, p3, p4⟩ := g2
    have F2 := F.tw p1 (by decide) p2
    obtain ⟨-, v2⟩ := F.1.wzT p1 (by decide)
    rcases g3 with ⟨-, q3⟩ | ⟨q1, -⟩ | ⟨q1, -⟩
    · obtain ⟨b1, b2, b3⟩ := F2.1.bad (r := 21) (by decide) F2.g0
      refine ⟨D, _, _, _, ?_, q3, (b3.mono (fun _ z => z) (by decide) (by decide)).tr v2 (Dx.rf D M) Fq.rf (O1.rf _ _) (p1.mono (by decide))⟩
      unfold K_X0_variables
      rw [ifT km, hb.2.2.2, nm_eq, sc, obS_inr]
    · exact absurd hv (q1 a ha)
    · exact absurd hv (q1 a ha)
  · have hpk : ∀ y : Int32 × Int32, pick ((0, 0) : Int32 × Int32) y = y := fun y => ifT rfl
    rw [hpk] at ax1 ax2
    have own0 : ∀ a, a ∈ msE k0 n i → ¬ pth σ a.1 a.2.1 = 0 := fun a ha => by
      have hv := nb a (List.mem_append_right _ ha)
      unfold msE at ha
      obtain ⟨t, ht, rfl⟩ := List.mem_map.mp ha
      have ht := List.mem_range.mp ht
      have h62 : tA σ 62 (k0 + t) = 0 := by
        by_cases q : tA σ 62 (k0 + t) = 0
        · exact q
        · exact absurd (Or.inl q) hv
      exact pth_own hM.1 ht h62
    rw [vE_app own0] at ax1
    rw [sE_app A (fun a ha => (enc a ha).2.2.2)] at ax2
    obtain ⟨F1, v1, st1, q1, o1⟩ := F.mbw (g := 3005) (u := nI V) hb.2.1 (Or.inr rfl)
    obtain ⟨M1, hM1⟩ : ∃ N, N = msI M 3005 ((pl D 100).getD b 0) (nI V) := ⟨_, rfl⟩
    rw [← hM1] at F1 v1 st1 q1 o1
    have e15 : mI M 15 1 = nI V := F.2.2.1.1.1
    have ax0 : AxR C P D M σ I y5 y6 (vE σ A).1 (vE σ A).2 → (y5 = 0 ↔ (vE σ A).1 = 0) := fun h => by
      rcases h with ⟨h1, h2⟩ | ⟨h1, n, d, h2, h3, h4, _⟩
      · exact ⟨fun _ => h2, fun _ => h1⟩
      · refine ⟨fun z => absurd z h1, fun z => ?_⟩
        rw [h2] at z
        have := (bI_eq (b := 0) (by omega) (by decide)).mp z
        omega
    -- the rest, with its value
    have main : ∀ y5 y6, AxR C P D M σ I y5 y6 (pick (vE σ A) (tA σ 56 e, nI i)).1 (pick (vE σ A) (tA σ 56 e, nI i)).2 → _ := fun y5 y6 ax => z_varsL (cf := cf) (x3 := x3) (x4 := x4) (x7 := x7) (k0 := k0) (n := n) (y5 := y5) (y6 := y6) (y7 := y7) (y8 := y8) (x := x) (W := W) (ks := ks) (i := i) (A := A) (b := b) (fl := fl) (e := e) (eo := eo) (w := w) (tf := tf) (cb := cb) (σ0 := σ) (p := pick (vE σ A) (tA σ 56 e, nI i)) (q := pick (sE σ A) (sE σ (msE k0 n i))) hA (many z) 0 FU (FU - 1) D M1 σ V (Nat.zero_add _) (by omega) (by omega) F1 hf0 hC ⟨hb.1, hb.2.1, by rw [hM1, mI_msI, ifF (by omega)]; exact hb.2.2.1⟩ (he.wz v1 (Ft.rf [] σ) (by decide)) hM ⟨hw.1, by rw [v1.2.2.1.2 w hw.1]; exact hw.2.1, hw.2.2⟩ h58 enc nb rfl rfl (ax.mv v1 (fun _ z => z) (Dx.rf D M) l99 (Nat.le_refl _)) (ax2.mv v1 (fun _ z => z) (Dx.rf D M) l99 (Nat.le_refl _))
    have key : ∃ z5 z6, AxR C P D M σ I z5 z6 (pick (vE σ A) (tA σ 56 e, nI i)).1 (pick (vE σ A) (tA σ 56 e, nI i)).2 ∧ K_X0_variables ((pl D 99).getD i 0) ((pl D 100).getD b 0) (nI fr) M = KJ_X0_variables_160 ((pl D 99).getD i 0) ((pl D 100).getD b 0) eo z5 z6 y7 y8 M := by
      unfold K_X0_variables
      rw [ifT km, hb.2.2.2, nm_eq, sc, obS_inl]
      show ∃ z5 z6, _ ∧ (if y5 = 0 then _ else _) = _
      unfold pick
      by_cases y : y5 = 0
      · refine ⟨mR M 2007 eo, (pl D 99).getD i 0, ?_, ?_⟩
        · rw [ifT ((ax0 ax1).mp y)]; exact hd
        · rw [ifT y, ifT he.2.1, nm_eq]
      · refine ⟨y5, y6, ?_, ?_⟩
        · rw [ifF (fun z => y ((ax0 ax1).mpr z))]; exact ax1
        · rw [ifF y]
    obtain ⟨z5, z6, ax, hk⟩ := key
    have mn := main z5 z6 ax
    have j160 : KJ_X0_variables_160 ((pl D 99).getD i 0) ((pl D 100).getD b 0) eo z5 z6 y7 y8 M = obS (KL_X0_variables_171 FU ((pl D 99).getD i 0) ((pl D 100).getD b 0) eo z5 z6 y7 y8 (nI 0) M1) (fun r125 M122 => some (r125, M122)) fun q121 M122 => some (.inl (), M122) := by
      unfold KJ_X0_variables_160
      rw [ifT km, e15, nm_eq, ← hM1]
      rfl
    rw [show FU - 1 + 1 = FU by omega] at mn
    have sb : ∀ {M' : CM}, Fq D (TvF V) M1 M' → So M1 M' ((pl D 100).getD b 0) := fun c => F1.1.2.1.so3 (by decide) (by omega) c (fun z => by unfold TvF tg at z; omega)
    rcases mn with ⟨D3, M3, σ3, n1, n2, n3, n4, n5, n6, n7, n8, n9, n10, n11, n12⟩ | ⟨D3, M3, σ3, w3, n1, n2, n3⟩
    · have s := sb n7
      refine Or.inl ⟨D3, M3, σ3, by rw [hk, j160, n1, obS_inl], n2, n3, v1.tr n4 (fun _ z => z), (Dx.rf D M).tr n5 v1.1.1, fun r hr => ⟨(st1 r hr).1.tr (n6 r hr).1, (n6 r hr).2.trans (st1 r hr).2⟩, (q1.mono (fun t z => Or.inr z)).tr (n7.mono (fun t z => Or.inl z)) (Dx.rf D M), (o1.mono (by decide)).tr n8, n9, n10, ⟨n11, n12⟩, ?_, ?_⟩
      · rw [s.i, hM1, mI_msI, ifT ⟨rfl, rfl⟩]
      · rw [s.i, hM1, mI_msI, ifF (by omega)]
    · refine Or.inr ⟨D3, M3, σ3, w3, by rw [hk, j160, n1, obS_inr], n2, n3.tr v1 (Dx.rf D M) (q1.mono (fun t z => ?_)) (o1.mono (by decide)) (Ft.rf _ _)⟩
      rw [z]; unfold TFf tg; omega
end VARS4
