/-! Layer B: the flat model: an element of a number, both sides -/
set_option maxRecDepth 100000
section REAL
variable {C C' : PC} {D D' D2 : FQ} {M M' M1 M2 : CM} {σ σ' σ0 σ2 : TS} {mss fss xs bs qs os : List Nat} {B l k n o m u w Q I I' L V V' Bm Bm' b v r R R' E E' cr i i' k0 fr e eo fl z env kk tf cb d : Nat} {P P' X T : Nat → Prop} {S S' : List Nat} {a : Nat × Nat × Nat} {A W W1 W2 : List (Nat × Nat × Nat)} {ks : List (Nat × Nat)} {x : Int64}
/-- what an element with a name is -/
theorem ElR.own (h : ElR C P M σ eo e) (h57 : tA σ 57 e = 0) : ∃ w z fl, ElV P M σ eo e w fl z ∧ (w < 38 + cm C ∧ tB σ 50 e = wc M w) ∧ MsR C P M σ (mR M 2006 eo) e ∧ ((mI M 2002 eo = 12 ∧ tB σ 51 e = 0) ∨ ∃ w, mI M 2002 eo = nI w ∧ 38 ≤ w ∧ w < 38 + cm C ∧ tB σ 51 e = wc M w) ∧ ((mR M 2007 eo = 0 ∧ tA σ 56 e = 0) ∨ ∃ x d, tA σ 56 e = nI x ∧ 1 ≤ x ∧ x < 9000 ∧ AR P (tN σ) (tQ σ) (cm C) (car C) (cnf C) (cfn C) M σ d 0 (mR M 2007 eo) x) := by
  obtain ⟨⟨pe, ke, pu⟩, hMs, hE⟩ := h
  rcases hE with ⟨-, z, -⟩ | ⟨y0, y1, ⟨w, y2, y3, y4, y5⟩, ⟨z, y6, y7, y8⟩, ⟨fl, y9, y10, y11⟩, y12, y13, y14, y15⟩
  · rw [h57] at z; exact absurd z (by decide)
  · exact ⟨w, z, fl, ⟨pe, ke, ⟨y2, y3⟩, ⟨y6, y7, y8⟩, ⟨y9, y10, y11⟩, pu, y13⟩, ⟨y4, y5⟩, hMs, y12, y14⟩
theorem z_real {x3 x5 : Int32} {cf : Nat → Nat → Int32 → Int32 → Int32 → CM → Option ((Unit ⊕ Nat) × CM)} {cf' : Int32 → Int32 → Int32 → TS → Option (Unit × TS)} (hB1 : B ≤ 1280) (F : FiS C B P mss fss D M σ V I Bm cr R E) (hC : Cx C P D M σ I R E d i tf cb fr W ks) (he : ElR C P M σ eo e) (h58 : e < ix (tI σ 58)) (h57 : tA σ 57 e = 0) (h51 : tB σ 51 e = 0) (h52 : tA σ 52 e &&& 16 = 0) (hb : b < Bm) (h3 : mR M 3003 ((pl D 100).getD b 0) = eo ∧ mI M 3001 ((pl D 100).getD b 0) = mI M 2002 eo ∧ mI M 3002 ((pl D 100).getD b 0) = tA σ 53 e ∧ tA σ 84 b = nI e) :
    (∃ D' M' σ' w, elB cf ((pl D 99).getD i 0) eo ((pl D 100).getD b 0) (nI fr) (nI (fr + (W ++ wcE i ks).length)) x5 M = some (.inr w, M') ∧ J_makeMember_116 cf' (nI i) (nI e) x3 (nI b) 1 σ = some ((), σ') ∧ FfO C B P mss fss TFf fiS [15, 16, 17, 18, 31] D D' M M' σ σ' w) ∨
    (∃ D' M' σ' V', elB cf ((pl D 99).getD i 0) eo ((pl D 100).getD b 0) (nI fr) (nI (fr + (W ++ wcE i ks).length)) x5 M = some (.inl (), M') ∧ J_makeMember_116 cf' (nI i) (nI e) x3 (nI b) 1 σ = some ((), σ') ∧ FiS C B P mss fss D' M' σ' V' I Bm cr R E ∧ V ≤ V' ∧ SqM C P V I b R E i D D' M M' σ σ' ∧ (∀ r, r < R → ¬ (fr ≤ r ∧ r < fr + (W ++ wcE i ks).length) → hit D' M' r = hit D M r) ∧ (∀ c, c < (W ++ wcE i ks).length → hit D' M' (fr + c) = if ldB σ (tB σ 50 e) (ge (W ++ wcE i ks) c) = true then 1 else hit D M (fr + c)) ∧ MbC D' mss M' σ' V' I b ∧ tA σ' 83 b = tA σ 83 b ∧ tA σ' 84 b = tA σ 84 b ∧ (tA σ 83 b = nI i → VoB σ' b V V')) := by
  obtain ⟨w, z, fl, hv, ⟨hw, hx⟩, hMs, hty, h56⟩ := he.own h57
  obtain ⟨⟨l1, l2, l3, l4⟩, l98, l99, l100, l101⟩ := F.lens
  obtain ⟨hWN, h1280, hQ⟩ := F.wn hB1
  obtain ⟨L, WN0⟩ := hWN
  have hm := F.1.rm
  have hz9 := hv.2.2.2.1.2.2
  have t12 : mI M 2002 eo = 12 := by
    rcases hty with ⟨q, _⟩ | ⟨w2, q1, q2, q3, q4⟩
    · exact q
    · rw [h51] at q4; exact absurd q4.symm (wc_ne0 WN0 q2 q3)
  have hC0 := hC
  obtain ⟨c1, c2, c3, c4, ⟨⟨c5, c6⟩, c7, c8, c9, c10⟩, c11⟩ := hC
  have ts := trR_succ d (by omega)
  have tl := trR_le (d + 1) (by omega)
  have he480 : e < 480 := by
    obtain ⟨E0, e1, e2⟩ := F.1.1.2.2.2.2.2.2.1
    have h24 := F.1.1.2.2.2.2.1.1.1
    rw [e1, ix_nI (by omega)] at h58
    omega
  obtain ⟨D2, M2, y, k0, n, g1, F2, v2, x2, st2, h1, h2, r2, f2, ⟨hn, hMx, hkn⟩, hy⟩ := k_rows hB1 F hC0 ⟨hv.1, hv.2.1, hv.2.2.1.1⟩ hMs ⟨hv.2.2.1.2, hw⟩
  obtain ⟨A, hA⟩ : ∃ A, A = adv σ (wc M w) (W ++ wcE i ks) := ⟨_, rfl⟩
  rw [← hA] at F2 r2
  have al : A.length ≤ (W ++ wcE i ks).length := by rw [hA]; exact adv_len
  have lR : R + (A ++ msE k0 n i).length ≤ trR (d + 1) := by rw [List.length_append, msE_len]; omega
  have w1 : ∀ a, a ∈ W → 1 ≤ a.1 := fun a ha => by
    obtain ⟨j, hj, ej⟩ := List.getElem_of_mem ha
    have := c3 j (by rw [List.length_append]; omega)
    rw [ge_l hj] at this
    have e1 : ge W j = a := by unfold ge; rw [List.getD_eq_getElem?_getD, List.getElem?_eq_getElem hj]; exact ej
    rw [e1] at this
    obtain ⟨m, -, -, hk, -⟩ := this
    exact hk.1
  have isM := t_isMeant1 (x := tB σ 50 e) c2 w1
  have ie : inb (nI e) 481 := inb_nI' (by omega) (by decide)
  have xe : ix (nI e) = e := ix_nI (by omega)
  have ib : inb (nI b) 96001 := inb_nI' (by omega) (by decide)
  have xb : ix (nI b) = b := ix_nI (by omega)
  have e53 := hv.2.2.2.1.2.1
  have hj : J_makeMember_116 cf' (nI i) (nI e) x3 (nI b) 1 σ = J_makeMember_168 cf' (nI i) (nI e) x3 (nI b) 1 (nI (many z)) (-1) σ := by
    have j150 : ∀ y : Int32, J_makeMember_150 cf' (nI i) (nI e) x3 (nI b) 1 y σ = J_makeMember_168 cf' (nI i) (nI e) x3 (nI b) 1 y (-1) σ := fun y => by
      unfold J_makeMember_150
      rw [ifF (show ¬ (1 : Int32) = 0 by decide)]
    unfold J_makeMember_116
    rw [ifT ie, xe, ifT h52, ifT ie, e53, ifT ie]
    unfold many
    by_cases q : z = 0
    · rw [ifT (show nI z = 0 from by rw [q]; rfl), ifT q, j150]; rfl
    · rw [ifF (show ¬ nI z = 0 from fun y => q ((bI_eq (b := 0) (by omega) (by decide)).mp y)), ifF q, j150]
  have tr2 : ∀ t, Tr 0 t → TFf t := fun t y => by unfold Tr tg at y; unfold TFf; omega
  have s2 := v2.2.1.1 eo hv.1
  have k2 : mk M2 eo = 11 := by rw [s2.k]; exact hv.2.1
  have isr : K_X11_isReal eo M2 = some (1, M2) := by
    unfold K_X11_isReal
    rw [ifT k2, ifT (by rw [s2.i]; exact t12)]
  have hj168 : ∀ r : Int32, F_isMeant (nI i) (tB σ 50 e) 1 σ = some (r, σ) → J_makeMember_168 cf' (nI i) (nI e) x3 (nI b) 1 (nI (many z)) (-1) σ = if r = 0 then J_makeMember_197 cf' (nI i) (nI e) x3 (nI b) 1 (nI (many z)) (-1) σ else ob (F_bad 22 0 σ) fun _ s => J_makeMember_197 cf' (nI i) (nI e) x3 (nI b) 1 (nI (many z)) (-1) s := fun r h => by
    unfold J_makeMember_168
    rw [ifF (show ¬ (1 : Int32) = 0 by decide), ifT ie, xe, h, ob_some]
  rw [hj, hj168 _ isM, g1]
  rw [hx]
  rcases hy with ⟨y1, y2⟩ | ⟨w', y1, y2, y3, y4, y5, y6⟩
  · -- a number
    rw [y2, ifT rfl, ifT rfl]
    have hel : elC cf ((pl D 99).getD i 0) eo ((pl D 100).getD b 0) (nI R) y x5 M2 = obS (K_X0_variables ((pl D 99).getD i 0) ((pl D 100).getD b 0) (nI R) M2) (fun w M4 => some (.inr w, M4)) fun _ M4 => nm (msI M4 18 1 (nI R)) fun M5 => some (.inl (), M5) := by
      unfold elC
      rw [ifT k2, isr, ob_some, ifF (show ¬ (1 : Int32) = 0 by decide), y1, ifT (by decide)]
    rw [hel]
    have h0 := F.g0
    obtain ⟨σa, hσa⟩ : ∃ s, s = tsA (tsA σ 86 b (-1)) 85 b (nI V) := ⟨_, rfl⟩
    have fa : Ft [85, 86] σ σa := by rw [hσa]; exact ((Ft.rf _ σ).p_tsA rfl).p_tsA rfl
    have ja : J_makeMember_197 cf' (nI i) (nI e) x3 (nI b) 1 (nI (many z)) (-1) σ = obS (L_makeMember_240 cf' FU (nI i) (nI e) x3 (nI b) 1 (nI (many z)) (-1) 0 σa) (fun r161 s158 => some (r161, s158)) fun q157 s158 => some ((), s158) := by
      unfold J_makeMember_197
      rw [t_isBad0 h0, ob_some, ifT rfl, ifT ib, nm_eq, ifF (show ¬ (1 : Int32) = 0 by decide), xb]
      unfold J_makeMember_236
      rw [ifT ib, xb, nm_eq, hσa, show tI (tsA σ 86 b (-1)) 107 = nI V from F.2.2.1.1.2.1]
    have F3 := F2.tw fa (by decide) (by rw [(fa 93 rfl).1]; exact F2.2.2.2.2.2.1.1)
    obtain ⟨-, va⟩ := F2.1.wzT fa (by decide)
    have hfa : ([85, 86] : List Nat).all fiS.contains = true := by decide
    have e99 : (pl D2 99).getD i 0 = (pl D 99).getD i 0 := (x2.1 99 i (by omega)).2
    have e100 : (pl D2 100).getD b 0 = (pl D 100).getD b 0 := (x2.1 100 b (by omega)).2
    have sb : So M M2 ((pl D 100).getD b 0) := F.1.2.1.so3 (by decide) (by omega) f2.1 (fun z => by unfold Tr tg at z; omega)
    have v2a := v2.tr va (fun _ z => z)
    have wcs : wc M2 w = wc M w := v2.2.2.1.2 w hw
    have ax : AxR C P D M σ I (mR M 2007 eo) ((pl D 99).getD i 0) (tA σ 56 e) (nI i) := by
      rcases h56 with ⟨q1, q2⟩ | ⟨x, d, q1, q2, q3, q4⟩
      · exact Or.inl ⟨q1, q2⟩
      · refine Or.inr ⟨?_, x, d, q1, q2, q3, q4, i, c1, rfl, rfl⟩
        have := F.1.p167 q4.pos.1
        omega
    have hvm := z_vars (cf := cf') (x3 := x3) (x4 := nI b) (x7 := -1) (x := wc M w) (W := W) (ks := ks) (k0 := k0) (n := n) (tf := tf) (cb := cb) (fr := R) (e := e) (eo := eo) (w := w) (fl := fl) (z := z) (i := i) (b := b) (A := A) hB1 F3 (by omega) (by rw [adv_ft fa hfa]; exact hA) rfl (r2.mv va (Dx.rf D2 M2) (fun j hj => RwS.rf) ⟨F2.2.1.1.2.1, Nat.le_refl _⟩ (fa.fi hfa)) (c2.ft fa hfa (by decide) ⟨(fa 78 rfl).2.2.1 i, (fa 79 rfl).2.2.1 i⟩ (fun j _ => ⟨(fa 90 rfl).2.2.1 j, (fa 91 rfl).2.2.1 j, (fa 92 rfl).2.2.1 j⟩)) ⟨c1, hb, by rw [e100, sb.i, h3.2.2.1]; exact e53, by rw [e100, sb.r]; exact h3.1⟩ (hv.wz v2a fa hfa) (by
      have := ax.mv v2a (fun _ z => z) x2 l99 (Nat.le_refl _)
      rw [s2.r, e99, (fa 56 rfl).2.2.1]; exact this) (hMx.ft fa hfa) ⟨hw, by rw [(fa 50 rfl).2.2.2, wcs]; exact hx, by rw [(fa 50 rfl).2.2.2]; exact hx⟩ ⟨by rw [(fa 58 rfl).1]; exact h58, by omega⟩
    rw [e99, e100] at hvm
    rcases hvm with ⟨D3, M3, σ3, n1, n2, F4, v3, x3', n6, n7, n8, n9, n10, n11, n12, n13⟩ | ⟨D3, M3, σ3, w3, n1, n2, n3⟩
    · right
      obtain ⟨F5, v5, st5, f5⟩ := F4.cut (R := R) (by omega)
      have x23 := x2.tr x3' v2.1.1
      have v23 := v2a.tr v3 (fun _ z => z)
      have fall : Ft fiS σ σ3 := (fa.mono (by decide)).tr (n9.mono (by decide))
      have m5 : ∀ o, o ≠ 1 → ∀ g, mI (msI M3 18 1 (nI R)) g o = mI M3 g o := fun o ho g => by rw [mI_msI, ifF (fun z => ho z.2)]
      have e3b : (pl D3 100).getD b 0 = (pl D 100).getD b 0 := (x23.1 100 b (by omega)).2
      have b1 : (pl D 100).getD b 0 ≠ 1 := by have := (F.1.2.1.2.1 100 (by decide) b (by omega)).2.1.1; omega
      refine ⟨D3, _, σ3, V + many z, by rw [n1, obS_inl, nm_eq], by rw [ja, n2, obS_inl], F5, by omega, ⟨v23.tr v5 (fun _ z => z), x23, fun r hr => ((st2 r hr).tr (n6 r (by omega)).1).tr (st5 r).1, ?_, ?_, fall, ?_⟩, fun r hr hn => ?_, fun c hc => ?_, ?_, (n9 83 rfl).2.2.1 b |>.trans ((fa 83 rfl).2.2.1 b), (n9 84 rfl).2.2.1 b |>.trans ((fa 84 rfl).2.2.1 b), fun h83 => ⟨e, z, ⟨?_, by rw [(fall 58 rfl).1]; exact h58, by rw [(fall 51 rfl).2.2.2]; exact h51, by rw [(fall 52 rfl).2.2.1]; exact h52⟩, by rw [(fall 53 rfl).2.2.1]; exact e53, hz9, ?_, rfl, fun v v1 v2 => ?_⟩⟩
      · refine ((f2.1.mono (fun t y => ?_)).tr (n7.mono (fun t y => ?_)) x2).tr (f5.1.mono (fun t y => ?_)) x23
        · unfold Tr tg at y; unfold TsF tg; omega
        · unfold TvF tg at y; unfold TsF tg; omega
        · unfold TsF; omega
      · exact (((f2.2.mono (by decide)).tr (n8.mono (by decide))).tr (f5.2.mono (by decide)) : O1 [15, 16, 17, 18, 31] _ _)
      · refine ⟨fun f hf k hk => ?_, fun k _ _ => ?_, fun f hf k hk => ?_, fun f hf k hk => ?_, fun f hf j hj => ?_, ⟨?_, ?_⟩, fun c _ => ?_⟩
        · simp only [List.mem_cons, List.not_mem_nil, or_false] at hf
          rcases hf with rfl | rfl | rfl | rfl | rfl | rfl <;> exact ((n9 _ rfl).2.2.1 k).trans ((fa _ rfl).2.2.1 k)
        · exact ((n9 88 rfl).2.2.1 k).trans ((fa 88 rfl).2.2.1 k)
        · have e1 : tA σ3 f k = tA σa f k := by
            simp only [List.mem_cons, List.not_mem_nil, or_false] at hf
            rcases hf with rfl | rfl | rfl | rfl | rfl <;> exact (n9 _ rfl).2.2.1 k
          rw [e1, hσa, tA_tsA, ifF (by omega), tA_tsA, ifF (by omega)]
        · rw [n11.1 f hf k hk]
          simp only [List.mem_cons, List.not_mem_nil, or_false] at hf
          rcases hf with rfl | rfl | rfl | rfl | rfl | rfl | rfl | rfl | rfl | rfl <;> exact (fa _ rfl).2.2.1 k
        · obtain ⟨q1, q2, q3⟩ := n10 j hj
          simp only [List.mem_cons, List.not_mem_nil, or_false] at hf
          rcases hf with rfl | rfl | rfl
          · exact q1.trans ((fa 90 rfl).2.2.1 j)
          · exact q2.trans ((fa 91 rfl).2.2.1 j)
          · exact q3.trans ((fa 92 rfl).2.2.1 j)
        · exact (n9 113 rfl).1.trans (fa 113 rfl).1
        · exact (n9 114 rfl).1.trans (fa 114 rfl).1
        · exact ((n9 112 rfl).2.2.1 c).trans ((fa 112 rfl).2.2.1 c)
      · rw [(st5 r).2, (n6 r (by omega)).2]; exact h1 r hr hn
      · rw [(st5 _).2, (n6 _ (by omega)).2]; exact h2 c hc
      · refine ⟨e, ⟨?_, by rw [(fall 58 rfl).1]; exact h58⟩, Or.inr ⟨by rw [(fall 52 rfl).2.2.1]; exact h52, V, z, ⟨?_, ?_⟩, ⟨by rw [(fall 53 rfl).2.2.1]; exact e53, hz9⟩, Or.inl ⟨by rw [(fall 51 rfl).2.2.2]; exact h51, ?_, ?_, Nat.le_refl _⟩⟩⟩
        · rw [(n9 84 rfl).2.2.1, (fa 84 rfl).2.2.1]; exact h3.2.2.2
        · rw [e3b, m5 _ b1]; exact n12
        · rw [(n9 85 rfl).2.2.1, hσa, tA_tsA, ifT ⟨rfl, rfl⟩]
        · rw [e3b, m5 _ b1, n13, sb.i, h3.2.1]; exact t12
        · rw [(n9 86 rfl).2.2.1, hσa, tA_tsA, ifF (by omega), tA_tsA, ifT ⟨rfl, rfl⟩]
      · rw [(n9 84 rfl).2.2.1, (fa 84 rfl).2.2.1]; exact h3.2.2.2
      · rw [(n9 85 rfl).2.2.1, hσa, tA_tsA, ifT ⟨rfl, rfl⟩]
      · rw [n11.2 v v1 v2, (n9 83 rfl).2.2.1, (fa 83 rfl).2.2.1, h83]
    · left
      refine ⟨D3, M3, σ3, w3, by rw [n1, obS_inr], by rw [ja, n2, obS_inl], n3.tr v2a x2 (f2.1.mono tr2) (f2.2.mono (by decide)) (fa.mono (by decide))⟩
  · -- it is redeclared
    left
    rw [ifF (show ¬ rdk σ (wc M w) (W ++ wcE i ks) = 0 by omega), ifF (show ¬ (1 : Int32) = 0 by decide)]
    obtain ⟨b1, b2, b3⟩ := F2.1.bad (r := 22) (by decide) F2.g0
    refine ⟨D2, _, _, _, ?_, ?_, (b3.mono (fun _ z => z) (by decide) (by decide)).tr v2 x2 (f2.1.mono tr2) (f2.2.mono (by decide)) (Ft.rf _ _)⟩
    · unfold elC
      rw [ifT k2, isr, ob_some, ifF (show ¬ (1 : Int32) = 0 by decide), y1, ifF (show ¬ nI w' < 0 from by rw [nI_ltL (by omega) (by decide)]; exact Nat.not_lt_zero _), b1, ob_some, ifT (wM_k M2 22 0)]
    · rw [b2, ob_some]
      unfold J_makeMember_197
      rw [t_isBad1 (badT_ne (by decide)), ob_some, ifF (show ¬ (1 : Int32) = 0 by decide)]
end REAL
