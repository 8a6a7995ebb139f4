/-! Layer B: the flat model: extends, both sides -/
set_option maxRecDepth 100000
section EXT2
variable {C C' : PC} {D D' D2 : FQ} {M M' M1 M2 : CM} {σ σ' σ0 σ1 σ2 σ4 : TS} {mss fss xs bs qs os : List Nat} {B l k n o m u w Q I I' L V V' Bm Bm' b c v r R R' R2 E E' cr i i' k0 k2 fr e eo fl z env kk tf cb d len to dk : Nat} {P P' X T : Nat → Prop} {S S' O : List Nat} {a : Nat × Nat × Nat} {A W Wn W1 W2 : List (Nat × Nat × Nat)} {ks : List (Nat × Nat)} {x : Int64} {cf : Nat → Nat → Int32 → Int32 → Int32 → CM → Option ((Unit ⊕ Nat) × CM)} {cf' : Int32 → Int32 → Int32 → TS → Option (Unit × TS)}
theorem exA_eq (h : tI σ 114 = nI c) (hc : c < 200) : exA σ e = tsI (tsA σ 112 c (tA σ 55 e)) 114 (nI (c + 1)) := by
  unfold exA
  rw [h, ix_nI (by omega), nI_addL]
theorem z_ext (hB1 : B ≤ 1280) (hel : d < 12 → ElP C B P mss fss cf cf' (d + 1)) (h13 : d = 12 → ∀ x1 x2 s, tI s 0 = 0 → ∃ s', cf' x1 x2 (nI 13) s = some ((), s') ∧ Ft [132] (badT s 23) s') (F : FiS C B P mss fss D M σ V I Bm cr R E) (hC : Cx C P D M σ I R E d i tf cb fr W ks) (he : ElR C P M σ eo e) (hk2 : k2 < mss.length) :
    (∃ D' M' σ' w s4, KB_X0_extended cf ((pl D 99).getD i 0) (mss.getD k2 0) eo (nI fr) (nI (fr + (W ++ wcE i ks).length)) (nI d) M = some (.inr w, M') ∧ cf' (nI i) (nI k2) (nI (d + 1)) (exA σ e) = some ((), s4) ∧ (∀ cm x1 x2 x3 x4, L_fill_196 cf' cm FU x1 x2 x3 x4 (nI k2) (tA (exB s4) 55 e) (exB s4) = some ((), σ')) ∧ FfO C B P mss fss TFf fiS [15, 16, 17, 18, 31] D D' M M' σ σ' w) ∨
    (∃ D' M' σ' V' I' Bm' s4, KB_X0_extended cf ((pl D 99).getD i 0) (mss.getD k2 0) eo (nI fr) (nI (fr + (W ++ wcE i ks).length)) (nI d) M = some (.inl (), M') ∧ cf' (nI i) (nI k2) (nI (d + 1)) (exA σ e) = some ((), s4) ∧ (∀ cm x1 x2 x3 x4, L_fill_196 cf' cm FU x1 x2 x3 x4 (nI k2) (tA (exB s4) 55 e) (exB s4) = some ((), σ')) ∧ FiS C B P mss fss D' M' σ' V' I' Bm' cr R E ∧ (V ≤ V' ∧ I ≤ I' ∧ Bm ≤ Bm') ∧ SqM C P V I Bm R E i D D' M M' σ σ' ∧ HitP D D' M M' σ' Bm Bm' i fr R (W ++ wcE i ks) ∧ (∀ c, Bm ≤ c → c < Bm' → MbC D' mss M' σ' V' I' c ∧ ∃ n, tA σ' 83 c = nI n ∧ n < I' ∧ (n = i ∨ I ≤ n)) ∧ (NwI σ' I I' i d ∧ VoS σ' V V' Bm Bm' ∧ NwC σ' V V' I I' ∧ CnI σ' i V V' (12 - d) k2) ∧ d < 12 ∧ HasP σ' Bm Bm' i k2 (d + 1)) := by
  obtain ⟨⟨l1, l2, l3, l4⟩, l98, l99, l100, l101⟩ := F.lens
  obtain ⟨hWN, h1280, hQ⟩ := F.wn hB1
  have hm := F.1.rm
  have h0 := F.g0
  obtain ⟨G, hG, hGl⟩ := FUg
  have hfi : fiS.all fiS.contains = true := by decide
  obtain ⟨⟨pe, ke, pu⟩, hMs, -⟩ := he
  obtain ⟨os, k0, q1, q2, q3, q4, q5⟩ := hMs.mx (F.tm24 hB1) hQ
  obtain ⟨c1, c2, c3, c4, ⟨⟨c5, c6⟩, c7, c8, c9, c10⟩, c11⟩ := hC
  obtain ⟨⟨t1, t2, t3, t4⟩, t5, t6, ⟨t7, t8, t9, t10⟩, t11⟩ := c2
  obtain ⟨cc, hcc⟩ : ∃ q, q = cb + ks.length := ⟨_, rfl⟩
  rw [← hcc] at t8 t9 c10
  have i200 : i < 200 := t1
  have ts := trR_succ d (by omega)
  have tl := trR_le (d + 1) (by omega)
  have ea : exA σ e = tsI (tsA σ 112 cc (tA σ 55 e)) 114 (nI (cc + 1)) := exA_eq t8 (by omega)
  obtain ⟨σa, hσa⟩ : ∃ s, s = tsI (tsA σ 112 cc (tA σ 55 e)) 114 (nI (cc + 1)) := ⟨_, rfl⟩
  rw [ea, ← hσa]
  have fa : Ft [112, 114] σ σa := by rw [hσa]; exact ((Ft.rf _ σ).p_tsA rfl).p_tsI rfl
  have hfa : ([112, 114] : List Nat).all fiS.contains = true := by decide
  have fB : ∀ s : TS, Ft [114] s (exB s) := fun s => (Ft.rf _ s).p_tsI rfl
  have h0a : tI σa 0 = 0 := by rw [(fa 0 rfl).1]; exact h0
  have stop : ∀ s : TS, tI s 0 ≠ 0 → ∀ cm x1 x2 x3 x4, L_fill_196 cf' cm FU x1 x2 x3 x4 (nI k2) (tA (exB s) 55 e) (exB s) = some ((), exB s) := fun s hs cm x1 x2 x3 x4 => t_exStop (by rw [(fB s 0 rfl).1]; exact hs) _ FU (by rw [show FU = G + 1 from hG]; omega)
  by_cases hd : d < 12
  · -- rows
    generalize hWd : W ++ wcE i ks = Wd at *
    obtain ⟨n, hn⟩ : ∃ n, n = os.length := ⟨_, rfl⟩
    rw [← hn] at q2 q3 q5
    obtain ⟨D1, M1, a1, F1, v1, x1, st1, r1, f1⟩ := k_copy (cf := cf) (x1 := (pl D 99).getD i 0) (x2 := mss.getD k2 0) (x3 := eo) (x6 := nI d) (x7 := nI R) (len := Wd.length) (fr := fr) (W := Wd) Wd.length 0 FU D M R (Nat.zero_add _) (by rw [show FU = G + 1 from hG]; omega) F (by omega) c4 (fun c hc => c3 c hc)
    rw [Nat.add_zero] at a1
    have s1 := v1.2.1.1 eo pe
    obtain ⟨D2, M2, b1, F2, v2, x2, st2, r2, z2, f2⟩ := k_addRows (B := B) F1 c1 (q1.wz v1 (fun _ z => z)) (fun j hj => (q4 j hj).wz v1 (fun _ z => z) (by omega)) (by rw [← hn]; exact q2) (by omega)
    rw [← hn] at F2 r2 z2
    have iI1 := F1.2.1.1.2.1
    have e99a : (pl D1 99).getD i 0 = (pl D 99).getD i 0 := (x1.1 99 i (by omega)).2
    rw [e99a] at b1
    obtain ⟨R2, hR2⟩ : ∃ q, q = R + Wd.length + n := ⟨_, rfl⟩
    rw [← hR2] at F2
    have x12 := x1.tr x2 v1.1.1
    have v12 := v1.tr v2 (fun _ z => z)
    have e99 : (pl D2 99).getD i 0 = (pl D 99).getD i 0 := (x12.1 99 i (by omega)).2
    have st12 : ∀ r, r < R → RwS D M D2 M2 r ∧ hit D2 M2 r = hit D M r := fun r hr => ⟨(st1 r hr).1.tr (st2 r (by omega)).1, (st2 r (by omega)).2.trans (st1 r hr).2⟩
    have f12 : FqO D (Tr 0) M M2 := (f1.mono (fun t z => Tr.mono (Nat.zero_le _) z)).tr (f2.mono (fun t z => Tr.mono (Nat.zero_le _) z)) x1
    have sA : SqM C P V I Bm R E i D D2 M M2 σ σ := ⟨v12, x12, fun r hr => (st12 r hr).1, f12.1.mono (fun t y => by unfold Tr tg at y; unfold TsF tg; omega), f12.2.mono (by decide), Ft.rf _ _, KpT.rf⟩
    have F3 := F2.tw (E' := E) fa (by decide) (by rw [(fa 93 rfl).1]; exact F2.2.2.2.2.2.1.1)
    have wa := (F2.1.wzT fa (by decide)).2
    -- where they are then
    obtain ⟨ks2, hks2⟩ : ∃ q, q = ks ++ [(k0, n)] := ⟨_, rfl⟩
    have hw2 : W ++ wcE i ks2 = Wd ++ msE k0 n i := by rw [hks2, wcE_app, ← List.append_assoc, hWd]
    have lk2 : ks2.length = ks.length + 1 := by rw [hks2, List.length_append]; rfl
    have lw2 : (W ++ wcE i ks2).length = Wd.length + n := by rw [hw2, List.length_append, msE_len]
    have lWd : Wd.length = W.length + (wcE i ks).length := by rw [← hWd, List.length_append]
    have lw2' : (W ++ wcE i ks2).length = W.length + (wcE i ks2).length := List.length_append
    have hits : ∀ c, c < (W ++ wcE i ks2).length → hit D2 M2 (R + c) = 0 := fun c hc => by
      by_cases q : c < Wd.length
      · rw [(st2 (R + c) (by omega)).2]; exact (r1 c q).2
      · have := z2 (c - Wd.length) (by omega)
        rw [show R + Wd.length + (c - Wd.length) = R + c by omega] at this
        exact this
    have hC3 : Cx C P D2 M2 σa I R2 E (d + 1) i tf cb R W ks2 := by
      refine ⟨c1, ⟨⟨t1, by rw [(fa 78 rfl).2.2.1]; exact t2, by rw [(fa 79 rfl).2.2.1]; exact t3, t4⟩, t5.mv (fa.mono hfa) (fun j _ _ => ⟨(fa 90 rfl).2.2.1 j, (fa 91 rfl).2.2.1 j, (fa 92 rfl).2.2.1 j⟩), fun a ha => (t6 a ha).ft fa hfa, ⟨by rw [(fa 113 rfl).1]; exact t7, by rw [hσa, lk2]; show nI (cc + 1) = _; rw [hcc]; congr 1, by omega, fun j hj => ?_⟩, by omega⟩, ?_, by omega, ⟨⟨by omega, by omega⟩, by omega, by omega, by omega, by omega⟩, fun c hc => Or.inl (hits c hc)⟩
      · rw [lk2] at hj
        have e112 : ∀ j, j < ks.length → tA σa 112 (cb + j) = tA σ 112 (cb + j) := fun j hj => by
          rw [hσa]
          show tA (tsA σ 112 cc (tA σ 55 e)) 112 (cb + j) = _
          rw [tA_tsA, ifF (by omega)]
        by_cases q : j < ks.length
        · have g : ks2.getD j (0, 0) = ks.getD j (0, 0) := by
            rw [hks2, List.getD_eq_getElem?_getD, List.getD_eq_getElem?_getD, List.getElem?_append_left q]
          rw [g, e112 j q]
          exact ⟨(t10 j q).1, (t10 j q).2.ft fa hfa⟩
        · have ej : j = ks.length := by omega
          have g : ks2.getD j (0, 0) = (k0, n) := by
            rw [hks2, ej, List.getD_eq_getElem?_getD, List.getElem?_append_right (Nat.le_refl _), Nat.sub_self]; rfl
          rw [g, ej, ← hcc]
          refine ⟨?_, q5.1.ft fa hfa⟩
          rw [hσa]
          show tA (tsA σ 112 cc (tA σ 55 e)) 112 cc = ptr k0 n 0
          rw [tA_tsA, ifT ⟨rfl, rfl⟩]; exact q5.2.1
      · rw [hw2]
        have rA : RsR C P D1 M1 σ I R Wd := fun j hj => by
          have := (r1 j hj).1
          rw [Nat.zero_add] at this; exact this
        have rB := (rA.mv v2 x2 (fun j hj => (st2 _ (by omega)).1) ⟨iI1, Nat.le_refl _⟩ (Ft.rf _ _)).app r2
        exact rB.mv wa (Dx.rf _ _) (fun j hj => RwS.rf) ⟨F2.2.1.1.2.1, Nat.le_refl _⟩ (fa.mono hfa)
    have hq := hel hd D2 M2 σa V I Bm cr R2 E i tf cb R W ks2 k2 F3 hC3 hk2
    rw [lw2, ← Nat.add_assoc, ← hR2, e99] at hq
    have kx : KB_X0_extended cf ((pl D 99).getD i 0) (mss.getD k2 0) eo (nI fr) (nI (fr + Wd.length)) (nI d) M = obS (cf ((pl D 99).getD i 0) (mss.getD k2 0) (nI R) (nI R2) (nI (d + 1)) M2) (fun w M4 => some (.inr w, M4)) fun _ M26 => ob (KL_X0_extended_110 cf FU (nI fr) (nI R) (nI (R + Wd.length)) (nI R2) (nI R) M26) fun _ M50 => obS (K_X0_allHit (nI (R + Wd.length)) (nI R2) M50) (fun w M4 => some (.inr w, M4)) fun _ M52 => nm (msI M52 18 1 (nI R)) fun M57 => some (.inl (), M57) := by
      unfold KB_X0_extended
      rw [ifF (show ¬ nI d = 12 from by rw [show (12 : Int32) = nI 12 from rfl, bI_eq (by omega) (by decide)]; omega), F.r18.1, nm_eq, a1, ob_some, F1.r18.1, nm_eq, ifT (by rw [s1.k]; exact ke), s1.r, b1, ob_some, F2.r18.1, nm_eq, nI_addL]
    rw [kx]
    rcases hq with ⟨D5, M5, σ5, w5, n1, n2, n3⟩ | ⟨D5, M5, σ5, V5, I5, Bm5, n1, n2, F5, ⟨n4, n5, n6⟩, n7, n8, n9, nw, n10⟩
    · left
      refine ⟨D5, M5, exB σ5, w5, σ5, by rw [n1, obS_inr], n2, stop σ5 n3.2.2.2.2.1.2.2.1, sA.ff (FfO.tr (n3.tw (fB σ5) (by decide) (by decide) ⟨rfl, rfl⟩) wa (Dx.rf _ _) Fq.rf (O1.rf _ _) (fa.mono hfa)) i200⟩
    · have l5 := F5.lens
      -- hits are taken over
      obtain ⟨σ6, hσ6⟩ : ∃ s, s = tsI σ5 114 (nI cc) := ⟨_, rfl⟩
      have f56 : Ft [114] σ5 σ6 := by rw [hσ6]; exact (Ft.rf _ σ5).p_tsI rfl
      have F5b := F5.tw (E' := E) f56 (by decide) (by rw [(f56 93 rfl).1]; exact F5.2.2.2.2.2.1.1)
      have w56 := (F5.1.wzT f56 (by decide)).2
      obtain ⟨M6, o1, F6, v6, st6, h6, h6', f6⟩ := k_orhit (cf := cf) (x9 := nI R2) (fr := fr) (R := R) (len := Wd.length) (by omega) c4 (by omega) Wd.length 0 FU M5 (Nat.zero_add _) (by rw [show FU = G + 1 from hG]; omega) F5b
      rw [Nat.add_zero] at o1 h6
      have e114 : tI σ5 114 = nI (cc + 1) := by rw [n7.2.2.2.2.2.2.2.2.2.2.2.1.2, hσa]; rfl
      have eB : exB σ5 = σ6 := by
        unfold exB
        rw [e114, hσ6]
        have : nI (cc + 1) - 1 = nI cc := by rw [nI_subL _ _ (by show 1 ≤ cc + 1; omega)]; rfl
        rw [this]
      have sE : SqM C P V I Bm R2 E i D2 D5 M2 M5 σ σ6 := by
        rw [hσ6]
        exact SqM.ex (y := tA σ 55 e) (by rw [← hσa]; exact n7) F2.1 F5.1 t8 (by omega)
      have h83 : ∀ m, tA σ6 83 m = tA σ5 83 m ∧ tA σ6 84 m = tA σ5 84 m := fun m => ⟨(f56 83 rfl).2.2.1 m, (f56 84 rfl).2.2.1 m⟩
      have hs6 : ∀ en, hsL σ6 Bm Bm5 i en ↔ hsL σ5 Bm Bm5 i en := fun en => hsL.ft (f56.mono (by decide)) h83
      have H6 : HasP σ6 Bm Bm5 i k2 (d + 1) := n10.ft (f56.mono (by decide)) h83
      have h06 : tI σ6 0 = 0 := F6.g0
      have s6 : SqM C P V5 I5 Bm R2 E i D5 D5 M5 M6 σ6 σ6 := ⟨v6, Dx.rf _ _, fun r hr => st6 r hr, f6.1.mono (fun t y => by unfold Tr tg at y; unfold TsF tg; omega), f6.2.mono (by decide), Ft.rf _ _, KpT.rf⟩
      have tot := (sA.tr sE (Nat.le_refl _) (Nat.le_refl _) (Nat.le_refl _) (Nat.le_refl _) (Or.inl rfl) (by omega) i200).tr s6 n4 n5 (Nat.le_refl _) (Nat.le_refl _) (Or.inl rfl) (by omega) i200
      have e55 : tA σ6 55 e = ptr k0 n 0 := by
        rw [(sE.2.2.2.2.2.1 55 rfl).2.2.1]; exact q5.2.1
      have hM6 : MlR σ6 k0 n := q5.1.ft sE.2.2.2.2.2.1 hfi
      have own : ∀ t, t < n → (hit D5 M6 (R + Wd.length + t) ≠ 0 ↔ hsL σ6 Bm Bm5 i (k0 + t, 0, i)) := fun t ht => by
        have e1 : hit D5 M6 (R + Wd.length + t) = hit D5 M5 (R + Wd.length + t) := h6 _ (by omega) (by omega)
        have e2 := n8.2 (Wd.length + t) (by omega)
        have e3 : ge (W ++ wcE i ks2) (Wd.length + t) = (k0 + t, 0, i) := by rw [hw2, ge_r, msE_ge ht]
        rw [e3, ← Nat.add_assoc] at e2
        have e4 := hits (Wd.length + t) (by omega)
        rw [← Nat.add_assoc] at e4
        rw [e1, hs6]
        by_cases y : hsL σ5 Bm Bm5 i (k0 + t, 0, i)
        · rw [e2.1 y]; exact ⟨fun _ => y, fun _ => by decide⟩
        · rw [e2.2 y, e4]; exact ⟨fun z => absurd rfl z, fun z => absurd z y⟩
      have tle := fun (cm : Int32 → Int32 → Int32 → TS → Option (Unit × TS)) (x1 x2 x3 x4 : Int32) => t_exLeads (cf' := cf') (cm := cm) (x1 := x1) (x2 := x2) (x3 := x3) (x4 := x4) h06 H6 (by omega) hM6 n 0 FU (Nat.zero_add _) (by rw [show FU = G + 1 from hG]; omega)
      rw [n1, obS_inl, o1, ob_some]
      rcases z_allHit F6 (fr := R + Wd.length) (to := R2) (Nat.le_refl _) (by omega) with ⟨y1, y2⟩ | ⟨⟨r, y1, y2, y3⟩, y4⟩
      · right
        have all : ∀ t, t < n → hsL σ6 Bm Bm5 i (k0 + t, 0, i) := fun t ht => (own t ht).mp (y1 _ (by omega) (by omega))
        obtain ⟨F7, v7, st7, f7⟩ := F6.cut (R := R) (by omega)
        have s7 : SqM C P V5 I5 Bm R E i D5 D5 M6 (msI M6 18 1 (nI R)) σ6 σ6 := ⟨v7, Dx.rf _ _, fun r _ => (st7 r).1, f7.1.mono (fun t y => by rw [y]; exact Or.inl rfl), f7.2.mono (by decide), Ft.rf _ _, KpT.rf⟩
        have tot2 := tot.tr s7 n4 n5 (Nat.le_refl _) (Nat.le_refl _) (Or.inl rfl) (Nat.le_refl _) i200
        have hin : ∀ c, c < Wd.length → hit D5 (msI M6 18 1 (nI R)) (fr + c) = hit D M (fr + c) ||| hit D5 M5 (R + c) := fun c hc => by
          rw [(st7 _).2, h6' c (Nat.zero_le _) hc, n8.1 _ (by omega) (by omega), (st12 _ (by omega)).2]
        have hcp : ∀ c, c < Wd.length → ge (W ++ wcE i ks2) c = ge Wd c := fun c hc => by rw [hw2, ge_l hc]
        refine ⟨D5, _, σ6, V5, I5, Bm5, σ5, by rw [y2, obS_inl, nm_eq], n2, fun cm x1 x2 x3 x4 => ?_, F7, ⟨n4, n5, n6⟩, tot2, ⟨fun r hr hn => ?_, fun c hc => ⟨fun z => ?_, fun z => ?_⟩⟩, fun c z1 z2 => ?_, by
          obtain ⟨nw, vo, nc, ci⟩ := nw
          obtain ⟨dp, nw⟩ := nw.mono (Nat.le_succ d)
          refine ⟨⟨dp, fun n' h1 h2 => ?_⟩, vo.mv n6 (f56.mono (by decide)) (fun c _ _ => ⟨h83 c, fun _ => (f56 85 rfl).2.2.1 c⟩) (fun v _ _ => (f56 96 rfl).2.2.1 v), nc.mv f56 (by decide) (fun v _ _ => (f56 96 rfl).2.2.1 v) (fun v _ => (f56 74 rfl).2.2.1 v), by rw [show 12 - d = 13 - (d + 1) by omega]; exact ci.ft f56 (by decide) (fun v _ _ => (f56 96 rfl).2.2.1 v)⟩
          rw [(f56 75 rfl).2.2.1, (f56 74 rfl).2.2.1]
          obtain ⟨p, p1, p2, p3, p30, kk, gg, p4, p5, p6⟩ := nw n' h1 h2
          exact ⟨p, p1, p2, p3, p30, kk, gg, p4, p5.fwd f56 (by decide) _ _, p6⟩, hd, H6⟩
        · rw [eB, e55]
          rcases tle cm x1 x2 x3 x4 with ⟨⟨t', u1, u2, u3⟩, u4⟩ | ⟨u1, u2⟩
          · exact absurd (all t' u2) u3
          · exact u2
        · rw [(st7 r).2, h6 r (by omega) hn, n8.1 r (by omega) (by omega), (st12 r hr).2]
        · have e2 := (n8.2 c (by omega)).1 (by rw [hcp c hc]; exact (hs6 _).mp z)
          rw [hin c hc, e2]
          rcases c11 c hc with q | q <;> rw [q] <;> decide
        · have e2 := (n8.2 c (by omega)).2 (by rw [hcp c hc]; exact fun y => z ((hs6 _).mpr y))
          rw [hin c hc, e2, hits c (by omega)]
          rcases c11 c hc with q | q <;> rw [q] <;> decide
        · obtain ⟨m1, m2⟩ := n9 c z1 z2
          obtain ⟨n', e', eo', w', -, -, ⟨p3a, p3b⟩, -⟩ := F5.2.1.2.2.1 c z2
          have so5 : So M5 M6 ((pl D5 100).getD c 0) := F5b.1.2.1.so3 (by decide) (by omega) f6.1 (fun y => by unfold Tr tg at y; omega)
          have so7 : So M6 (msI M6 18 1 (nI R)) ((pl D5 100).getD c 0) := F6.1.2.1.so3 (by decide) (by omega) f7.1 (fun y => by unfold tg at y; omega)
          refine ⟨m1.mv ((w56.tr v6 (fun _ z => z)).tr v7 (fun _ z => z)) (f56.mono (by decide)) (fun k hk => (F5.cc hk).1.1.1) rfl (so5.tr so7) (by rw [p3a]; exact p3b.1.1) (Dx.rf _ _) ⟨(h83 c).2, (f56 85 rfl).2.2.1 c, (f56 86 rfl).2.2.1 c⟩ (h83 c).1 (fun f hf n _ => by
            simp only [List.mem_cons, List.not_mem_nil, or_false] at hf
            rcases hf with rfl | rfl | rfl | rfl | rfl | rfl <;> exact (f56 _ rfl).2.2.1 n) (Nat.le_refl _) (Nat.le_refl _), ?_⟩
          rw [(h83 c).1]; exact m2
      · left
        obtain ⟨b1', b2', b3'⟩ := F6.1.bad (r := 21) (by decide) F6.g0
        refine ⟨D5, _, _, _, σ5, by rw [y4, obS_inr], n2, fun cm x1 x2 x3 x4 => ?_, tot.ff (b3'.mono (fun _ z => z) (by decide) (by decide)) i200⟩
        rw [eB, e55]
        rcases tle cm x1 x2 x3 x4 with ⟨-, u4⟩ | ⟨u1, u2⟩
        · exact u4
        · have := (own (r - (R + Wd.length)) (by omega)).mpr (u1 _ (Nat.zero_le _) (by omega))
          rw [show R + Wd.length + (r - (R + Wd.length)) = r by omega] at this
          exact absurd y3 this
  · -- too deep
    left
    have d12 : d = 12 := by omega
    obtain ⟨b1, b2, b3⟩ := F.1.bad (r := 23) (by decide) h0
    have Fa := F.tw (E' := E) fa (by decide) (by rw [(fa 93 rfl).1]; exact F.2.2.2.2.2.1.1)
    obtain ⟨-, -, b3a⟩ := Fa.1.bad (r := 23) (by decide) h0a
    obtain ⟨s4, g1, g2⟩ := h13 d12 (nI i) (nI k2) σa h0a
    have h04 : tI s4 0 ≠ 0 := by rw [(g2 0 rfl).1]; exact badT_ne (by decide)
    refine ⟨D, _, exB s4, _, s4, ?_, by rw [d12]; exact g1, stop s4 h04, FfO.tr (((b3a.mono (T' := TFf) (S' := fiS) (O' := [15, 16, 17, 18, 31]) (fun _ z => z) (by decide) (by decide)).tw g2 (by decide) (by decide) ⟨rfl, rfl⟩).tw (fB s4) (by decide) (by decide) ⟨rfl, rfl⟩) (F.1.wzT fa (by decide)).2 (Dx.rf _ _) Fq.rf (O1.rf _ _) (fa.mono hfa)⟩
    unfold KB_X0_extended
    rw [ifT (show nI d = 12 from by rw [d12]; rfl), b1, ob_some, ifT (wM_k M 23 0)]
end EXT2
