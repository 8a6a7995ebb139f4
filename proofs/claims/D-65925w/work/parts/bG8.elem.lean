/-! Layer B: the flat model: an element with a name, both sides -/
set_option maxRecDepth 100000
section ELEM8
variable {C C' : PC} {D D' D2 : FQ} {M M' M1 M2 : CM} {σ σ' σ0 σ1 σ2 σ4 : TS} {mss fss xs bs qs os : List Nat} {B l k n o m u w Q I I' L V V' Bm Bm' b v r R R' R2 E E' cr i i' k0 fr e eo fl z env kk tf cb d len to : Nat} {P P' X T : Nat → Prop} {S S' O : List Nat} {a : Nat × Nat × Nat} {A W Wn W1 W2 : List (Nat × Nat × Nat)} {ks : List (Nat × Nat)} {x : Int64} {cf : Nat → Nat → Int32 → Int32 → Int32 → CM → Option ((Unit ⊕ Nat) × CM)} {cf' : Int32 → Int32 → Int32 → TS → Option (Unit × TS)}
/-- hits by one new member of instance i -/
theorem hit_one (h83 : tA σ' 83 Bm = nI i) (h84 : tA σ' 84 Bm = nI e) (he : e < 480) (hB : Bm < Bm') (hi : i < 200) (ho : ∀ c, Bm < c → c < Bm' → ∃ n, tA σ' 83 c = nI n ∧ n < 201 ∧ i < n) : hs σ' Bm Bm' i x ↔ tA σ' 52 e &&& 16 = 0 ∧ tB σ' 50 e = x := by
  constructor
  · rintro ⟨m, e', ⟨q1, q2⟩, q3, q4, q5, q6⟩
    have hm : m = Bm := by
      by_cases z : m = Bm
      · exact z
      · obtain ⟨n, c1, c2, c3⟩ := ho m (by omega) q2
        rw [c1] at q3
        have := (bI_eq (a := n) (b := i) (by omega) (by omega)).mp q3
        omega
    rw [hm, h84] at q4
    have := (bI_eq (a := e) (b := e') (by omega) (by omega)).mp q4.1
    rw [this]; exact ⟨q5, q6⟩
  · rintro ⟨q1, q2⟩
    exact ⟨Bm, e, ⟨Nat.le_refl _, hB⟩, h83, ⟨h84, he⟩, q1, q2⟩
theorem hitP_one (hx : ∀ x, hs σ' Bm Bm' i x ↔ tA σ' 52 e &&& 16 = 0 ∧ tB σ' 50 e = x) (h1 : ∀ r, r < R → ¬ (fr ≤ r ∧ r < fr + W.length) → hit D' M' r = hit D M r) (h2 : ∀ c, c < W.length → hit D' M' (fr + c) = if tA σ' 52 e &&& 16 = 0 ∧ ldB σ' (tB σ' 50 e) (ge W c) = true then 1 else hit D M (fr + c)) : HitP D D' M M' σ' Bm Bm' i fr R W := by
  refine ⟨h1, fun c hc => ⟨fun z => ?_, fun z => ?_⟩⟩
  · obtain ⟨x, y1, y2⟩ := z
    obtain ⟨y3, y4⟩ := (hx x).mp y1
    rw [h2 c hc, ifT ⟨y3, by rw [y4]; exact y2⟩]
  · rw [h2 c hc, ifF (fun y => z ⟨_, (hx _).mpr ⟨y.1, rfl⟩, y.2⟩)]
theorem z_elem (hB1 : B ≤ 1280) (hel : d < 12 → ElP C B P mss fss cf cf' (d + 1)) (F : FiS C B P mss fss D M σ V I Bm (cr + 1) R E) (hC : Cx C P D M σ I R E d i tf cb fr W ks) (he : ElR C P M σ eo e) (h58 : e < ix (tI σ 58)) (h57 : tA σ 57 e = 0) :
    (∃ D' M' σ' w, KB_X0_element (KB_X0_instances cf) ((pl D 99).getD i 0) eo (nI fr) (nI (fr + (W ++ wcE i ks).length)) (nI d) M = some (.inr w, M') ∧ B_makeMember cf' (nI i) (nI e) (nI d) σ = some ((), σ') ∧ FfO C B P mss fss TFf fiS [15, 16, 17, 18, 31] D D' M M' σ σ' w) ∨
    (∃ D' M' σ' V' I' Bm', KB_X0_element (KB_X0_instances cf) ((pl D 99).getD i 0) eo (nI fr) (nI (fr + (W ++ wcE i ks).length)) (nI d) M = some (.inl (), M') ∧ B_makeMember cf' (nI i) (nI e) (nI d) σ = some ((), σ') ∧ FiS C B P mss fss D' M' σ' V' I' Bm' cr R E ∧ (V ≤ V' ∧ I ≤ I' ∧ Bm + 1 ≤ Bm') ∧ SqM C P V I Bm R E i D D' M M' σ σ' ∧ HitP D D' M M' σ' Bm Bm' i fr R (W ++ wcE i ks) ∧ (∀ c, Bm ≤ c → c < Bm' → MbC D' mss M' σ' V' I' c ∧ ∃ n, tA σ' 83 c = nI n ∧ n < I' ∧ (n = i ∨ I ≤ n)) ∧ (NwI σ' I I' i d ∧ VoS σ' V V' Bm Bm' ∧ NwC σ' V V' I I' ∧ ∀ g, CnE σ' i V V' g e) ∧ (∀ x, hs σ' Bm Bm' i x ↔ tA σ' 52 e &&& 16 = 0 ∧ tB σ' 50 e = x) ∧ tA σ' 83 Bm = nI i ∧ tA σ' 84 Bm = nI e) := by
  obtain ⟨w, z, fl, hv, ⟨hw, hx⟩, hMs, hty, h56⟩ := he.own h57
  obtain ⟨⟨l1, l2, l3, l4⟩, l98, l99, l100, l101⟩ := F.lens
  have hi := hC.1
  have i200 : i < 200 := by omega
  have he480 : e < 480 := by
    obtain ⟨E0, e1, e2⟩ := F.1.1.2.2.2.2.2.2.1
    have h24 := F.1.1.2.2.2.2.1.1.1
    rw [e1, ix_nI (by omega)] at h58
    omega
  rcases z_newMem hB1 F hi he h58 h57 with ⟨M', σ', w, a1, a2, a3⟩ | ⟨D1, M1, a1, a2, F1, v1, x1, st1, f1, o1, h3, os1, hno⟩
  · exact Or.inl ⟨D, M', σ', w, a1 _ _ _ _, a2 _ _, a3⟩
  · obtain ⟨σ1, hσ1⟩ : ∃ s, s = mbT σ i e Bm := ⟨_, rfl⟩
    have ff : Ft [83, 84, 85, 86, 87, 88, 89] σ σ1 := by rw [hσ1]; exact mbT_f
    have vv := mbT_v (σ := σ) (i := i) (e := e) (b := Bm)
    rw [← hσ1] at vv F1 v1 os1 a2 hno
    obtain ⟨vv1, vv2, vv3⟩ := vv
    have kp1 : KpT σ σ1 V I Bm E i := by
      refine ⟨fun f hf n _ => ?_, fun n _ hn => vv3 n hn, fun f hf c hc => vv2 f hf c (by omega), fun f hf n _ => ?_, fun f hf n _ => ?_, ⟨(ff 113 rfl).1, (ff 114 rfl).1⟩, fun c _ => (ff 112 rfl).2.2.1 c⟩
      · simp only [List.mem_cons, List.not_mem_nil, or_false] at hf
        rcases hf with rfl | rfl | rfl | rfl | rfl | rfl <;> exact (ff _ rfl).2.2.1 n
      · simp only [List.mem_cons, List.not_mem_nil, or_false] at hf
        rcases hf with rfl | rfl | rfl | rfl | rfl | rfl | rfl | rfl | rfl | rfl <;> exact (ff _ rfl).2.2.1 n
      · simp only [List.mem_cons, List.not_mem_nil, or_false] at hf
        rcases hf with rfl | rfl | rfl <;> exact (ff _ rfl).2.2.1 n
    have s1 : SqM C P V I Bm R E i D D1 M M1 σ σ1 := ⟨v1, x1, fun r hr => (st1 r hr).1, f1.mono (fun t y => by unfold TmB tg at y; unfold TsF tg; omega), o1.mono (by decide), ff.mono (by decide), kp1⟩
    have hfr := hC.2.2.2.1
    have hC1 := hC.st s1 ⟨l99, Nat.le_refl I⟩ (fun c hc => by rw [(st1 (fr + c) (by omega)).2]; exact hC.2.2.2.2.2 c hc)
    have he1 := he.wz v1 (fun _ z => z) h58
    have h58' : e < ix (tI σ1 58) := by rw [(ff 58 rfl).1]; exact h58
    have h57' : tA σ1 57 e = 0 := by rw [(ff 57 rfl).2.2.1]; exact h57
    have e51 : tB σ1 51 e = tB σ 51 e := (ff 51 rfl).2.2.2 e
    have e52 : tA σ1 52 e = tA σ 52 e := (ff 52 rfl).2.2.1 e
    have e53 : tA σ1 53 e = tA σ 53 e := (ff 53 rfl).2.2.1 e
    have e99 : (pl D1 99).getD i 0 = (pl D 99).getD i 0 := (x1.1 99 i (by omega)).2
    have se := v1.2.1.1 eo hv.1
    have f52 := hv.2.2.2.2.1
    have is9 : K_X11_is eo 9 M1 = some (if ¬ nI fl &&& 16 = 0 then 1 else 0, M1) := is_bit (c := ¬ nI fl &&& 16 = 0) (by rw [se.k]; exact hv.2.1) (by rw [se.i, f52.2.1]; exact (bit_par fl f52.1).2.2.2.2.1)
    have h52 : tA σ 52 e = nI fl := f52.2.2
    have p3 : mR M1 3003 ((pl D1 100).getD Bm 0) = eo ∧ mI M1 3001 ((pl D1 100).getD Bm 0) = mI M1 2002 eo ∧ mI M1 3002 ((pl D1 100).getD Bm 0) = tA σ1 53 e ∧ tA σ1 84 Bm = nI e ∧ tA σ1 83 Bm = nI i ∧ mI M1 3000 ((pl D1 100).getD Bm 0) = mI M1 2003 eo := ⟨h3.1, by rw [se.i]; exact h3.2.1, by rw [e53]; exact h3.2.2.1, vv1.2.2.1, vv1.2.1, by rw [se.i]; exact h3.2.2.2⟩
    rw [a1, a2, is9, ob_some]
    have hLd : ∀ (s : TS) c, Ft fiS σ1 s → ldB s (tB s 50 e) (ge (W ++ wcE i ks) c) = ldB σ1 (tB σ1 50 e) (ge (W ++ wcE i ks) c) := fun s c f => by rw [ldB_ft f, (f 50 rfl).2.2.2]
    by_cases q : nI fl &&& 16 = 0
    · have q1 : tA σ1 52 e &&& 16 = 0 := by rw [e52, h52]; exact q
      rw [ifF (show ¬ ¬ nI fl &&& 16 = 0 from fun z => z q), ifT (rfl : (0 : Int32) = 0)]
      have fin : ∀ (D' : FQ) (M' : CM) (σ' : TS) (V' I' Bm' : Nat), FiS C B P mss fss D' M' σ' V' I' Bm' cr R E → (V ≤ V' ∧ I ≤ I' ∧ Bm + 1 ≤ Bm') → SqM C P V I Bm R E i D1 D' M1 M' σ1 σ' → (∀ r, r < R → ¬ (fr ≤ r ∧ r < fr + (W ++ wcE i ks).length) → hit D' M' r = hit D1 M1 r) → (∀ c, c < (W ++ wcE i ks).length → hit D' M' (fr + c) = if ldB σ1 (tB σ1 50 e) (ge (W ++ wcE i ks) c) = true then 1 else hit D1 M1 (fr + c)) → tA σ' 83 Bm = nI i → tA σ' 84 Bm = nI e → (∀ c, Bm < c → c < Bm' → ∃ n, tA σ' 83 c = nI n ∧ n < I' ∧ I ≤ n) → SqM C P V I Bm R E i D D' M M' σ σ' ∧ HitP D D' M M' σ' Bm Bm' i fr R (W ++ wcE i ks) ∧ (∀ c, Bm ≤ c → c < Bm' → ∃ n, tA σ' 83 c = nI n ∧ n < I' ∧ (n = i ∨ I ≤ n)) ∧ ∀ x, hs σ' Bm Bm' i x ↔ tA σ' 52 e &&& 16 = 0 ∧ tB σ' 50 e = x := fun D' M' σ' V' I' Bm' F' g s2 g1 g2 g3 g4 g5 => by
        have l' := F'.lens
        have hx' : ∀ x, hs σ' Bm Bm' i x ↔ tA σ' 52 e &&& 16 = 0 ∧ tB σ' 50 e = x := fun x => hit_one g3 g4 he480 (by omega) i200 (fun c c1 c2 => by
          obtain ⟨n, d1, d2, d3⟩ := g5 c c1 c2
          exact ⟨n, d1, by omega, by omega⟩)
        have f' := s2.2.2.2.2.2.1
        refine ⟨s1.tr s2 (Nat.le_refl _) (Nat.le_refl _) (Nat.le_refl _) (Nat.le_refl _) (Or.inl rfl) (Nat.le_refl _) i200, hitP_one hx' (fun r hr hn => by rw [g1 r hr hn, (st1 r hr).2]) (fun c hc => ?_), fun c c1 c2 => ?_, hx'⟩
        · rw [g2 c hc, (st1 (fr + c) (by omega)).2, hLd σ' c f']
          by_cases y : ldB σ1 (tB σ1 50 e) (ge (W ++ wcE i ks) c) = true
          · rw [ifT y, ifT ⟨by rw [(f' 52 rfl).2.2.1]; exact q1, y⟩]
          · rw [ifF y, ifF (fun z => y z.2)]
        · by_cases y : c = Bm
          · rw [y]; exact ⟨i, g3, by omega, Or.inl rfl⟩
          · obtain ⟨n, d1, d2, d3⟩ := g5 c (by omega) c2
            exact ⟨n, d1, d2, Or.inr d3⟩
      by_cases h51 : tB σ 51 e = 0
      · have hr := z_real (cf := KB_X0_instances cf) (cf' := cf') (x3 := nI d) (x5 := nI d) hB1 F1 hC1 he1 h58' h57' (by rw [e51]; exact h51) q1 (Nat.lt_succ_self Bm) ⟨p3.1, p3.2.1, p3.2.2.1, p3.2.2.2.1⟩
        rw [e99] at hr
        rw [ifT h51]
        rcases hr with ⟨D2, M2, σ2, w2, b1, b2, b3⟩ | ⟨D2, M2, σ2, V2, b1, b2, b3, b4, b5, b6, b7, b8, b9, b10, b13⟩
        · exact Or.inl ⟨D2, M2, σ2, w2, b1, b2, s1.ff b3 i200⟩
        · obtain ⟨c1, c2, c3, c4⟩ := fin D2 M2 σ2 V2 I (Bm + 1) b3 ⟨b4, Nat.le_refl _, Nat.le_refl _⟩ b5 b6 b7 (by rw [b9]; exact vv1.2.1) (by rw [b10]; exact vv1.2.2.1) (fun c y1 y2 => by omega)
          refine Or.inr ⟨D2, M2, σ2, V2, I, Bm + 1, b1, b2, b3, ⟨b4, Nat.le_refl _, Nat.le_refl _⟩, c1, c2, fun c y1 y2 => ⟨?_, c3 c y1 y2⟩, ⟨NwI.nil (Nat.le_refl _), VoS.one (b13 vv1.2.1), NwC.nil, fun g => CnE.real (b13 vv1.2.1) (by rw [b10]; exact vv1.2.2.1) he480 b3.e480 (by rw [b9]; exact vv1.2.1) (by rw [(c1.2.2.2.2.2.1 57 rfl).2.2.1]; exact h57)⟩, c4, by rw [b9]; exact vv1.2.1, by rw [b10]; exact vv1.2.2.1⟩
          rw [show c = Bm by omega]; exact b8
      · have hr := z_clsEl (cf := cf) (cf' := cf') hB1 hel F1 hC1 he1 h58' h57' (by rw [e51]; exact h51) q1 p3 hno
        rw [e99] at hr
        rw [ifF h51]
        rcases hr with ⟨D2, M2, σ2, w2, b1, b2, b3⟩ | ⟨D2, M2, σ2, V2, I2, Bm2, b1, b2, b3, b4, b5, b6, b7, b8, b9, b10, b12, b11⟩
        · exact Or.inl ⟨D2, M2, σ2, w2, b1, b2, s1.ff b3 i200⟩
        · obtain ⟨c1, c2, c3, c4⟩ := fin D2 M2 σ2 V2 I2 Bm2 b3 b4 b5 b6 b7 b9 b10 b11
          have l2' := b3.lens
          exact Or.inr ⟨D2, M2, σ2, V2, I2, Bm2, b1, b2, b3, b4, c1, c2, fun c y1 y2 => ⟨b8 c y1 y2, c3 c y1 y2⟩, ⟨b12.1, b12.2.1, b12.2.2, fun g => CnE.cls b12.2.1 (by omega) b10 he480 b3.e480 (by rw [(c1.2.2.2.2.2.1 57 rfl).2.2.1]; exact h57) (by rw [(c1.2.2.2.2.2.1 51 rfl).2.2.2]; exact h51) b11 hi (by omega)⟩, c4, b9, b10⟩
    · have q1 : ¬ tA σ1 52 e &&& 16 = 0 := by rw [e52, h52]; exact q
      rw [ifT q, ifF (show ¬ (1 : Int32) = 0 by decide)]
      obtain ⟨D2, M2, b1, F2, v2, x2, st2, f2, o2, m2⟩ := z_outer F1 os1 ⟨e, ⟨vv1.2.2.1, he480⟩, q1⟩
      have s2 : SqM C P V I Bm R E i D1 D2 M1 M2 σ1 σ1 := ⟨v2, x2, fun r hr => (st2 r hr).1, f2.mono (fun t y => by rw [y]; unfold TsF; omega), o2.mono (by decide), Ft.rf _ _, KpT.rf⟩
      have l1' := F1.lens
      have smo : So M1 M2 ((pl D1 100).getD Bm 0) := F1.1.2.1.so3 (by decide) (by omega) f2 (fun y => by unfold tg at y; omega)
      have e100 : (pl D2 100).getD Bm 0 = (pl D1 100).getD Bm 0 := (x2.1 100 Bm (by omega)).2
      have hx' : ∀ x, hs σ1 Bm (Bm + 1) i x ↔ tA σ1 52 e &&& 16 = 0 ∧ tB σ1 50 e = x := fun x => hit_one vv1.2.1 vv1.2.2.1 he480 (by omega) i200 (fun c c1 c2 => by omega)
      refine Or.inr ⟨D2, M2, σ1, V, I, Bm + 1, by rw [b1, ob_some], ?_, F2, ⟨Nat.le_refl _, Nat.le_refl _, Nat.le_refl _⟩, s1.tr s2 (Nat.le_refl _) (Nat.le_refl _) (Nat.le_refl _) (Nat.le_refl _) (Or.inl rfl) (Nat.le_refl _) i200, hitP_one hx' (fun r hr hn => by rw [(st2 r hr).2, (st1 r hr).2]) (fun c hc => by rw [(st2 _ (by omega)).2, (st1 _ (by omega)).2, ifF (fun y => q1 y.1)]), fun c y1 y2 => ?_, ⟨NwI.nil (Nat.le_refl _), VoS.no (fun ⟨e', y1, y2, _, y4⟩ => by
        have e480 := F2.e480
        rw [vv1.2.2.1] at y1
        have := (bI_eq (a := e) (b := e') (by omega) (by omega)).mp y1
        rw [← this] at y4
        exact q1 y4), NwC.nil, fun g => CnE.none h57' (fun z => q1 z.2) (fun u u1 u2 => by omega)⟩, hx', vv1.2.1, vv1.2.2.1⟩
      · unfold J_makeMember_116
        rw [ifT (inb_nI' (by omega) (by decide)), ix_nI (by omega), ifF q1]
      · rw [show c = Bm by omega]
        refine ⟨⟨e, ⟨vv1.2.2.1, h58'⟩, Or.inl ⟨q1, vv1.2.2.2.1, vv1.2.2.2.2.1, ?_, by rw [e100]; exact m2⟩⟩, i, vv1.2.1, hi, Or.inl rfl⟩
        rw [e100, smo.i, smo.r, h3.1, (v2.2.1.1 eo hv.1).i]; exact p3.2.1
end ELEM8
