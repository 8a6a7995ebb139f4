/-! Layer B: the flat model: the elements of a class at any depth, both sides -/
set_option maxRecDepth 100000
section ELP3
variable {C C' : PC} {D D' D1 D2 : FQ} {M M' M1 M2 : CM} {σ σ' σ0 σ1 σ2 σ4 s : TS} {mss fss xs bs qs os es : List Nat} {B l k n o m u w Q I I' I1 I2 L V V' V1 V2 Bm Bm' Bm1 Bm2 b c v r R R' R2 E E' E0 cr i i' k0 k2 fr e eo fl z env kk tf cb d len to dk dp g : Nat} {P P' X T : Nat → Prop} {S S' O : List Nat} {a : Nat × Nat × Nat} {A W Wn W1 W2 : List (Nat × Nat × Nat)} {ks : List (Nat × Nat)} {x : Int64}
theorem FiS.vis (F : FiS C B P mss fss D M σ V I Bm cr R E) (hg : mI M 31 1 = nI g ∧ tI σ 132 = nI g) : FW C B P mss fss D (msI M 31 1 (nI (g + 1))) (tsI σ 132 (nI (g + 1))) ∧ (g + 1 ≤ 1000 → FiS C B P mss fss D (msI M 31 1 (nI (g + 1))) (tsI σ 132 (nI (g + 1))) V I Bm (cr + 20) R E) ∧ SqM C P V I Bm R E i D D M (msI M 31 1 (nI (g + 1))) σ (tsI σ 132 (nI (g + 1))) ∧ ∀ k, hit D (msI M 31 1 (nI (g + 1))) k = hit D M k := by
  have W := F.1
  have h167 := W.n167
  obtain ⟨r1, r2⟩ := F.r18
  obtain ⟨M1, hM1⟩ : ∃ N, N = msI M 31 1 (nI (g + 1)) := ⟨_, rfl⟩
  obtain ⟨σ1, hσ1⟩ : ∃ s, s = tsI σ 132 (nI (g + 1)) := ⟨_, rfl⟩
  rw [← hM1, ← hσ1]
  have ft : Ft [132] σ σ1 := by rw [hσ1]; exact (Ft.rf _ _).p_tsI rfl
  have Fz1 : Fz (fun o => o = 1) M M1 := by rw [hM1]; exact Fz.rf.msI (fun _ => rfl)
  have W2 : PoW D M1 := W.2.1.mv h167 Fz1 (fun o ho z => nfx1 o ho z) (fun o h1 h2 => absurd h2 (by rw [hM1]; show ¬ o < mn M; omega))
  have fq : Fq D (fun t => t = 1) M M1 := Fz1.mono (fun o ho z => by rw [z, tgo_s (by decide)])
  have rm := rm_same (D := D) (M := M) (M' := M1) (by rw [hM1]; exact ⟨rfl, rfl⟩) (fun o => by rw [hM1]; exact ⟨rfl, rfl, rfl⟩)
  have o1 : O1 [31] M M1 := by rw [hM1]; exact O1.msI rfl
  obtain ⟨W', v⟩ := W.mv (fq.mono (fun t z => Or.inl z)) o1 (by decide) W2 (Dx.rf D M) (by rw [rm.1, rm.2]; exact ⟨Nat.le_refl _, Nat.le_refl _⟩) ft (by decide)
  have N := F.2.1.kp W.2.1 fq (fun t z => by
    rw [z]
    refine ⟨fun v hv => ?_, fun n hn => ?_, fun b hb => ?_⟩ <;> unfold tg <;> omega) v (Dx.rf D M) (Tk.ft ft (by decide))
  have rw1 : ∀ k, RwS D M D M1 k ∧ hit D M1 k = hit D M k := fun k => by
    rw [hM1]
    refine ⟨⟨rfl, rfl, ?_, rfl⟩, ?_⟩
    · rw [mI_msI, ifF (by omega)]
    · show mI (msI M 31 1 (nI (g + 1))) 2803 ((pl D 101).getD k 0) = _
      rw [mI_msI, ifF (by omega)]; rfl
  refine ⟨W', fun h => ?_, ⟨v, Dx.rf D M, fun r _ => (rw1 r).1, fq.mono (fun t z => Or.inl z), o1.mono (by decide), ft.mono (by decide), ⟨fun f hf n _ => ?_, fun n _ _ => (ft 88 rfl).2.2.1 n, fun f hf n _ => ?_, fun f hf n _ => ?_, fun f hf n _ => ?_, ⟨(ft 113 rfl).1, (ft 114 rfl).1⟩, fun c _ => (ft 112 rfl).2.2.1 c⟩⟩, fun k => (rw1 k).2⟩
  · obtain ⟨-, -, ⟨⟨b1, b2, b3⟩, ⟨b4, b5, b6⟩, b7, b8⟩, ⟨g', g1, g2, g3, g4⟩, -, e, os, c1, c2, c3, c4⟩ := F
    have eg : g' = g := by
      have := hg.1
      rw [g1] at this
      exact (bI_eq (by omega) (by omega)).mp this
    subst eg
    refine ⟨W', N, ⟨⟨by rw [o1.1 15 rfl]; exact b1, by rw [(ft 107 rfl).1]; exact b2, b3⟩, ⟨by rw [o1.1 16 rfl]; exact b4, by rw [(ft 82 rfl).1]; exact b5, b6⟩, by rw [o1.1 17 rfl]; exact b7, by rw [(ft 89 rfl).1]; exact b8⟩, ⟨g' + 1, by rw [hM1, mI_msI, ifT ⟨rfl, rfl⟩], by rw [hσ1]; rfl, h, by omega⟩, ⟨by rw [o1.1 18 rfl]; exact r1, r2⟩, ⟨by rw [(ft 93 rfl).1]; exact e.1, by rw [(ft 0 rfl).1]; exact e.2⟩, os, by rw [← c2]; exact (W'.2.1.1 102 (by decide)).1, c2, c3, fun b hb => ⟨(c4 b hb).1, (c4 b hb).2.mv ((ft 84 rfl).2.2.1 b) (ft 52 rfl).2.2.1⟩⟩
  · simp only [List.mem_cons, List.not_mem_nil, or_false] at hf
    rcases hf with rfl | rfl | rfl | rfl | rfl | rfl <;> exact (ft _ rfl).2.2.1 n
  · simp only [List.mem_cons, List.not_mem_nil, or_false] at hf
    rcases hf with rfl | rfl | rfl | rfl | rfl <;> exact (ft _ rfl).2.2.1 n
  · simp only [List.mem_cons, List.not_mem_nil, or_false] at hf
    rcases hf with rfl | rfl | rfl | rfl | rfl | rfl | rfl | rfl | rfl | rfl <;> exact (ft _ rfl).2.2.1 n
  · simp only [List.mem_cons, List.not_mem_nil, or_false] at hf
    rcases hf with rfl | rfl | rfl <;> exact (ft _ rfl).2.2.1 n
theorem t_bad1 {r : Int32} (h : tI s 0 ≠ 0) : F_bad r 0 s = some ((), s) := by unfold F_bad; rw [ifF h]
/-- too deep -/
theorem t_fill13 {cf' cm : Int32 → Int32 → Int32 → TS → Option (Unit × TS)} {x1 x2 : Int32} (h : tI s 0 = 0) : ∃ s', B_fill cf' cm x1 x2 (nI 13) s = some ((), s') ∧ Ft [132] (badT s 23) s' := by
  have b0 : tI (badT s 23) 0 ≠ 0 := badT_ne (by decide)
  refine ⟨tsI (badT s 23) 132 (tI (badT s 23) 132 + 1), ?_, (Ft.rf _ _).p_tsI rfl⟩
  have b1 : tI (tsI (badT s 23) 132 (tI (badT s 23) 132 + 1)) 0 ≠ 0 := b0
  have j40 : J_fill_40 cf' cm x1 x2 (nI 13) (tsI (badT s 23) 132 (tI (badT s 23) 132 + 1)) = some ((), tsI (badT s 23) 132 (tI (badT s 23) 132 + 1)) := by
    unfold J_fill_40
    rw [t_isBad1 b1, ob_some, ifF (show ¬ (1 : Int32) = 0 by decide)]
  unfold B_fill
  rw [ifF (show ¬ nI 13 ≤ 12 by decide), t_badT h, ob_some]
  unfold J_fill_13
  rw [nm_eq]
  by_cases q : tI (tsI (badT s 23) 132 (tI (badT s 23) 132 + 1)) 132 ≤ 1000
  · rw [ifT q, j40]
  · rw [ifF q, t_bad1 b1, ob_some, j40]
theorem el_step {cf1 cf2 : Nat → Nat → Int32 → Int32 → Int32 → CM → Option ((Unit ⊕ Nat) × CM)} {cf1' cf2' : Int32 → Int32 → Int32 → TS → Option (Unit × TS)} (hB1 : B ≤ 1280) (hel1 : d < 12 → ElP C B P mss fss cf1 cf1' (d + 1)) (h13 : d = 12 → ∀ x1 x2 s, tI s 0 = 0 → ∃ s', cf1' x1 x2 (nI 13) s = some ((), s') ∧ Ft [132] (badT s 23) s') (hel2 : d < 12 → ElP C B P mss fss cf2 cf2' (d + 1)) : ElP C B P mss fss (KB_X0_elements (KB_X0_extended cf1) (KB_X0_element (KB_X0_instances cf2))) (B_fill cf1' (B_makeMember cf2')) d := by
  intro D M σ V I Bm cr R E i tf cb fr W ks k F hC hk
  obtain ⟨g, g1, g2, g3, g4⟩ := F.2.2.2.1
  obtain ⟨G, hG, hGl⟩ := FUg
  have hd12 : d ≤ 12 := hC.2.2.2.2.1.1.2
  have h0 := F.g0
  have m24 : mss.length ≤ 24 := F.cn.2.1
  have i200 : i < 200 := by have := hC.1; have := F.lens; omega
  have l99 := F.2.1.1.2.1
  obtain ⟨W1, F1, s1, hh⟩ := F.vis (i := i) (g := g) ⟨g1, g2⟩
  obtain ⟨M1, hM1⟩ : ∃ N, N = msI M 31 1 (nI (g + 1)) := ⟨_, rfl⟩
  obtain ⟨σ1, hσ1⟩ : ∃ s, s = tsI σ 132 (nI (g + 1)) := ⟨_, rfl⟩
  rw [← hM1] at W1 F1 s1 hh
  rw [← hσ1] at W1 F1 s1
  have m31 : mI M1 31 1 = nI (g + 1) := by rw [hM1, mI_msI, ifT ⟨rfl, rfl⟩]
  have t132 : tI σ1 132 = nI (g + 1) := by rw [hσ1]; rfl
  have h01 : tI σ1 0 = 0 := by rw [hσ1]; exact h0
  have c1000 : nI (g + 1) ≤ (1000 : Int32) ↔ g + 1 ≤ 1000 := by rw [show (1000 : Int32) = nI 1000 from rfl, bI_le (by omega) (by decide)]
  have kh : KB_X0_elements (KB_X0_extended cf1) (KB_X0_element (KB_X0_instances cf2)) ((pl D 99).getD i 0) (mss.getD k 0) (nI fr) (nI (fr + (W ++ wcE i ks).length)) (nI d) M = if g + 1 ≤ 1000 then obS (KL_X0_elements_30 (KB_X0_extended cf1) (KB_X0_element (KB_X0_instances cf2)) FU ((pl D 99).getD i 0) (mss.getD k 0) (nI fr) (nI (fr + (W ++ wcE i ks).length)) (nI d) (nI 0) M1) (fun r56 M53 => some (r56, M53)) fun _ M53 => some (.inl (), M53) else ob (K_X0_wrong 24 0 M1) fun r58 M57 => if mk M57 r58 = 7 then some (.inr r58, M57) else none := by
    unfold KB_X0_elements
    rw [g1, nI_addL, nm_eq, ← hM1, m31]
    by_cases q : g + 1 ≤ 1000
    · rw [ifT q, ifT (c1000.mpr q)]; rfl
    · rw [ifF q, ifF (fun z => q (c1000.mp z))]
  have th : B_fill cf1' (B_makeMember cf2') (nI i) (nI k) (nI d) σ = if g + 1 ≤ 1000 then J_fill_40 cf1' (B_makeMember cf2') (nI i) (nI k) (nI d) σ1 else ob (F_bad 24 0 σ1) fun _ s => J_fill_40 cf1' (B_makeMember cf2') (nI i) (nI k) (nI d) s := by
    unfold B_fill
    rw [ifT (show nI d ≤ 12 from by rw [show (12 : Int32) = nI 12 from rfl, bI_le (by omega) (by decide)]; exact hd12)]
    unfold J_fill_13
    rw [g2, nI_addL, nm_eq, ← hσ1, t132]
    by_cases q : g + 1 ≤ 1000
    · rw [ifT q, ifT (c1000.mpr q)]
    · rw [ifF q, ifF (fun z => q (c1000.mp z))]
  rw [kh, th]
  by_cases q : g + 1 ≤ 1000
  · rw [ifT q, ifT q]
    obtain ⟨-, -, ⟨E0, es, c1, c2, c3, c4, c5, c6, c7⟩, -⟩ := F.cc hk
    have h480 : ix (tI σ 58) ≤ 480 := by
      obtain ⟨E0, e1, e2⟩ := F.1.1.2.2.2.2.2.2.1
      have h24 := F.1.1.2.2.2.2.1.1.1
      rw [e1, ix_nI (by omega)]
      omega
    have hD : ClD C P M σ k (mss.getD k 0) E0 es := ⟨c1, ⟨c2, c3, c6⟩, c7⟩
    have hD1 := hD.mv s1.1 s1.2.2.2.2.2.1 (F.cc hk).1.1.1 h480
    have hC1 := hC.st s1 ⟨l99, Nat.le_refl I⟩ (fun c hc => by rw [hh]; exact hC.2.2.2.2.2 c hc)
    have j40 : J_fill_40 cf1' (B_makeMember cf2') (nI i) (nI k) (nI d) σ1 = obS (L_fill_56 cf1' (B_makeMember cf2') FU (nI i) (nI k) (nI d) (nI (E0 + 0)) σ1) (fun r99 s96 => some (r99, s96)) fun _ s96 => some ((), s96) := by
      unfold J_fill_40
      rw [t_isBad0 h01, ob_some, ifT (rfl : (0 : Int32) = 0), ifT (inb_nI' (by omega) (by decide)), ix_nI (by omega), hD1.2.1.1, nm_eq]; rfl
    have hq := z_elsL (E0 := E0) hB1 hel1 h13 hel2 hk c4 es.length 0 FU G D M1 σ1 V I Bm (Nat.zero_add _) (by rw [show FU = G + 1 from hG]; omega) (by omega) ((F1 q).cr' (cr' := cr + es.length) (by omega)) hC1 hD1
    rw [← show FU = G + 1 from hG] at hq
    rw [j40]
    rcases hq with ⟨D2, M2, σ2, w2, y2, n1, n2, n3⟩ | ⟨D2, M2, σ2, V2, I2, Bm2, n1, n2, n3⟩
    · left
      refine ⟨D2, M2, σ2, w2, by rw [n1, obS_inr], ?_, s1.ff n3 i200⟩
      rw [n2]
      cases y2 <;> rfl
    · right
      obtain ⟨m1, m2, m3, m4, m5, m7, m6⟩ := n3
      refine ⟨D2, M2, σ2, V2, I2, Bm2, by rw [n1, obS_inl], by rw [n2, obS_inl], m1, m2, s1.tr m3 (Nat.le_refl _) (Nat.le_refl _) (Nat.le_refl _) (Nat.le_refl _) (Or.inl rfl) (Nat.le_refl _) i200, ⟨fun r hr hn => by rw [m4.1 r hr hn, hh], fun c hc => ⟨(m4.2 c hc).1, fun z => by rw [(m4.2 c hc).2 z, hh]⟩⟩, m5, ⟨m7.1, m7.2.1, m7.2.2.1, by
        have f12 := m3.2.2.2.2.2.1
        have := CnL.all (k := k) (E0 := E0) (len := es.length) m7.2.2.2 (by omega) (by rw [(f12 45 rfl).2.2.1]; exact hD1.2.1.1) (by rw [(f12 46 rfl).2.2.1]; exact hD1.2.1.2.1) (by have := hD1.2.1.2.2; rw [(s1.2.2.2.2.2.1 58 rfl).1] at this; omega)
        rw [show 12 - d + 1 = 13 - d by omega] at this
        exact this⟩, ?_⟩
      have f12 := m3.2.2.2.2.2.1
      exact HasL.all (E0 := E0) (len := es.length) m6 (by rw [(f12 45 rfl).2.2.1]; exact hD1.2.1.1) (by omega) c4 hd12 (by rw [(f12 46 rfl).2.2.1]; exact hD1.2.1.2.1) (by have := hD1.2.1.2.2; omega)
  · rw [ifF q, ifF q]
    left
    obtain ⟨b1, b2, b3⟩ := W1.bad (r := 24) (by decide) h01
    refine ⟨D, _, _, _, by rw [b1, ob_some, ifT (wM_k M1 24 0)], ?_, s1.ff (b3.mono (fun _ z => z) (by decide) (by decide)) i200⟩
    rw [b2, ob_some]
    unfold J_fill_40
    rw [t_isBad1 (badT_ne (by decide)), ob_some, ifF (show ¬ (1 : Int32) = 0 by decide)]
theorem el_all (hB1 : B ≤ 1280) : ∀ (j d n m : Nat), d + j = 12 → 3 * j + 3 ≤ n → 2 * j + 2 ≤ m → ElP C B P mss fss (KG_X0_element n).2.1 (G_fill m).1 d := by
  intro j
  induction j with
  | zero =>
    intro d n m hd hn hm
    obtain ⟨n, rfl⟩ : ∃ g, n = g + 3 := ⟨n - 3, by omega⟩
    obtain ⟨m, rfl⟩ : ∃ g, m = g + 2 := ⟨m - 2, by omega⟩
    exact el_step (cf1 := (KG_X0_element (n + 1)).2.1) (cf2 := (KG_X0_element n).2.1) (cf1' := (G_fill (m + 1)).1) (cf2' := (G_fill m).1) hB1 (fun h => by omega) (fun _ x1 x2 s h => t_fill13 h) (fun h => by omega)
  | succ j ih =>
    intro d n m hd hn hm
    obtain ⟨n, rfl⟩ : ∃ g, n = g + 3 := ⟨n - 3, by omega⟩
    obtain ⟨m, rfl⟩ : ∃ g, m = g + 2 := ⟨m - 2, by omega⟩
    exact el_step (cf1 := (KG_X0_element (n + 1)).2.1) (cf2 := (KG_X0_element n).2.1) (cf1' := (G_fill (m + 1)).1) (cf2' := (G_fill m).1) hB1 (fun h => ih (d + 1) (n + 1) (m + 1) (by omega) (by omega) (by omega)) (fun h => by omega) (fun h => ih (d + 1) n m (by omega) (by omega) (by omega))
/-- a whole class from the root -/
theorem z_root (hB1 : B ≤ 1280) : ElP C B P mss fss K_X0_elements F_fill 1 := el_all hB1 11 1 300 100 rfl (by decide) (by decide)
end ELP3
