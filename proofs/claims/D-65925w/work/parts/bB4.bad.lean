/-! Layer B: load: a text with a fault -/
set_option maxRecDepth 100000
section LDBAD
variable {C : PC} {M M1 M5 M' M6 M7 : CM} {σ σ' σ2 σ6 σ7 : TS} {mss fss : List Nat} {B len m L L' t o l w : Nat} {P : Nat → Prop} {b : Nat → Int32} {pos : Nat → Nat} {x1 x2 x3 x4 x5 x6 x7 : Int32}
abbrev ldS : List Nat := [0, 1, 10, 11, 12, 13, 14, 15, 16, 17, 18, 20, 21, 24, 25, 26, 27, 28, 29, 30, 31, 32, 33, 34, 35, 36, 37, 38, 39, 40, 41, 42, 43, 44, 45, 46, 47, 48, 49, 50, 51, 52, 53, 54, 55, 56, 57, 58, 59, 60, 61, 62, 63, 64, 65, 66, 67, 68, 69, 70, 71, 72, 73]
set_option maxHeartbeats 1000000 in
theorem ld_bad (H : LdC C B len P mss fss M M1 M5 σ σ2 m L L' t) (h : FL (bgC C b len m t pos (mn M5 + 16 * t + 120) (ms M5 + 2048 * t + 12000) (2399 - (B + t))) M5 σ2 M6 w σ6) (fl : Ft ldS σ2 σ6) (hx : (x1 = tI σ2 28 ∧ x2 = tI σ2 34 ∧ x3 = tI σ2 48 ∧ x4 = tI σ2 49) ∧ x5 = tI σ2 58 ∧ x6 = tI σ2 65 ∧ x7 = tI σ2 72) : ∃ r M' σ', K_X0_fails w (msI M6 1 1 0) = some (r, M') ∧ J_load_147 x1 x2 x3 x4 x5 x6 x7 σ6 = some (r, σ') ∧ LdO C B len P mss M σ M' σ' := by
  obtain ⟨⟨hx1, hx2, hx3, hx4⟩, hx5, hx6, hx7⟩ := hx
  obtain ⟨⟨e1, e2, e3, e4, e5⟩, bd, F56, tw, S6, ⟨b5, l5⟩, ⟨b6, l6⟩, ⟨b7, l7⟩, ha⟩ := h
  obtain ⟨⟨K0, -, h167, k90, k2, k91⟩, ⟨c1, c2, c3, c4⟩, ⟨kt, K9, u1, u2, u3⟩, ⟨l88, l89, -, -, -, g88, g89, hS⟩, ⟨⟨m24, t49⟩, f12, cf, t48, hfn⟩, hT, ⟨E, v1, v2⟩, ⟨K, y1, y2, y3⟩, ⟨Q, q1, q2, q3⟩, ⟨N, w1, w2, w3⟩, ⟨Q2, z1, z2, z3⟩⟩ := H.1.1
  obtain ⟨-, k1, ht, hB, W⟩ := H.1
  obtain ⟨kT, KM1, W1, hLL, hmn1, hm, hw1⟩ := H.2.1
  obtain ⟨F15, n5, m5, r5⟩ := H.2.2.1
  obtain ⟨F2, z7⟩ := H.2.2.2.1
  have hcap := H.2.2.2.2
  have hL4 := W1.2.2.2.2.2.1
  obtain ⟨σ7, hσ7⟩ : ∃ σ7, σ7 = rsT x1 x2 x3 x4 x5 x6 x7 σ6 := ⟨_, rfl⟩
  obtain ⟨M7, hM7⟩ : ∃ M7, M7 = msI (msI (msI M6 1 1 0) 4 1 (tI σ6 0)) 5 1 (tI σ6 1) := ⟨_, rfl⟩
  have kf : K_X0_fails w (msI M6 1 1 0) = some (-5, M7) := by
    have a1 : mI (msI M6 1 1 0) 1200 w = tI σ6 0 := by rw [mI_msI, ifF (by omega)]; exact e3
    have a2 : mI (msI (msI M6 1 1 0) 4 1 (tI σ6 0)) 1201 w = tI σ6 1 := by rw [mI_msI, ifF (by omega), mI_msI, ifF (by omega)]; exact e4
    unfold K_X0_fails
    rw [ifT (show mk (msI M6 1 1 0) w = 7 from e2), nm_eq, a1, ifT (show mk (msI (msI M6 1 1 0) 4 1 (tI σ6 0)) w = 7 from e2), nm_eq, a2, ← hM7]
  have tf : J_load_147 x1 x2 x3 x4 x5 x6 x7 σ6 = some (-5, σ7) := by rw [t_load_bad e5, hσ7]
  have tQ : tE σ2 ≤ 2400 := by unfold tE; rw [(F2 72 rfl).1, q1, ix_nI (by omega)]; omega
  obtain ⟨rz, rc, rf⟩ := rs_keep tw tQ (r := σ7) (by rw [hσ7, hx1, hx2, hx3, hx4, hx5, hx6, hx7])
  have i49 : ix (tI σ2 49) = mss.length := by rw [(F2 49 rfl).1, t49, ix_nI (by omega)]
  have i48 : ix (tI σ2 48) = cnf C := by rw [(F2 48 rfl).1, t48, ix_nI (by omega)]
  rw [i49] at rc
  rw [i48] at rf
  have hz : Tz σ σ7 ∧ Qz σ σ7 ∧ Mz σ σ7 ∧ Ez σ σ7 := ⟨(Tz.ft F2 (by decide)).tr rz.1, (Qz.ft F2 (by decide)).tr rz.2.1, (Mz.ft F2 (by decide)).tr rz.2.2.1, (Ez.ft F2 (by decide)).tr rz.2.2.2⟩
  have h42 : ∀ k, k < cnf C → tA σ7 42 k = tA σ 42 k := fun k hk => ((rf k hk).1 42 (Or.inl rfl)).trans ((F2 42 rfl).2.2.1 k)
  have G7 : Fz (fun o => o = 1) M6 M7 := by rw [hM7]; exact (((Fz.rf (X := fun o => o = 1)).msI (fun _ => rfl)).msI (fun _ => rfl)).msI (fun _ => rfl)
  have n7 : mn M7 = mn M6 ∧ ms M7 = ms M6 := by rw [hM7]; exact ⟨rfl, rfl⟩
  have r7 : ∀ g o, mR M7 g o = mR M6 g o := fun g o => by rw [hM7]; rfl
  have k7 : ∀ o, mk M7 o = mk M6 o := fun o => by rw [hM7]; rfl
  have s1 := H.s1 F56
  have i7 : ∀ g, g ≠ 1 → g ≠ 4 → g ≠ 5 → mI M7 g 1 = mI M g 1 := fun g h1 h4 h5 => by rw [hM7, mI_msI, ifF (by omega), mI_msI, ifF (by omega), mI_msI, ifF (by omega)]; exact s1.i g
  have hfC : ∀ k, k ≠ 1001 → cfn (bgC C b len m t pos (mn M5 + 16 * t + 120) (ms M5 + 2048 * t + 12000) (2399 - (B + t))) k = cfn C k := fun k hk => bgC_fn hk
  obtain ⟨C', hC'⟩ : ∃ C', C' = bgC C b len m t pos (mn M5 + 16 * t + 120) (ms M5 + 2048 * t + 12000) (2399 - (B + t)) := ⟨_, rfl⟩
  have bd1 : mn M6 ≤ mn M5 + 16 * t + 120 ∧ ms M6 ≤ ms M5 + 2048 * t + 12000 := bd
  rw [← hC'] at hfC
  have hC : cm C' = m ∧ cnl C' = 0 ∧ car C' = 0 ∧ cnf C' = cnf C := by rw [hC']; exact ⟨rfl, rfl, rfl, rfl⟩
  obtain ⟨v, Fd, KK, WW, kk⟩ := H.wv (C' := C') F56 (G7.mono (fun o _ z => Or.inl z)) hz h42 hC.1 ⟨by omega, by omega⟩ (fun k hk => hfC k (by omega)) (Nat.le_of_eq (hfC 1000 (by decide))) hC.2.2.1
  have row : ∀ l, l = 88 ∨ l = 89 → So M M7 l ∧ (mR M 4201 l ≠ 4398046511104 → So M M7 (mR M 4201 l)) := fun l hl => by
    have hl2 : l ∈ arL := by rcases hl with rfl | rfl <;> decide
    have f := (H.f6 F56).1
    obtain ⟨a, b⟩ := H.row F56 hl
    refine ⟨a.tr (G7.so (by omega) (by omega)), fun z => (b z).tr (G7.so ?_ ?_)⟩
    · rcases H.ar hl2 with g | g <;> omega
    · rcases H.ar hl2 with g | g <;> omega
  have kM : ∀ o, o < mn M → mk M7 o = mk M o := v.1.2
  have n0 := v.1.1
  have k6 : mk M6 1 = 1 := by rw [s1.k]; exact k1
  have l67 : ∀ l xs, l ∈ arL → Ls M6 l xs → Ls M7 l xs := fun l xs hl h => h.fz G7 (by have := F56.1; have := arL_lt hl; omega) (fun o z => by rw [z, k6]; exact ⟨by decide, by decide⟩)
  have fD : ∀ k, k ∈ [19, 22, 23] → tI σ7 k = tI σ k ∧ ∀ i, tB σ7 k i = tB σ k i := fun k hk => by
    have h1 : ([0, 2, 3, 28, 34, 48, 49, 58, 65, 72] : List Nat).contains k = false ∧ ldS.contains k = false ∧ ([0, 5, 7, 8, 10, 11, 12, 13, 14, 15, 16, 17, 18, 20, 21, 37, 38, 39] : List Nat).contains k = false := by
      simp only [List.mem_cons, List.not_mem_nil, or_false] at hk
      rcases hk with rfl | rfl | rfl <;> exact ⟨rfl, rfl, rfl⟩
    have r := rs_ft (σ := σ6) (x1 := x1) (x2 := x2) (x3 := x3) (x4 := x4) (x5 := x5) (x6 := x6) (x7 := x7) k h1.1
    rw [← hσ7] at r
    exact ⟨by rw [r.1, (fl k h1.2.1).1, (F2 k h1.2.2).1], fun i => by rw [r.2.2.2, (fl k h1.2.1).2.2.2, (F2 k h1.2.2).2.2.2]⟩
  have TPn : TP C' (fun _ => True) M7 M7 σ7 mss P := by
    refine ⟨fun o ho => ⟨Or.inl trivial, ⟨(H.nx ho).1.1, by have := (H.nx ho).1.2; omega⟩, fun ⟨l, hl, q⟩ => ?_, fun q => ?_⟩, fun k hk => (hT.2.1 k hk).wz v (fun _ q => q) (fun f hf => ((rc k hk).1 f hf).trans ((F2 f (by rcases hf with rfl | rfl | rfl | rfl <;> rfl)).2.2.1 k)) ((rc k hk).2.trans ((F2 41 rfl).2.2.2 k)), fun k hk => ?_, hT.2.2.2⟩
    · have hlt := (H.nx ho).1.2
      rw [r7] at q
      rcases ha l hl with g | g
      · rw [g, H.r5 hl] at q; exact (H.nx ho).2.2 l hl q
      · have := H.2.1.1.1; omega
    · have hlt := (H.nx ho).1.2
      have s4 : mR M6 201 4 = mR M1 201 4 := ((H.f16 F56).so (o := 4) (by have := kT.1; omega) (fun z => by
        have a5 := H.ar (l := 95) (by decide)
        have a6 := H.ar (l := 96) (by decide)
        have a7 := H.ar (l := 97) (by decide)
        unfold X16 at z; omega)).r 201
      rw [r7, s4] at q
      rcases kT.2.2.2.2.2.2.2 with g | g
      · rw [g] at q; exact (hT.1 o ho).2.2.2 q
      · omega
    · have hk' : k < cnf C := by rw [← hC.2.2.2]; exact hk
      exact (hT.2.2.1 k hk').wz v (fun _ q => q) hk' (((rf k hk').1 43 (Or.inr rfl)).trans ((F2 43 rfl).2.2.1 k))
  have c7 : ∀ k, tI σ7 k = tI (rsT x1 x2 x3 x4 x5 x6 x7 σ6) k := fun k => by rw [hσ7]
  refine ⟨-5, M7, σ7, kf, tf, C', P, [], fss, ?_, fun o h => Or.inl h, v, Fd, ⟨fun g h1 h4 h5 _ => i7 g h1 h4 h5, fun g => by rw [r7]; exact s1.r g⟩, bt0 ?_ ?_, ⟨?_, ?_⟩, ?_, ?_, ?_, ?_, fun l hl => ?_⟩
  · rw [List.append_nil]
    refine ⟨⟨KK, ⟨L', by rw [hC.1]; exact WW⟩, by omega, kk⟩, ⟨hC.2.1, hC.2.2.1, by rw [hfC 1000 (by decide)]; exact c3, by rw [hC.1]; omega⟩, ⟨⟨by rw [(fD 22 (by decide)).1]; exact kt.1, fun j hj => by rw [(fD 23 (by decide)).2]; exact kt.2 j hj⟩, K9, by rw [i7 9 (by decide) (by decide) (by decide)]; exact u1, by rw [(fD 19 (by decide)).1]; exact u2, by omega⟩, ⟨l88.kp n0 kM (row 88 (Or.inl rfl)).1 (row 88 (Or.inl rfl)).2, l89.kp n0 kM (row 89 (Or.inr rfl)).1 (row 89 (Or.inr rfl)).2, ⟨b5, l67 95 _ (by decide) l5⟩, ⟨b6, l67 96 _ (by decide) l6⟩, ⟨b7, l67 97 _ (by decide) l7⟩, g88.kp n0 kM (row 88 (Or.inl rfl)).1 (row 88 (Or.inl rfl)).2, g89.kp n0 kM (row 89 (Or.inr rfl)).1 (row 89 (Or.inr rfl)).2, fun l hl => ?_⟩, ⟨⟨m24, ?_⟩, f12, by rw [hC.2.2.2]; exact cf, ?_, fun k hk => ?_⟩, TPn, ⟨E, ?_, v2⟩, ⟨K, ?_, y2, by omega⟩, ⟨Q, ?_, q2, by omega⟩, ⟨N, ?_, w2, by omega⟩, Q2, ?_, z2, by omega⟩
    · obtain ⟨a1, a2⟩ := S6 l hl
      refine ⟨by rw [k7]; exact a1, ?_⟩
      rw [r7, k7, n7.1]
      rcases a2 with q | ⟨q1, q4⟩
      · exact Or.inl q
      · exact Or.inr ⟨q1, fun l' hl' hne => by rw [r7]; exact q4 l' hl' hne⟩
    · rw [c7]; show x4 = _; rw [hx4, (F2 49 rfl).1]; exact t49
    · rw [c7, hC.2.2.2]; show x3 = _; rw [hx3, (F2 48 rfl).1]; exact t48
    · have hk' : k < cnf C := by rw [← hC.2.2.2]; exact hk
      exact ⟨by rw [hfC k (by omega)]; exact (hfn k hk').1, (hfn k hk').2.wz (hT.2.2.1 k hk') v hk' ((rf k hk').2.trans ((F2 40 rfl).2.2.2 k))⟩
    · rw [c7]; show x5 = _; rw [hx5, (F2 58 rfl).1]; exact v1
    · rw [c7]; show x6 = _; rw [hx6, (F2 65 rfl).1]; exact y1
    · rw [c7]; show x7 = _; rw [hx7, (F2 72 rfl).1]; exact q1
    · rw [c7]; show x1 = _; rw [hx1, (F2 28 rfl).1]; exact w1
    · rw [c7]; show x2 = _; rw [hx2, (F2 34 rfl).1]; exact z1
  · rw [hM7, mI_msI, ifF (by omega), mI_msI, ifF (by omega), mI_msI, ifT ⟨rfl, rfl⟩]
  · rw [c7]; show tI σ6 7 = 0; rw [(fl 7 rfl).1]; exact z7
  · rw [hM7, mI_msI, ifF (by omega), mI_msI, ifT ⟨rfl, rfl⟩, c7]; rfl
  · rw [hM7, mI_msI, ifT ⟨rfl, rfl⟩, c7]; rfl
  · rw [c7]; rfl
  · rw [W.2.2.1, WW.2.2.1]; omega
  · rw [W.2.2.1, WW.2.2.1]; omega
  · have s4 : mR M6 201 4 = mR M1 201 4 := ((H.f16 F56).so (o := 4) (by have := kT.1; omega) (fun z => by
      have a5 := H.ar (l := 95) (by decide)
      have a6 := H.ar (l := 96) (by decide)
      have a7 := H.ar (l := 97) (by decide)
      unfold X16 at z; omega)).r 201
    rw [r7, s4]; exact kT.2.2.2.2.2.2.2
  · rw [r7]
    rcases ha l hl with g | g
    · exact Or.inl (g.trans (H.r5 hl))
    · exact Or.inr (by have := H.2.1.1.1; omega)
end LDBAD
