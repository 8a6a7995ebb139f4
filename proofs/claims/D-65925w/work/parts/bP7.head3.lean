/-! Layer B: the flat model: its head, both sides -/
set_option maxRecDepth 100000
section HEAD3
variable {C : PC} {D D' : FQ} {M M' M1 M2 : CM} {σ σ' s : TS} {mss fss : List Nat} {B V I Bm k g o : Nat} {P : Nat → Prop} {x1 : Int32} {T : Nat → Prop} {S : List Nat}
/-- resets, and the root -/
theorem z_head0 (W : FW C B P mss fss D M σ) (hk : k < mss.length) (h0 : tI σ 0 = 0) (h171 : tI σ 171 = 0) (h43 : mI M 43 1 = tI σ 156) : ∃ D' M', K_X0_flatten (mss.getD k 0) M = kF1 (mss.getD k 0) ((pl D' 99).getD 0 0) M' ∧ F_makeFlat (nI k) σ = tF1 (nI k) (tF0 (nI k) σ) ∧ FiS C B P mss fss D' M' (tF0 (nI k) σ) 0 1 0 0 0 0 ∧ Cx C P D' M' (tF0 (nI k) σ) 1 0 0 1 0 0 0 0 [] [] ∧ HdF k M' (tF0 (nI k) σ) ∧ SgX M M' σ (tF0 (nI k) σ) ∧ Wz C C P M M' σ (tF0 (nI k) σ) := by
  have h167 := W.n167
  have F1 : Fz (fun o => o = 1) M (kRs rsL M) := kRs_f rsL M M Fz.rf
  obtain ⟨r1, l1, n1, s1⟩ := kRs_o rsL M
  obtain ⟨M1, hM1⟩ : ∃ q, q = kRs rsL M := ⟨_, rfl⟩
  have i1 : ∀ g o, mI M1 g o = if o = 1 ∧ rsL.contains g = true then 0 else mI M g o := fun g o => by rw [hM1]; exact kRs_i rsL M
  rw [← hM1] at F1 r1 l1 n1 s1
  obtain ⟨W1, v1, -⟩ := W.w2 F1 (fun o _ z => Or.inl (Or.inl (by omega))) ⟨n1, s1⟩ (fun o => ⟨r1 _ _, r1 _ _, l1 o⟩) (fun o => r1 _ _) (by rw [i1, ifF (by decide)]) (fun q _ => r1 _ _) (fun q hq => by rw [i1, ifF (fun z => by have := fixI q hq; omega)]) (Ft.rf [] σ) (by decide)
  obtain ⟨M2, c1, c2, c3, c4, c5, c6, c7⟩ := ls_clear (W1.2.1.1 102 (by decide)).1 (by have := W1.n167; omega) (by have := W1.rm; omega)
  obtain ⟨W2, v2, q2⟩ := W1.cut (Or.inl rfl) c2 (Nat.zero_le _) c3 c4 c5 c7 (Ft.rf [] σ) (by decide)
  obtain ⟨M3, d1, d2, d3, d4, d5, d6, d7⟩ := ls_clear (W2.2.1.1 109 (by decide)).1 (by have := W2.n167; omega) (by have := W2.rm; omega)
  obtain ⟨W3, v3, q3⟩ := W2.cut (Or.inr rfl) d2 (Nat.zero_le _) d3 d4 d5 d7 (Ft.rf [] σ) (by decide)
  obtain ⟨D2, hD2⟩ : ∃ q, q = d9 109 [] (d9 102 [] D) := ⟨_, rfl⟩
  rw [← hD2] at W3
  obtain ⟨M4, hM4⟩ : ∃ q, q = msR (msI (msI (msI M3 24 1 0) 604 105 0) 605 105 0) 27 1 105 := ⟨_, rfl⟩
  have F4 : Fz (fun o => o = 1 ∨ o = 105) M3 M4 := by
    rw [hM4]
    exact ((((Fz.rf (X := fun o => o = 1 ∨ o = 105)).msI (fun _ => Or.inl rfl)).msI (fun _ => Or.inr rfl)).msI (fun _ => Or.inr rfl)).msR (fun _ => Or.inl rfl)
  have i4 : ∀ g o, ¬ (g = 24 ∧ o = 1) → ¬ (g = 604 ∧ o = 105) → ¬ (g = 605 ∧ o = 105) → mI M4 g o = mI M3 g o := fun g o z1 z2 z3 => by
    rw [hM4, mI_msR, mI_msI, ifF z3, mI_msI, ifF z2, mI_msI, ifF z1]
  have r4 : ∀ g o, ¬ (g = 27 ∧ o = 1) → mR M4 g o = mR M3 g o := fun g o z => by rw [hM4, mR_msR, ifF z]; rfl
  obtain ⟨W4, v4, -⟩ := W3.w2 F4 (fun o _ z => by
    rcases z with z | z
    · exact Or.inl (Or.inl (by omega))
    · exact Or.inl (Or.inr ⟨by omega, by omega, by rw [z]; decide⟩)) (by rw [hM4]; exact ⟨rfl, rfl⟩) (fun o => ⟨r4 _ _ (fun z => absurd z.1 (by decide)), r4 _ _ (fun z => absurd z.1 (by decide)), by rw [hM4]; rfl⟩) (fun o => r4 _ _ (fun z => absurd z.1 (by decide))) (i4 _ _ (by decide) (by decide) (by decide)) (fun q hq => r4 _ _ (fun z => by have := fixO q hq; omega)) (fun q hq => by
      have : ∀ q, q ∈ bfI → q.1 ≠ 24 ∧ q.1 ≠ 604 ∧ q.1 ≠ 605 := by decide +kernel
      exact i4 _ _ (fun z => (this q hq).1 z.1) (fun z => (this q hq).2.1 z.1) (fun z => (this q hq).2.2 z.1)) (Ft.rf [] σ) (by decide)
  have hFU : 400 < FU := by unfold FU; decide
  obtain ⟨M5, e1, e2, e3, e4, e5, -, e7⟩ := k_86 (mss.getD k 0) 400 0 FU M4 (Nat.zero_add _) hFU
  obtain ⟨W5, v5, -⟩ := W4.w2 e2 (fun o _ z => Or.inl (Or.inr ⟨by omega, by omega, by rw [z]; decide⟩)) e3 (fun o => ⟨(e4 _ _).1, (e4 _ _).1, e5 o⟩) (fun o => (e4 _ _).1) (e4 _ _).2 (fun q _ => (e4 _ _).1) (fun q _ => (e4 _ _).2) (Ft.rf [] σ) (by decide)
  have so2 : ∀ o, o < 167 → o ≠ 102 → So M1 M2 o := fun o ho h => Fz.so q2 (by have := W1.n167; omega) (fun z => by rw [tgo_s ho] at z; exact h z)
  have so3 : ∀ o, o < 167 → o ≠ 109 → So M2 M3 o := fun o ho h => Fz.so q3 (by have := W2.n167; omega) (fun z => by rw [tgo_s ho] at z; exact h z)
  have so4 : ∀ o, o < 167 → o ≠ 1 → o ≠ 105 → So M3 M4 o := fun o ho h h' => F4.so (by have := W3.n167; omega) (by omega)
  have so5 : ∀ o, o < 167 → o ≠ 115 → So M4 M5 o := fun o ho h => e2.so (by have := W4.n167; omega) h
  have k1 : ∀ g, g ≠ 24 → mI M5 g 1 = mI M1 g 1 := fun g hg => by
    rw [(e4 g 1).2, i4 g 1 (fun z => hg z.1) (by omega) (by omega), (so3 1 (by decide) (by decide)).i, (so2 1 (by decide) (by decide)).i]
  have z1 : ∀ g, rsL.contains g = true → mI M1 g 1 = 0 := fun g hg => by rw [i1, ifT ⟨rfl, hg⟩]
  obtain ⟨D6, M6, a1, a2, a3, a4, a5, a6, a7, a8, ⟨⟨b1, b2, b3, b4, b5⟩, b6⟩, a9⟩ := k_newInst (R := 0) W5.2.1 W5.n167 (by rw [k1 16 (by decide), z1 16 rfl]; rfl) (Nat.zero_le _) (by decide) W5.rN W5.rS 0 (mss.getD k 0) (-1) 0
  have ff : Ft tfS σ (tF0 (nI k) σ) := tF0_f
  obtain ⟨W6, v6⟩ := W5.mv (a6.mono (fun t y => by unfold TFf tg at *; omega)) a7 (by decide) a2 a4 a9 ff (by decide)
  have so6 : ∀ o, o < 167 → o ≠ 1 → o ≠ 99 → So M5 M6 o := fun o ho h h' => Fz.so a6 (by have := W5.n167; omega) (fun z => by rw [tgo_s ho] at z; unfold tg at z; omega)
  have p102 : pl D6 102 = [] := by rw [a5 102 (by decide), hD2, d9_o (by decide), d9_l]
  have p109 : pl D6 109 = [] := by rw [a5 109 (by decide), hD2, d9_l]
  have L102 := (W6.2.1.1 102 (by decide)).1
  have L109 := (W6.2.1.1 109 (by decide)).1
  rw [p102] at L102
  rw [p109] at L109
  have k6 : ∀ g, g ≠ 16 → g ≠ 24 → mI M6 g 1 = mI M1 g 1 := fun g h1 h2 => by
    rw [a7.1 g (by cases e : ([16] : List Nat).contains g with
      | false => rfl
      | true => exact absurd (by simpa using e) h1), k1 g h2]
  refine ⟨D6, M6, ?_, ?_, ⟨W6, ⟨⟨Nat.zero_le _, by omega, Nat.zero_le _⟩, fun n hn => ?_, fun b hb => absurd hb (Nat.not_lt_zero _), fun v hv => absurd hv (Nat.not_lt_zero _)⟩, ⟨⟨by rw [k6 15 (by decide) (by decide), z1 15 rfl]; rfl, rfl, by decide⟩, ⟨a8, rfl, by decide⟩, by rw [k6 17 (by decide) (by decide), z1 17 rfl]; rfl, rfl⟩, ⟨0, by rw [k6 31 (by decide) (by decide), z1 31 rfl]; rfl, rfl, by decide, by decide⟩, ⟨by rw [k6 18 (by decide) (by decide), z1 18 rfl]; rfl, Nat.zero_le _⟩, ⟨rfl, by rw [(ff 0 rfl).1]; exact h0⟩, [], L102, p102, List.Pairwise.nil, fun b hb => by cases hb⟩, ⟨by decide, ⟨⟨by decide, rfl, rfl, by decide⟩, fun j hj => absurd hj (Nat.not_lt_zero _), fun a ha => absurd ha List.not_mem_nil, ⟨rfl, rfl, by decide, fun j hj => absurd hj (Nat.not_lt_zero _)⟩, by decide⟩, fun j hj => absurd hj (Nat.not_lt_zero _), Nat.zero_le _, ⟨by decide, by decide, by decide, by decide, by decide⟩, fun c hc => absurd hc (Nat.not_lt_zero _)⟩, ⟨⟨by rw [k6 32 (by decide) (by decide), z1 32 rfl], ?_, by rw [k6 35 (by decide) (by decide), z1 35 rfl], by rw [k6 37 (by decide) (by decide), z1 37 rfl], by rw [k6 39 (by decide) (by decide), z1 39 rfl], by rw [k6 41 (by decide) (by decide), z1 41 rfl]⟩, ?_, ⟨?_, ?_⟩, fun j hj => ?_, L109.2.1, fun f hf => ?_, ⟨rfl, rfl⟩, ?_, (tF0_a 74).trans rfl⟩, ?_, ?_⟩
  · exact k_mkHd (by rw [← hM1]; exact c1) d1 (W3.2.2.2.1.1 (105, 4, 0) (by decide)).1 (by rw [← hM4]; exact e1) a1
  · exact t_mkHd
  · obtain rfl : n = 0 := by omega
    exact ⟨b1, Or.inl ⟨rfl, b2, rfl⟩, ⟨k, hk, b3, rfl⟩, [], b6, fun b hb => absurd hb List.not_mem_nil, rfl, fun b c hb => absurd hb List.not_mem_nil, fun b hb => absurd hb (Nat.not_lt_zero _), List.Pairwise.nil⟩
  · rw [a7.1 24 rfl, (e4 24 1).2, hM4, mI_msR, mI_msI, ifF (by decide), mI_msI, ifF (by decide), mI_msI, ifT ⟨rfl, rfl⟩]
  · rw [a7.2 27, (e4 27 1).1, hM4, mR_msR, ifT ⟨rfl, rfl⟩]
  · rw [(so6 105 (by decide) (by decide) (by decide)).i, (e4 604 105).2, hM4, mI_msR, mI_msI, ifF (by decide), mI_msI, ifT ⟨rfl, rfl⟩]
  · rw [(so6 105 (by decide) (by decide) (by decide)).i, (e4 605 105).2, hM4, mI_msR, mI_msI, ifT ⟨rfl, rfl⟩]
  · rw [(so6 115 (by decide) (by decide) (by decide)).a]; exact e7 j (Nat.zero_le _) hj
  · simp only [List.mem_cons, List.not_mem_nil, or_false] at hf
    rcases hf with rfl | rfl | rfl | rfl | rfl | rfl | rfl | rfl | rfl | rfl | rfl | rfl
    all_goals first | rfl | exact ((ff 171 rfl).1).trans h171
  · rw [k6 43 (by decide) (by decide), i1, ifF (by decide), h43, (ff 156 rfl).1]
  · exact SgX.mk1 (fun o h1 h2 => ((((((F1.so (by omega) (by omega)).tr (so2 o (by omega) (by omega))).tr (so3 o (by omega) (by omega))).tr (so4 o (by omega) (by omega) (by omega))).tr (so5 o (by omega) (by omega))).tr (so6 o (by omega) (by omega) (by omega)))) (fun f hf => by
      have : ∀ g, fgO.contains g = false → g ≠ 16 ∧ g ≠ 24 ∧ rsL.contains g = false := fun g hg => by
        refine ⟨fun z => by rw [z] at hg; exact absurd hg (by decide), fun z => by rw [z] at hg; exact absurd hg (by decide), ?_⟩
        cases e : rsL.contains g with
        | false => rfl
        | true =>
          have a : rsL.all fgO.contains = true := by decide
          have := List.all_eq_true.mp a g (by simpa using e)
          rw [hg] at this; cases this
      obtain ⟨t1, t2, t3⟩ := this f hf
      rw [k6 f t1 t2, i1, ifF (fun z => by rw [t3] at z; exact absurd z.2 (by decide))]) (ff.mono (by decide))
  · exact ((((v1.tr v2 (fun _ z => z)).tr v3 (fun _ z => z)).tr v4 (fun _ z => z)).tr v5 (fun _ z => z)).tr v6 (fun _ z => z)
end HEAD3
