/-! Layer B: the flat model: its head joined: elements, outer members, the state while it is built -/
set_option maxRecDepth 100000
section HEAD4
variable {C : PC} {D D' D1 D2 : FQ} {M M' M1 M2 M3 : CM} {σ σ' s σ1 σ2 σ3 σ5 : TS} {mss fss os : List Nat} {B V I Bm k g o w tf : Nat} {P : Nat → Prop} {x1 : Int32} {T : Nat → Prop} {S : List Nat} {z7 : Nat → Nat}
theorem t_158b (h : tI s 0 ≠ 0) (x : Int32) : L_makeFlat_158 (tf + 1) x s = some ((), s) := by
  rw [L_makeFlat_158]
  by_cases q : tI s 89 ≤ x
  · rw [ifT q]
  · rw [ifF q, t_isBad1 h, ob_some, ifF (show ¬ (1 : Int32) = 0 by decide)]
theorem t_202b (h : FfB C B P mss fss M M' σ s w) (h7 : ∃ v, v ≤ 96 ∧ tI s 107 = nI v) : ∃ s', J_makeFlat_202 s = some ((), s') ∧ FfB C B P mss fss M M' σ s' w := by
  obtain ⟨v, hv, h7⟩ := h7
  have h400 : 400 < FU := by unfold FU; decide
  obtain ⟨g, hg⟩ := fu1
  obtain ⟨s1, a1, a2, -⟩ := t_204 400 0 FU s (Nat.zero_add _) h400
  obtain ⟨s2, b1, b2, -⟩ := t_226 hv v 0 FU s1 (Nat.zero_add _) (by rw [(a2 107 rfl).1]; exact h7) (by omega)
  have g2 := (h.tws a2 (by decide) (by decide) ⟨rfl, rfl⟩ ⟨rfl, rfl, rfl⟩).tws b2 (by decide) (by decide) ⟨rfl, rfl⟩ ⟨rfl, rfl, rfl⟩
  have g3 : FfB C B P mss fss M M' σ (tsI (tsI s2 130 1) 138 1) w := (g2.i (by omega)).i (by omega)
  obtain ⟨s', e1, e2⟩ := t_344b g3
  refine ⟨s', ?_, e2⟩
  unfold J_makeFlat_202
  rw [show L_makeFlat_204 FU 0 s = some ((), s1) from a1, ob_some, show L_makeFlat_226 FU 0 s1 = some ((), s2) from b1, ob_some, nm_eq, nm_eq, hg, t_280b g3.ne, ob_some, e1]
theorem FfO.fb (h : FfO C B P mss fss TFf fiS [15, 16, 17, 18, 31] D D' M M' σ σ' w) (n : 167 ≤ mn M) (i1 : tI σ 126 = 1) (i2 : tI σ 143 = 0) (i3 : tI σ 171 = 0) : FfB C B P mss fss M M' σ σ' w := by
  have f := h.2.2.2.2.2.2.2
  exact ⟨h.g n (fun t z => by unfold TFf at z; omega) (by decide) (by decide), ⟨1, by decide, by rw [(f 126 rfl).1, i1]; rfl⟩, ⟨0, by decide, by rw [(f 143 rfl).1, i2]; rfl⟩, by rw [(f 171 rfl).1, i3]; rfl⟩
/-- what stands besides, after the elements -/
theorem HdF.mv (h : HdF k M σ) (n : 167 ≤ mn M) (F : Fq D T M M') (hT : ∀ t, T t → t ≠ 105 ∧ t ≠ 109 ∧ t ≠ 115) (o1 : O1 [15, 16, 17, 18, 31] M M') (f : Ft fiS σ σ') (h4 : tA σ' 74 0 = tA σ 74 0) : HdF k M' σ' := by
  obtain ⟨⟨a1, a2, a3, a4, a5, a6⟩, a7, ⟨b1, b2⟩, b3, b4, b5, ⟨b6, b7⟩, b8, b9⟩ := h
  have so : ∀ o, o < 167 → o = 105 ∨ o = 109 ∨ o = 115 → So M M' o := fun o h1 h2 => Fz.so F (by omega) (fun z => by
    rw [tgo_s h1] at z
    have := hT _ z
    omega)
  have s105 := so 105 (by decide) (by omega)
  have s109 := so 109 (by decide) (by omega)
  have s115 := so 115 (by decide) (by omega)
  refine ⟨⟨(o1.1 32 rfl).trans a1, (o1.1 24 rfl).trans a2, (o1.1 35 rfl).trans a3, (o1.1 37 rfl).trans a4, (o1.1 39 rfl).trans a5, (o1.1 41 rfl).trans a6⟩, (o1.2 27).trans a7, ⟨(s105.i 604).trans b1, (s105.i 605).trans b2⟩, fun j hj => (s115.a j).trans (b3 j hj), (s109.i 4202).trans b4, fun q hq => ?_, ⟨(f 126 rfl).1.trans b6, (f 129 rfl).1.trans b7⟩, ?_, h4.trans b9⟩
  · have e := b5 q hq
    simp only [List.mem_cons, List.not_mem_nil, or_false] at hq
    rcases hq with rfl | rfl | rfl | rfl | rfl | rfl | rfl | rfl | rfl | rfl | rfl | rfl <;> exact (f _ rfl).1.trans e
  · rw [o1.1 43 rfl, (f 156 rfl).1]; exact b8
/-- all instances: their classes with all they extend -/
theorem exs_all (h0 : tA σ 74 0 = nI k) (ex : ExD σ g k) (hg : g ≤ 13) (nw : NwI σ 1 I 0 1) (hI : I ≤ 200) : Exs σ I := by
  obtain ⟨dp, h⟩ := nw
  obtain ⟨dq, hd⟩ : ∃ q : Nat → Nat, q = fun n => if n = 0 then 1 else dp n := ⟨_, rfl⟩
  have d0 : dq 0 = 1 := by rw [hd]; rfl
  have d1 : ∀ n, n ≠ 0 → dq n = dp n := fun n hn => by rw [hd]; exact ifF hn
  refine ⟨dq, fun n hn => ?_⟩
  by_cases q : n = 0
  · refine ⟨by rw [q, d0]; decide, fun p hp => absurd hp (by omega), k, g, by rw [q]; exact h0, ex, hg⟩
  · obtain ⟨p, p1, p2, p3, p4, k', g', p5, p6, p7⟩ := h n (by omega) hn
    refine ⟨by rw [d1 n q]; exact p4, fun p' hp' e => ?_, k', g', p5, p6, p7⟩
    have e2 : p = p' := by rw [p1] at e; exact (bI_eq (by omega) (by omega)).mp e
    subst e2
    rw [d1 n q]
    by_cases z : p = 0
    · rw [z, d0]; omega
    · rw [d1 p z]; omega
end HEAD4
