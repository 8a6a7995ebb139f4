/-! Layer B: the flat model: it stands while nothing of it is written -/
set_option maxRecDepth 100000
section FLX2
variable {C C' : PC} {D D' D1 D2 : FQ} {M M' M1 M2 : CM} {σ σ' σ0 σ1 σ2 σ4 s : TS} {mss fss xs bs qs os es : List Nat} {B l k n o m u w Q I I' L V V' Bm Bm' b c v r R R' E E' E0 cr i e eo ec fl z mo mc : Nat} {P P' X T : Nat → Prop} {S S' O : List Nat} {x : Int64} {x1 : Int32} {z7 z7' : Nat → Nat}
theorem MbC.mw (h : MbC D mss M σ V I b) (v : Wz C C' P M M' σ σ') (f52 : ∀ e, tA σ' 52 e = tA σ 52 e) (f53 : ∀ e, tA σ' 53 e = tA σ 53 e) (f51 : ∀ e, tB σ' 51 e = tB σ 51 e) (f58 : tI σ' 58 = tI σ 58) (hP : ∀ k, k < mss.length → P (mss.getD k 0)) (e1 : (pl D' 100).getD b 0 = (pl D 100).getD b 0) (s : (∀ f, mI M' f ((pl D 100).getD b 0) = mI M f ((pl D 100).getD b 0)) ∧ mR M' 3003 ((pl D 100).getD b 0) = mR M 3003 ((pl D 100).getD b 0)) (pe : P (mR M 3003 ((pl D 100).getD b 0))) (hx : ∀ o, o ∈ pl D 102 → o ∈ pl D' 102) (t : tA σ' 84 b = tA σ 84 b ∧ tA σ' 85 b = tA σ 85 b ∧ tA σ' 86 b = tA σ 86 b) (t83 : tA σ' 83 b = tA σ 83 b) (ti : ∀ f, f ∈ [75, 76, 77] → ∀ n, n < I → tA σ' f n = tA σ f n) (hV : V ≤ V') (hI : I ≤ I') : MbC D' mss M' σ' V' I' b := by
  obtain ⟨e, ⟨h1, h2⟩, h3⟩ := h
  unfold MbC
  rw [e1, t.1, t.2.1, t.2.2, f58]
  refine ⟨e, ⟨h1, h2⟩, ?_⟩
  rw [f52, f53, f51, s.1, s.1, s.2]
  rcases h3 with ⟨q1, q2, q3, q4, q5⟩ | ⟨q1, g, z, q2, q3, q4⟩
  · exact Or.inl ⟨q1, q2, q3, by rw [(v.2.1.1 _ pe).i]; exact q4, hx _ q5⟩
  · refine Or.inr ⟨q1, g, z, q2, q3, ?_⟩
    rcases q4 with ⟨y1, y2, y3, y4⟩ | ⟨y1, y2, yB, k, y3, y4, y5⟩
    · exact Or.inl ⟨y1, y2, y3, by omega⟩
    · refine Or.inr ⟨y1, by omega, fun j hj => ?_, k, y3, y4, by rw [(v.2.1.1 _ (hP k y3)).i]; exact y5⟩
      obtain ⟨n, ⟨n1, n2, n3⟩, n4, n5, n6⟩ := yB j hj
      exact ⟨n, ⟨n1, by omega, n3⟩, by rw [ti 75 (by decide) n n2, t83]; exact n4, by rw [ti 76 (by decide) n n2]; exact n5, by rw [ti 77 (by decide) n n2]; exact n6⟩
theorem InnR.mv (h : InnR D σ Bm z7 b) (hx : Dx D D' M) (hB : Bm ≤ (pl D 100).length) (f : Ft S σ σ') (hS : [50, 51, 52, 54, 75, 83, 84, 87, 88].all (fun k => !S.contains k) = true) (hBm : Bm ≤ 20000) : InnR D' σ' Bm z7 b := by
  have hf : ∀ k, k ∈ [50, 51, 52, 54, 75, 83, 84, 87, 88] → S.contains k = false := fun k hk => by
    have := List.all_eq_true.mp hS k hk
    simpa using this
  obtain ⟨c, e', h1, h2, h3, h4, h5, h6⟩ := h
  refine ⟨c, e', h1, by rw [(f 84 (hf 84 (by decide))).2.2.1]; exact h2, h3, by rw [(f 52 (hf 52 (by decide))).2.2.1]; exact h4, by rw [(hx.1 100 c (by omega)).2]; exact h5, innerOf_ft f hS h6 ?_⟩
  intro z
  have h3 : nI c < 0 := by rw [z]; decide
  rw [nI_ltL (by omega) (by decide)] at h3
  exact absurd h3 (Nat.not_lt_zero _)
theorem outT.ft (f : Ft S σ σ') (h84 : S.contains 84 = false) (h52 : S.contains 52 = false) : outT σ' b ↔ outT σ b := by
  unfold outT
  rw [(f 84 h84).2.2.1]
  constructor
  · rintro ⟨e, q1, q2⟩; rw [(f 52 h52).2.2.1] at q2; exact ⟨e, q1, q2⟩
  · rintro ⟨e, q1, q2⟩; exact ⟨e, q1, by rw [(f 52 h52).2.2.1]; exact q2⟩
theorem FW.pc (W : FW C B P mss fss D M σ) (hk : k < mss.length) : P (mss.getD k 0) := (W.1.2.2.2.2.2.1.2.1 k hk).1.1.1
/-- the flat model stands -/
theorem FlX.kpw (h : FlX z7 C P D mss M σ V I Bm) (W : FW C B P mss fss D M σ) (F : Fq D T M M') (hT : ∀ t, T t → TV t) (hv9 : ∀ k, k < V → (∀ f, 3000 ≤ f → f < 3210 → mI M' f ((pl D 98).getD k 0) = mI M f ((pl D 98).getD k 0)) ∧ ∀ f, 3000 ≤ f → f < 3210 → mR M' f ((pl D 98).getD k 0) = mR M f ((pl D 98).getD k 0)) (v : Wz C C' P M M' σ σ') (hx : Dx D D' M) (f : Ft S σ σ') (hS : (flN ++ itK).all (fun k => !S.contains k) = true) (h1 : mI M' 15 1 = mI M 15 1 ∧ mI M' 16 1 = mI M 16 1) : FlX z7 C' P D' mss M' σ' V I Bm := by
  have hf : ∀ k, (flN ++ itK).contains k = true → S.contains k = false := fun k hk => by
    have := List.all_eq_true.mp hS k (by simpa using hk)
    simpa using this
  have ha : ∀ k, (flN ++ itK).contains k = true → ∀ j, tA σ' k j = tA σ k j := fun k hk j => (f k (hf k hk)).2.2.1 j
  have hi : ∀ k, (flN ++ itK).contains k = true → tI σ' k = tI σ k := fun k hk => (f k (hf k hk)).1
  have hS9 : [50, 51, 52, 54, 75, 83, 84, 87, 88].all (fun k => !S.contains k) = true := by
    rw [List.all_eq_true]
    intro k hk
    simp only [List.mem_cons, List.not_mem_nil, or_false] at hk
    rcases hk with rfl | rfl | rfl | rfl | rfl | rfl | rfl | rfl | rfl <;> rw [hf _ rfl] <;> rfl
  obtain ⟨N, ⟨l1, l2, l3, l4⟩, ⟨c1, c2, c3⟩, ⟨d1, d2⟩, mb⟩ := h
  obtain ⟨⟨n1, n2, n3⟩, -⟩ := id N
  have so : ∀ b, b < Bm → So M M' ((pl D 100).getD b 0) := fun b hb => W.2.1.so3 (by decide) (by omega) F (fun z => by
    have := (hT _ z).1
    unfold tg at this; omega)
  obtain ⟨m1, m2, m3⟩ := N.kpx3 (z7' := z7) (i0 := I) W.2.1 F (fun t z => by
    have z := hT t z
    unfold TV at z
    refine ⟨fun v hv => ?_, fun n hn => ⟨?_, fun _ => ?_⟩⟩ <;> unfold tg at * <;> omega) (fun b hb => ⟨fun f _ _ => (so b hb).i f, fun f _ => (so b hb).r f, by
      obtain ⟨n, e, eo, w, -, -, -, -, -, -, a15⟩ := N.2.2.1 b hb
      rw [(so b hb).r]; exact a15⟩) hv9 (fun z => absurd z l4.2.1) v hx (fun f hf n _ => by
      simp only [List.mem_cons, List.not_mem_nil, or_false] at hf
      rcases hf with rfl | rfl | rfl | rfl <;> exact ha _ rfl n) (fun n _ _ => ha 88 rfl n) (fun f hf n _ => by
      simp only [List.mem_cons, List.not_mem_nil, or_false] at hf
      rcases hf with rfl | rfl | rfl <;> exact ha _ rfl n) (fun f hf n _ => by
      simp only [List.mem_cons, List.not_mem_nil, or_false] at hf
      rcases hf with rfl | rfl | rfl | rfl | rfl | rfl | rfl | rfl | rfl | rfl <;> exact ha _ rfl n)
  refine ⟨⟨m1, fun n hn => (m2 n hn).2 (by omega), m3⟩, ⟨l1, l2, l3, l4.1, l4.2.1, by
    obtain ⟨dp, h42⟩ := l4.2.2.1
    refine ⟨dp, fun n hn => ?_⟩
    obtain ⟨d1, d2, k, g, e1, e2, e3⟩ := h42 n hn
    exact ⟨d1, fun p hp z => d2 p hp (by rw [ha 75 rfl n] at z; exact z), k, g, by rw [ha 74 rfl n]; exact e1, e2.fwd f (by
      rw [List.all_eq_true]
      intro k hk
      have : ∀ k, k ∈ [41, 45, 46, 49, 51, 57] → (flN ++ itK).contains k = true := by decide
      rw [hf k (this k hk)]; rfl) _ _, e3⟩, VoS.ft f (by
      rw [List.all_eq_true]
      intro k hk
      have : ∀ k, k ∈ [51, 52, 53, 58, 83, 84, 85, 96] → (flN ++ itK).contains k = true := by decide
      rw [hf k (this k hk)]; rfl) l4.2.2.2.1, l4.2.2.2.2.ft (ha 74 rfl) (ha 96 rfl)⟩, ⟨by rw [hi 107 rfl]; exact c1, by rw [hi 82 rfl]; exact c2, by rw [hi 89 rfl]; exact c3⟩, ⟨by rw [h1.1]; exact d1, by rw [h1.2]; exact d2⟩, fun b hb => ?_⟩
  obtain ⟨q1, q2, q3⟩ := mb b hb
  have oe : outT σ' b ↔ outT σ b := outT.ft f (hf 84 rfl) (hf 52 rfl)
  obtain ⟨n', e', eo', w', -, -, ⟨p3a, p3b⟩, -⟩ := N.2.2.1 b hb
  refine ⟨q1.mw v (ha 52 rfl) (ha 53 rfl) (fun e => (f 51 (hf 51 rfl)).2.2.2 e) (hi 58 rfl) (fun k hk => W.pc hk) (hx.1 100 b (by omega)).2 ⟨fun f => (so b hb).i f, (so b hb).r _⟩ (by rw [p3a]; exact p3b.1.1) (fun o ho => ?_) ⟨ha 84 rfl b, ha 85 rfl b, ha 86 rfl b⟩ (ha 83 rfl b) (fun f hf n _ => ?_) (Nat.le_refl _) (Nat.le_refl _), fun z => q2 (fun y => z (oe.mpr y)), fun z => (q3 (oe.mp z)).mv hx n3 f hS9 l3⟩
  · obtain ⟨c, hc, ec⟩ := List.getElem_of_mem ho
    obtain ⟨d1, d2⟩ := hx.1 102 c hc
    have e2 : (pl D 102).getD c 0 = o := by rw [List.getD_eq_getElem?_getD, List.getElem?_eq_getElem hc]; exact ec
    rw [e2, List.getD_eq_getElem?_getD, List.getElem?_eq_getElem d1] at d2
    have d2 : (pl D' 102)[c] = o := d2
    rw [← d2]; exact List.getElem_mem d1
  · simp only [List.mem_cons, List.not_mem_nil, or_false] at hf
    rcases hf with rfl | rfl | rfl <;> exact ha _ rfl n
theorem FlX.kp (h : FlX z7 C P D mss M σ V I Bm) (W : FW C B P mss fss D M σ) (F : Fq D T M M') (hT : ∀ t, T t → TV t) (hv9 : ∀ k, k < V → (∀ f, f < 3210 → mI M' f ((pl D 98).getD k 0) = mI M f ((pl D 98).getD k 0)) ∧ ∀ f, f < 3210 → mR M' f ((pl D 98).getD k 0) = mR M f ((pl D 98).getD k 0)) (v : Wz C C P M M' σ σ') (hx : Dx D D' M) (f : Ft S σ σ') (hS : (flN ++ itK).all (fun k => !S.contains k) = true) (h1 : mI M' 15 1 = mI M 15 1 ∧ mI M' 16 1 = mI M 16 1) : FlX z7 C P D' mss M' σ' V I Bm := h.kpw W F hT (fun k hk => ⟨fun f _ => (hv9 k hk).1 f, fun f _ => (hv9 k hk).2 f⟩) v hx f hS h1
end FLX2
