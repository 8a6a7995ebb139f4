/-! Layer B: a flat model stays -/
set_option maxRecDepth 100000
/-- what a flat model needs of its rows, lists and numbers (values of variables apart) -/
def FpK (D : FQ) (M : CM) (σ : TS) (D' : FQ) (M' : CM) (σ' : TS) (V E A Wn : Nat) : Prop :=
  (∀ l, l ∈ [98, 106, 111, 112, 113] → pl D' l = pl D l) ∧
  (∀ v, v < V → mR M' 3210 ((pl D 98).getD v 0) = mR M 3210 ((pl D 98).getD v 0) ∧ mR M' 3211 ((pl D 98).getD v 0) = mR M 3211 ((pl D 98).getD v 0)) ∧
  (∀ k, k < E → mR M' 3600 ((pl D 111).getD k 0) = mR M 3600 ((pl D 111).getD k 0) ∧ mR M' 3601 ((pl D 111).getD k 0) = mR M 3601 ((pl D 111).getD k 0)) ∧
  (∀ k, k < A → mI M' 4000 ((pl D 112).getD k 0) = mI M 4000 ((pl D 112).getD k 0) ∧ mI M' 4001 ((pl D 112).getD k 0) = mI M 4001 ((pl D 112).getD k 0) ∧ mR M' 4002 ((pl D 112).getD k 0) = mR M 4002 ((pl D 112).getD k 0)) ∧
  (∀ k, k < Wn → mR M' 3800 ((pl D 113).getD k 0) = mR M 3800 ((pl D 113).getD k 0) ∧ mI M' 3802 ((pl D 113).getD k 0) = mI M 3802 ((pl D 113).getD k 0) ∧ mI M' 3803 ((pl D 113).getD k 0) = mI M 3803 ((pl D 113).getD k 0)) ∧
  ((∀ f, f ∈ [35, 37, 39, 41, 43] → mI M' f 1 = mI M f 1) ∧ mI M' 604 105 = mI M 604 105) ∧ (∀ j, mX M' 114 j = mX M 114 j) ∧
  (∀ f, f ∈ [128, 129, 130, 144, 148, 152, 154, 156] → tI σ' f = tI σ f) ∧ ∀ f, f ∈ [145, 146, 147, 149, 150, 151, 153, 158, 159, 174, 175] → ∀ j, tA σ' f j = tA σ f j
/-- the same, but what is said of variables' trees -/
def FpX (D : FQ) (M : CM) (σ : TS) (D' : FQ) (M' : CM) (σ' : TS) (V E A Wn : Nat) : Prop :=
  (∀ l, l ∈ [98, 106, 111, 112, 113] → pl D' l = pl D l) ∧ (∀ v, v < V → mR M' 3211 ((pl D 98).getD v 0) = mR M 3211 ((pl D 98).getD v 0)) ∧
  (∀ k, k < E → mR M' 3600 ((pl D 111).getD k 0) = mR M 3600 ((pl D 111).getD k 0) ∧ mR M' 3601 ((pl D 111).getD k 0) = mR M 3601 ((pl D 111).getD k 0)) ∧
  (∀ k, k < A → mI M' 4000 ((pl D 112).getD k 0) = mI M 4000 ((pl D 112).getD k 0) ∧ mI M' 4001 ((pl D 112).getD k 0) = mI M 4001 ((pl D 112).getD k 0) ∧ mR M' 4002 ((pl D 112).getD k 0) = mR M 4002 ((pl D 112).getD k 0)) ∧
  (∀ k, k < Wn → mR M' 3800 ((pl D 113).getD k 0) = mR M 3800 ((pl D 113).getD k 0) ∧ mI M' 3802 ((pl D 113).getD k 0) = mI M 3802 ((pl D 113).getD k 0) ∧ mI M' 3803 ((pl D 113).getD k 0) = mI M 3803 ((pl D 113).getD k 0)) ∧
  ((∀ f, f ∈ [35, 37, 39, 41, 43] → mI M' f 1 = mI M f 1) ∧ mI M' 604 105 = mI M 604 105) ∧ (∀ j, mX M' 114 j = mX M 114 j) ∧
  (∀ f, f ∈ [128, 129, 130, 144, 148, 152, 154, 156] → tI σ' f = tI σ f) ∧ ∀ f, f ∈ [145, 146, 147, 149, 150, 151, 153, 159, 174, 175] → ∀ j, tA σ' f j = tA σ f j
section FPMV
variable {C C' : PC} {P P' : Nat → Prop} {mss mss' fss : List Nat} {D D' : FQ} {M M' : CM} {σ σ' : TS} {z7 : Nat → Nat} {B V I Bm K N E A Wn q qs v a b : Nat} {S : List Nat}
theorem FP.mvx (h : FP C P mss D M σ z7 V I Bm K N E A Wn q qs) (FX : FlY z7 C' P' D' mss' M' σ' V I Bm) (nk : NdK D M σ D' M' σ' 106 K N) (g : FpX D M σ D' M' σ' V E A Wn) (hv : ∀ v, v < V → (tA σ' 94 v = 1 → Fl0 D' M' σ' v) ∧ mI M' 3212 ((pl D' 98).getD v 0) = tA σ' 105 v) (hx : ∀ v, v < V → Vx1 D' M' σ' V K N v) (hj : JnX M' σ') (hs : SeT σ' I (2 * I) qs) : FP C' P' mss' D' M' σ' z7 V I Bm K N E A Wn q qs := by
  obtain ⟨-, ⟨⟨n1, n2, n3⟩, ⟨n4, n5⟩, n6⟩, a1, ⟨⟨e1, e2, e3, e4⟩, e5⟩, ⟨⟨c1, c2, c3⟩, c4⟩, ⟨⟨d1, d2, d3, d4⟩, d5, F, w1, w2, w3⟩, ⟨⟨q1, q2, q3⟩, q4, ⟨cv1, cv2⟩, rl⟩, -, -, j3, sm, z1, z2⟩ := h
  obtain ⟨p, gv, ge, ga, gw, ⟨gi, g6⟩, gx, ti, ta⟩ := g
  have hKN : K < N := by omega
  have p98 := p 98 (by decide)
  have p106 := p 106 (by decide)
  have p111 := p 111 (by decide)
  have p112 := p 112 (by decide)
  have p113 := p 113 (by decide)
  have nd : ∀ {fx s a n}, NdR fx D M σ 106 V 100 s K N a n → NdR fx D' M' σ' 106 V 100 s K N a n := fun z => NdR.mv nk (Nat.le_refl _) (Nat.le_refl _) (Nat.le_refl V) 100 100 _ _ _ (Nat.le_refl _) z
  have f153 : ∀ j, tA σ' 153 j = tA σ 153 j := ta 153 (by decide)
  have cn : ∀ {s n}, CvN V K N D M σ q s n → CvN V K N D' M' σ' q s n := fun z => z.mv nk (Nat.le_refl _) (Nat.le_refl _) hKN f153
  refine ⟨FX, ⟨⟨g6.trans n1, by rw [p106]; exact n2, n3⟩, ⟨n4, (ti 128 (by decide)).trans n5⟩, n6.mv nk.n4⟩, fun v hv' => ?_, ⟨⟨(gi 35 (by decide)).trans e1, (ti 144 (by decide)).trans e2, e3, by rw [p111]; exact e4⟩, fun k hk => ?_⟩, ⟨⟨(gi 37 (by decide)).trans c1, c2, by rw [p112]; exact c3⟩, fun k hk => ?_⟩, ⟨⟨(gi 39 (by decide)).trans d1, (ti 148 (by decide)).trans d2, d3, by rw [p113]; exact d4⟩, fun k hk => ?_, F, w1, w2, fun k hk => by rw [ta 146 (by decide), ta 147 (by decide)]; exact w3 k hk⟩, ⟨⟨(gi 41 (by decide)).trans q1, (ti 154 (by decide)).trans q2, q3⟩, fun j hj => ?_, ⟨fun k hk => ?_, fun k hk => ?_⟩, fun j hj => ?_⟩, hj, hs, ?_, sm.mv nk.n4 (Nat.le_refl _) (Nat.le_refl _) (fun k _ => ⟨ta 174 (by decide) k, ta 175 (by decide) k⟩) (fun k _ => ta 151 (by decide) k) (fun k _ => ta 145 (by decide) k), (ti 129 (by decide)).trans z1, (ti 130 (by decide)).trans z2.1, (ti 152 (by decide)).trans z2.2⟩
  · obtain ⟨-, x2, -, -⟩ := a1 v hv'
    refine ⟨hx v hv', ?_, (hv v hv').1, (hv v hv').2⟩
    · unfold Vs1 at x2 ⊢
      rw [p98, gv v hv', ta 159 (by decide)]
      exact x2.imp id (fun ⟨n, y1, y2⟩ => ⟨n, y1, nd y2⟩)
  · obtain ⟨⟨n, y1, y2⟩, m, y3, y4⟩ := e5 k hk
    obtain ⟨g1, g2⟩ := ge k hk
    unfold EqX2
    rw [p111, g1, g2, ta 174 (by decide), ta 175 (by decide)]
    exact ⟨⟨n, y1, nd y2⟩, m, y3, nd y4⟩
  · obtain ⟨x0, x1, n, x2, x3⟩ := c4 k hk
    obtain ⟨g1, g2, g3⟩ := ga k hk
    unfold AcX1
    rw [p112, g1, g2, g3, ta 149 (by decide), ta 150 (by decide), ta 151 (by decide)]
    exact ⟨x0.mv nk.2.2, x1, n, x2, nd x3⟩
  · obtain ⟨⟨n, x1, x2⟩, x3⟩ := d5 k hk
    obtain ⟨g1, g2, g3⟩ := gw k hk
    unfold WhX1
    rw [p113, g1, g2, g3, ta 145 (by decide), ta 146 (by decide), ta 147 (by decide)]
    exact ⟨⟨n, x1, nd x2⟩, x3⟩
  · obtain ⟨k, k1, k2, k3⟩ := q4 j hj
    exact ⟨k, k1, by rw [gx, p106]; exact k2, (f153 j).trans k3⟩
  · obtain ⟨⟨n, x1, x2⟩, m, x3, x4⟩ := cv1 k hk
    exact ⟨⟨n, (ta 174 (by decide) k).trans x1, cn x2⟩, m, (ta 175 (by decide) k).trans x3, cn x4⟩
  · obtain ⟨⟨n, x1, x2⟩, g', m, x3, x4, x0, x5⟩ := cv2 k hk
    refine ⟨⟨n, (ta 145 (by decide) k).trans x1, cn x2⟩, g', m, (ta 146 (by decide) k).trans x3, (ta 147 (by decide) k).trans x4, x0, fun i h1 h2 => ?_⟩
    obtain ⟨n', y1, y2⟩ := x5 i h1 h2
    exact ⟨n', (ta 151 (by decide) i).trans y1, cn y2⟩
  · obtain ⟨k, k1, k2, ⟨k6, k7⟩, k3, n, k4, k5⟩ := rl j hj
    obtain ⟨b1, b2, -⟩ := nk.1 k k1
    refine ⟨k, k1, (f153 j).trans k2, ⟨by rw [b1, b2 3403 (by decide)]; exact k6, by rw [nk.2.1 162 (by decide) (k + 1) (by omega)]; exact k7⟩, k3.mv nk.wk (Nat.le_refl _) (Nat.le_refl _) k1, n, ?_, OcT.mv nk.n4 (Nat.le_refl _) _ _ _ _ (Nat.le_refl _) k5⟩
    rcases k4 with ⟨e, x1, x2⟩ | ⟨e, x1, x2⟩ | ⟨e, x1, x2⟩
    · exact Or.inl ⟨e, x1, by rw [ta 174 (by decide), ta 175 (by decide)]; exact x2⟩
    · exact Or.inr (Or.inl ⟨e, x1, by rw [ta 151 (by decide)]; exact x2⟩)
    · exact Or.inr (Or.inr ⟨e, x1, by rw [ta 145 (by decide)]; exact x2⟩)
  · rw [gi 43 (by decide), ti 156 (by decide)]; exact j3
theorem FP.mv (h : FP C P mss D M σ z7 V I Bm K N E A Wn q qs) (FX : FlY z7 C' P' D' mss' M' σ' V I Bm) (nk : NdK D M σ D' M' σ' 106 K N) (g : FpK D M σ D' M' σ' V E A Wn) (hv : ∀ v, v < V → (tA σ' 94 v = 1 → Fl0 D' M' σ' v) ∧ mI M' 3212 ((pl D' 98).getD v 0) = tA σ' 105 v) (hj : JnX M' σ') (hs : SeT σ' I (2 * I) qs) : FP C' P' mss' D' M' σ' z7 V I Bm K N E A Wn q qs := by
  obtain ⟨p, gv, ge, ga, gw, gi, gx, ti, ta⟩ := g
  refine h.mvx FX nk ⟨p, fun v hv => (gv v hv).2, ge, ga, gw, gi, gx, ti, fun f hf => ta f (by
    have : ∀ f, f ∈ [145, 146, 147, 149, 150, 151, 153, 159, 174, 175] → f ∈ [145, 146, 147, 149, 150, 151, 153, 158, 159, 174, 175] := by decide
    exact this f hf)⟩ hv (fun v hv' => ?_) hj hs
  have x1 := (h.2.2.1 v hv').1
  unfold Vx1 at x1 ⊢
  rw [p 98 (by decide), (gv v hv').1, ta 158 (by decide)]
  exact x1.imp id (fun ⟨n, y1, y2⟩ => ⟨n, y1, NdR.mv nk (Nat.le_refl _) (Nat.le_refl _) (Nat.le_refl V) 100 100 _ _ _ (Nat.le_refl _) y2⟩)
theorem FW.c12 (W : FW C B P mss fss D M σ) : cnf C ≤ 12 := (W.wzT (Ft.rf [] σ) (by decide)).2.2.2.2.2.1.1.2
/-- the rows stand in a later state: the twin's of them by frame, those of the text by what they were -/
theorem FlY.kpw {T : Nat → Prop} (h : FlY z7 C P D mss M σ V I Bm) (W : FW C B P mss fss D M σ) (F : Fq D T M M') (hT : ∀ t, T t → TV t) (hv9 : ∀ k, k < V → (∀ f, 3000 ≤ f → f < 3210 → mI M' f ((pl D 98).getD k 0) = mI M f ((pl D 98).getD k 0)) ∧ ∀ f, 3000 ≤ f → f < 3210 → mR M' f ((pl D 98).getD k 0) = mR M f ((pl D 98).getD k 0)) (v : Wz C C' P M M' σ σ') (hx : Dx D D' M) (f : Ft S σ σ') (hS : flN.all (fun k => !S.contains k) = true) (h1 : mI M' 15 1 = mI M 15 1 ∧ mI M' 16 1 = mI M 16 1) : FlY z7 C' P D' mss M' σ' V I Bm := by
  have hf : ∀ k, flN.contains k = true → S.contains k = false := fun k hk => by
    have := List.all_eq_true.mp hS k (by simpa using hk)
    simpa using this
  have ha : ∀ k, flN.contains k = true → ∀ j, tA σ' k j = tA σ k j := fun k hk j => (f k (hf k hk)).2.2.1 j
  have hi : ∀ k, flN.contains k = true → tI σ' k = tI σ k := fun k hk => (f k (hf k hk)).1
  obtain ⟨N, ⟨l1, l2, l3, l4⟩, ⟨c1, c2, c3⟩, ⟨d1, d2⟩, -⟩ := h
  obtain ⟨⟨n1, n2, n3⟩, -⟩ := id N
  have so : ∀ b, b < Bm → So M M' ((pl D 100).getD b 0) := fun b hb => W.2.1.so3 (by decide) (by omega) F (fun z => by
    have := (hT _ z).1
    unfold tg at this; omega)
  obtain ⟨m1, m2, m3⟩ := N.kpx3 (z7' := z7) (i0 := I) W.2.1 F (fun t z => by
    have z := hT t z
    unfold TV at z
    refine ⟨fun v hv => ?_, fun n hn => ⟨?_, fun _ => ?_⟩⟩ <;> unfold tg at * <;> omega) (fun b hb => ⟨fun f _ _ => (so b hb).i f, fun f _ => (so b hb).r f, by
      obtain ⟨n, e, eo, w, -, -, -, -, -, -, a15⟩ := N.2.2.1 b hb
      rw [(so b hb).r]; exact a15⟩) hv9 (fun z => absurd z l4.2.1) v hx (fun f hf n _ => by
      simp only [List.mem_cons, List.not_mem_nil, or_false] at hf
      rcases hf with rfl | rfl | rfl | rfl <;> exact ha _ rfl n) (fun n _ _ => ha 88 rfl n) (fun f hf n _ => by
      simp only [List.mem_cons, List.not_mem_nil, or_false] at hf
      rcases hf with rfl | rfl | rfl <;> exact ha _ rfl n) (fun f hf n _ => by
      simp only [List.mem_cons, List.not_mem_nil, or_false] at hf
      rcases hf with rfl | rfl | rfl | rfl | rfl | rfl | rfl | rfl | rfl | rfl <;> exact ha _ rfl n)
  exact ⟨⟨m1, fun n hn => (m2 n hn).2 (by omega), m3⟩, ⟨l1, l2, l3, l4.1, l4.2.1, by
    obtain ⟨dp, hd⟩ := l4.2.2
    exact ⟨dp, fun n hn => ⟨(hd n hn).1, fun p hp z => (hd n hn).2 p hp (by rw [ha 75 rfl] at z; exact z)⟩⟩⟩, ⟨by rw [hi 107 rfl]; exact c1, by rw [hi 82 rfl]; exact c2, by rw [hi 89 rfl]; exact c3⟩, ⟨by rw [h1.1]; exact d1, by rw [h1.2]; exact d2⟩, trivial⟩
/-- the text may be more -/
theorem FlY.more {ns : List Nat} (h : FlY z7 C P D mss M σ V I Bm) (hc : cnf C ≤ 12) (hP : ∀ o, P o → P' o) : FlY z7 C P' D (mss ++ ns) M σ V I Bm := by
  obtain ⟨⟨⟨n1, n2, n3⟩, m1, m2, m3⟩, h2⟩ := h
  have v : Wz C C P M M σ σ := Wz.rf hc
  refine ⟨⟨⟨n1, n2, n3⟩, fun n hn => ?_, fun b hb => ?_, fun k hk => ?_⟩, h2⟩
  · obtain ⟨a1, a2, ⟨k, k1, k2, k3⟩, a4⟩ := m1 n hn
    exact ⟨a1, a2, ⟨k, by rw [List.length_append]; omega, by rw [getD_app_l k1]; exact k2, k3⟩, a4⟩
  · obtain ⟨n, e, eo, w, a1, ⟨a4, a5, a6⟩, ⟨a7, a8⟩, a9⟩ := m2 b hb
    exact ⟨n, e, eo, w, a1, ⟨a4, a5, a6⟩, ⟨a7, a8.wz v hP a5⟩, a9⟩
  · obtain ⟨a1, a2, a3, a4, a5, j1, j2, j3⟩ := m3 k hk
    exact ⟨a1, a2, a3, a4, a5, j1.mv v hP (Dx.rf D M) n2 (Nat.le_refl _), j2.mv v hP (Dx.rf D M) n2 (Nat.le_refl _), j3⟩
theorem FlY.rm (h : FlY z7 C P D mss M σ V I Bm) (W : FW C B P mss fss D M σ) : FlY z7 (C.rm a b) P D mss M σ V I Bm := h.kpw W (T := fun _ => False) Fq.rf (fun _ z => z.elim) (fun _ _ => ⟨fun _ _ _ => rfl, fun _ _ _ => rfl⟩) (Wz.rm W.c12) (Dx.rf D M) (Ft.rf [] σ) (by decide) ⟨rfl, rfl⟩
theorem FP.rm (h : FP C P mss D M σ z7 V I Bm K N E A Wn q qs) (W : FW C B P mss fss D M σ) : FP (C.rm a b) P mss D M σ z7 V I Bm K N E A Wn q qs := ⟨h.1.rm W, h.2⟩
/-- another room -/
theorem FW.rmm (W : FW C B P mss fss D M σ) (h : rmN D M + 4 ≤ a ∧ rmS D M + 60200 ≤ b) (hc : a ≤ 601024 ∧ b ≤ 7293034) : FW (C.rm a b) B P mss fss D M σ := ⟨W.1.rm, W.2.1, W.2.2.1, W.2.2.2.1, h, hc⟩
end FPMV
