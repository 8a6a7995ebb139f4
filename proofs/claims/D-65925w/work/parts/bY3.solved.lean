/-! Layer B: a solvable model: what it is; it stays -/
set_option maxRecDepth 100000
/-- solvable, both sides -/
def SvS (V E A Wn q U S K1 K2 N : Nat) (hd : Nat → Nat) (sg : Nat → Int32) (c : Nat) (D : FQ) (M : CM) (s : TS) : Prop :=
  IdxR V E U S K1 N D M s ∧ (RolR M s U ∧ StR U M s ∧ BlR S U M s) ∧ (AlL V s hd sg ∧ AlM D V M s hd sg ∧ UvR D V s M s hd U ∧ VaD D M s V) ∧ (mI M 66 1 = nI c ∧ tI s 181 = nI c) ∧ (ArS 135 136 30000 D M K2 ∧ A ≤ (pl D 112).length ∧ (∀ e, e < Wn → WhT V N D M s K2 e) ∧ ∀ i, i < A → AcT V N D M s K2 i) ∧
  (∀ r, r < q → ∃ m, tA s 153 r = nI m ∧ tA s 162 m = nI r ∧ isR s m ∧ (SxR D M s 134 V K1 N 100 1 (mX M 137 r) m ∨ SxR D M s 136 V K2 N 100 1 (mX M 137 r) m)) ∧ tI s 221 = tI s 126
def SvK (V A Wn K1 K2 : Nat) (D : FQ) (M : CM) (D' : FQ) (M' : CM) : Prop :=
  (ArS 133 134 40000 D' M' K1 ∧ ArS 135 136 30000 D' M' K2 ∧ SnL D M D' M' 134 K1 ∧ SnL D M D' M' 136 K2) ∧ (∀ l, l ∈ [98, 112, 113] → pl D' l = pl D l) ∧
  (∀ v, v < V → ∀ f, f ∈ [3203, 3217, 3218, 3219] → mI M' f ((pl D 98).getD v 0) = mI M f ((pl D 98).getD v 0)) ∧
  (∀ k, k < A → (∀ f, f ∈ [4000, 4001, 4004] → mI M' f ((pl D 112).getD k 0) = mI M f ((pl D 112).getD k 0)) ∧ mR M' 4003 ((pl D 112).getD k 0) = mR M 4003 ((pl D 112).getD k 0)) ∧
  (∀ k, k < Wn → mR M' 3801 ((pl D 113).getD k 0) = mR M 3801 ((pl D 113).getD k 0)) ∧
  (∀ f, f ∈ [57, 65, 66, 74, 75] → mI M' f 1 = mI M f 1) ∧ mR M' 69 1 = mR M 69 1 ∧
  (∀ a, a ∈ [119, 120, 121, 122, 123, 128, 129, 130, 131, 132, 140, 141, 142, 143, 144] → ∀ j, mA M' a j = mA M a j) ∧ ∀ a, a ∈ [126, 127, 137] → ∀ j, mX M' a j = mX M a j
abbrev svTl : List Nat := [94, 121, 122, 123, 124, 126, 129, 130, 134, 141, 142, 143, 145, 149, 150, 151, 153, 154, 162, 177, 178, 179, 180, 181, 187, 188, 189, 191, 192, 194, 195, 196, 197, 198, 202, 203, 206, 207, 208, 209, 210, 211, 212, 213, 221]
section SOLVED1
variable {C : PC} {P : Nat → Prop} {mss fss : List Nat} {D D' D1 : FQ} {M M' M1 : CM} {σ σ' s s' : TS} {z7 : Nat → Nat} {B V I Bm K N E A Wn q qs v a b U S K1 K2 c e i : Nat} {T I0 R A0 X0 : List Nat} {hd : Nat → Nat} {sg : Nat → Int32}
theorem SxR.n7 (i : IdxR V E U S K1 N D M s) : N ≤ 70000 := by
  have := i.1.1.2.2.2.1.2.2
  have := i.2.2.2.1
  omega
theorem StR.mv (h : StR U M s) (e1 : mI M' 74 1 = mI M 74 1) (e2 : ∀ j, mA M' 140 j = mA M 140 j) (e3 : tI s' 198 = tI s 198) (e4 : tI s' 206 = tI s 206) (e5 : ∀ j, tA s' 192 j = tA s 192 j) (e6 : ∀ j, tA s' 207 j = tA s 207 j) : StR U M' s' := by
  have e2 : mA M' 140 = mA M 140 := funext e2
  have e5 : tA s' 192 = tA s 192 := funext e5
  have e6 : tA s' 207 = tA s 207 := funext e6
  unfold StR at *
  rw [e1, e2, e3, e4, e5, e6]
  exact h
theorem BlR.mv (h : BlR S U M s) (e1 : mI M' 75 1 = mI M 75 1) (e2 : ∀ a, a ∈ [122, 131, 141, 142, 143, 144] → ∀ j, mA M' a j = mA M a j) (e3 : tI s' 208 = tI s 208) (e4 : ∀ a, a ∈ [180, 191, 192, 196, 209, 210, 211, 212, 213] → ∀ j, tA s' a j = tA s a j) : BlR S U M' s' := by
  have a1 : mA M' 122 = mA M 122 := funext (e2 122 (by decide))
  have a2 : mA M' 131 = mA M 131 := funext (e2 131 (by decide))
  have a3 : mA M' 141 = mA M 141 := funext (e2 141 (by decide))
  have a4 : mA M' 142 = mA M 142 := funext (e2 142 (by decide))
  have a5 : mA M' 143 = mA M 143 := funext (e2 143 (by decide))
  have a6 : mA M' 144 = mA M 144 := funext (e2 144 (by decide))
  have b1 : tA s' 180 = tA s 180 := funext (e4 180 (by decide))
  have b2 : tA s' 191 = tA s 191 := funext (e4 191 (by decide))
  have b3 : tA s' 192 = tA s 192 := funext (e4 192 (by decide))
  have b4 : tA s' 196 = tA s 196 := funext (e4 196 (by decide))
  have b5 : tA s' 209 = tA s 209 := funext (e4 209 (by decide))
  have b6 : tA s' 210 = tA s 210 := funext (e4 210 (by decide))
  have b7 : tA s' 211 = tA s 211 := funext (e4 211 (by decide))
  have b8 : tA s' 212 = tA s 212 := funext (e4 212 (by decide))
  have b9 : tA s' 213 = tA s 213 := funext (e4 213 (by decide))
  unfold BlR at *
  rw [e1, e3, a1, a2, a3, a4, a5, a6, b1, b2, b3, b4, b5, b6, b7, b8, b9]
  exact h
theorem SvS.mv (h : SvS V E A Wn q U S K1 K2 N hd sg c D M s) (g : SvK V A Wn K1 K2 D M D' M') (f : Ft T s s') (hT : svTl.all (fun k => !T.contains k) = true) (h0 : tI s' 0 = 0) : SvS V E A Wn q U S K1 K2 N hd sg c D' M' s' := by
  have hf : ∀ k, k ∈ svTl → T.contains k = false := fun k hk => by simpa using List.all_eq_true.mp hT k hk
  have ti : ∀ k, k ∈ svTl → tI s' k = tI s k := fun k hk => (f k (hf k hk)).1
  have ta : ∀ k, k ∈ svTl → ∀ j, tA s' k j = tA s k j := fun k hk => (f k (hf k hk)).2.2.1
  obtain ⟨ix, ⟨ro, st, bl⟩, ⟨al, am, uv, va⟩, ⟨c1, c2⟩, ⟨ar, lA, wh, ac⟩, rl, e221⟩ := h
  obtain ⟨⟨g1, g2, g3, g4⟩, gp, gv, ga, gw, gi, g69, gA, gX⟩ := g
  have h7 : N ≤ 70000 := SxR.n7 ix
  have nx : NdX s s' N := ⟨fun k hk n _ => ta k (by
    have : ∀ k, k ∈ [121, 122, 123, 124, 134] → k ∈ svTl := by decide
    exact this k hk) n, fun k hk v => ta k (by
    have : ∀ k, k ∈ [94, 162, 177, 178, 179] → k ∈ svTl := by decide
    exact this k hk) v, fun u _ => ta 189 (by decide) u⟩
  have t189 : ∀ u, tA s' 189 u = tA s 189 u := ta 189 (by decide)
  have t94 : ∀ u, tA s' 94 u = tA s 94 u := ta 94 (by decide)
  have p98 := gp 98 (by decide)
  have p112 := gp 112 (by decide)
  have p113 := gp 113 (by decide)
  obtain ⟨⟨u1, u2, u3⟩, u4⟩ := id ix.2.2.1
  have V98 : V ≤ (pl D 98).length := va.1
  refine ⟨?_, ⟨fun u hu => ?_, st.mv (gi 74 (by decide)) (gA 140 (by decide)) (ti 198 (by decide)) (ti 206 (by decide)) (ta 192 (by decide)) (ta 207 (by decide)), bl.mv (gi 75 (by decide)) (fun a ha => gA a (by
    have : ∀ k, k ∈ [122, 131, 141, 142, 143, 144] → k ∈ [119, 120, 121, 122, 123, 128, 129, 130, 131, 132, 140, 141, 142, 143, 144] := by decide
    exact this a ha)) (ti 208 (by decide)) (fun a ha => ta a (by
    have : ∀ k, k ∈ [180, 191, 192, 196, 209, 210, 211, 212, 213] → k ∈ svTl := by decide
    exact this a ha))⟩, ⟨fun v hv => ?_, fun v hv => ?_, fun v hv => ?_, by rw [p98]; exact V98, fun v hv => ?_⟩, ⟨(gi 66 (by decide)).trans c1, (ti 181 (by decide)).trans c2⟩, ⟨g2, by rw [p112]; exact lA, fun e he => ?_, fun i hi => ?_⟩, fun r hr => ?_, by rw [ti 221 (by decide), ti 126 (by decide)]; exact e221⟩
  · refine ix.ml g1 (g69.trans ix.1.2) (gi 65 (by decide)) g3 nx (ix.2.2.1.mv (gi 57 (by decide)) (ti 197 (by decide)) (fun u => ⟨gA 119 (by decide) u, gA 120 (by decide) u, gA 121 (by decide) u⟩) (fun u => ⟨ta 179 (by decide) u, ta 187 (by decide) u, ta 188 (by decide) u, t189 u⟩)) (fun o j ho => gA o (by rcases ho with rfl | rfl | rfl | rfl <;> decide) j) (fun o j ho => gX o (by rcases ho with rfl | rfl <;> decide) j) (fun k hk => ?_) (f 203 (hf 203 (by decide))).2.1 (fun k j hk => ta k (by
      have : ∀ k, k ∈ [141, 142, 180, 194, 195, 202] → k ∈ svTl := by decide
      exact this k hk) j)
    · by_cases z : k = 0
      · rw [z, h0]; exact ix.2.2.2.2.2.2.1.symm
      · exact ti k (by
          have : ∀ k, k ∈ [0, 126, 129, 130, 143, 154] → k ≠ 0 → k ∈ svTl := by decide
          exact this k hk z)
  · obtain ⟨k, k1, k2, k3, k4⟩ := ro u hu
    exact ⟨k, k1, (gA 123 (by decide) u).trans k2, (ta 192 (by decide) u).trans k3, by rw [t189]; exact k4⟩
  · rw [t94, t94]; exact al v hv
  · obtain ⟨⟨b1, b2⟩, b3, b4⟩ := am v hv
    rw [p98, gv v hv 3217 (by decide), gv v hv 3218 (by decide), ta 177 (by decide), ta 178 (by decide)]
    exact ⟨⟨b1, b2⟩, b3, b4⟩
  · have := uv v hv
    rw [p98, gv v hv 3219 (by decide), ta 179 (by decide), t94]
    exact this
  · obtain ⟨⟨x, x1, x2, x3⟩, y⟩ := va.2 v hv
    rw [p98, gv v hv 3203 (by decide), t94]
    refine ⟨⟨x, x1, x2, x3⟩, fun z => ?_⟩
    obtain ⟨w, x', u, y1, y2, y3, y4, y5, y6⟩ := y z
    rw [gv v hv 3217 (by decide), gv v hv 3218 (by decide)]
    exact ⟨w, x', u, y1, y2, y3, by rw [gv w y1 3219 (by decide)]; exact y4, y5.mv nx, by rw [gA 121 (by decide), t189]; exact y6⟩
  · obtain ⟨n, x1, x2⟩ := wh e he
    exact ⟨n, (ta 145 (by decide) e).trans x1, by rw [p113, gw e he]; exact SxR.ml g4 (nx.nu (U := 0)) (fun _ => nx) (Nat.le_refl _) (Nat.le_refl _) h7 _ _ _ _ x2⟩
  · obtain ⟨n, c, x1, x2, z⟩ := ac i hi
    obtain ⟨b1, b2⟩ := ga i hi
    refine ⟨n, c, (ta 151 (by decide) i).trans x1, SxR.ml g4 (nx.nu (U := 0)) (fun _ => nx) (Nat.le_refl _) (Nat.le_refl _) h7 _ _ _ _ x2, ?_⟩
    rw [p112, p98, b1 4000 (by decide), b1 4001 (by decide), b1 4004 (by decide), b2]
    refine z.imp id (fun ⟨z1, v, w, v1, w1, z2, z3⟩ => ⟨z1, v, w, v1, ⟨w1.1, by rw [gv v v1.1 3217 (by decide)]; exact w1.2⟩, by rw [gv w w1.1 3219 (by decide)]; exact z2, ?_⟩)
    rw [gv v v1.1 3218 (by decide)]
    refine z3.imp id (fun ⟨y1, j, j1, j2, j3, j4, j5, j6⟩ => ?_)
    obtain ⟨e1, e2, e3⟩ := g4 j j1
    refine ⟨y1, j, j1, by rw [e1]; exact j2, ?_⟩
    rw [e1, e2 3400 (by decide) (by decide), e3 3405 (by decide) (by decide), e3 3406 (by decide) (by decide), e3 3407 (by decide) (by decide)]
    exact ⟨j3, j4, j5, j6⟩
  · obtain ⟨m, m1, m2, m3, m4⟩ := rl r hr
    refine ⟨m, (ta 153 (by decide) r).trans m1, (ta 162 (by decide) m).trans m2, ?_, ?_⟩
    · unfold isR at *; rw [ta 121 (by decide)]; exact m3
    · rw [gX 137 (by decide)]
      exact m4.imp (SxR.ml g3 (nx.nu (U := 0)) (fun _ => nx) (Nat.le_refl _) (Nat.le_refl _) h7 _ _ _ _) (SxR.ml g4 (nx.nu (U := 0)) (fun _ => nx) (Nat.le_refl _) (Nat.le_refl _) h7 _ _ _ _)
end SOLVED1
