/-! Layer B: solved trees stay when only their nodes' own fields stay -/
set_option maxRecDepth 100000
/-- nodes below K stay (their own fields) -/
def SnL (D : FQ) (M : CM) (D' : FQ) (M' : CM) (l K : Nat) : Prop := ∀ k, k < K → (pl D' l).getD k 0 = (pl D l).getD k 0 ∧ (∀ f, 3400 ≤ f → f ≤ 3407 → mI M' f ((pl D l).getD k 0) = mI M f ((pl D l).getD k 0)) ∧ ∀ f, 3400 ≤ f → f ≤ 3407 → mR M' f ((pl D l).getD k 0) = mR M f ((pl D l).getD k 0)
section SNL
variable {D D' D2 : FQ} {M M' M2 : CM} {s s' s2 : TS} {l V K K' K2 N N' E U S h e n u : Nat} {op vl x : Int32} {I0 R A0 X0 : List Nat}
theorem SnK.sl (g : SnK D M D' M' l K) : SnL D M D' M' l K := fun k hk => ⟨(g k hk).1, fun f _ _ => (g k hk).2.1 f, fun f _ _ => (g k hk).2.2 f⟩
theorem SnL.rf : SnL D M D M l K := fun _ _ => ⟨rfl, fun _ _ _ => rfl, fun _ _ _ => rfl⟩
theorem SnL.tr (h : SnL D M D' M' l K) (g : SnL D' M' D2 M2 l K') (hk : K ≤ K') : SnL D M D2 M2 l K := fun k hk' => by
  obtain ⟨a1, a2, a3⟩ := h k hk'
  obtain ⟨b1, b2, b3⟩ := g k (by omega)
  exact ⟨b1.trans a1, fun f f1 f2 => by rw [← a2 f f1 f2, ← a1]; exact b2 f f1 f2, fun f f1 f2 => by rw [← a3 f f1 f2, ← a1]; exact b3 f f1 f2⟩
theorem SnL.kf (k : KF D I0 R A0 X0 M M') (hI : [3400, 3401, 3402, 3403, 3404, 3405, 3406, 3407].all (fun g => !I0.contains g && !R.contains g) = true) : SnL D M D M' l K := fun j _ => by
  have hf : ∀ f, 3400 ≤ f → f ≤ 3407 → I0.contains f = false ∧ R.contains f = false := fun f h1 h2 => by
    have m : f ∈ [3400, 3401, 3402, 3403, 3404, 3405, 3406, 3407] := by simp only [List.mem_cons, List.not_mem_nil, or_false]; omega
    have := List.all_eq_true.mp hI f m
    simpa using this
  exact ⟨rfl, fun f h1 h2 => k.i (hf f h1 h2).1 _, fun f h1 h2 => k.r (hf f h1 h2).2 _⟩
theorem SxR.ml (g : SnL D M D' M' l K) (gu : NdU s s' N U) (gx : l = 134 → NdX s s' N) (hK : K ≤ K') (hN : N ≤ N') (h7 : N ≤ 70000) : ∀ (h st a n : Nat), SxR D M s l V K N h st a n → SxR D' M' s' l V K' N' h st a n
  | 0, _, _, _, z => z.elim
  | h + 1, st, a, n, z => by
    have ih := fun st a n z => SxR.ml g gu gx hK hN h7 h st a n z
    have z0 := z
    obtain ⟨⟨⟨k, k1, k2⟩, n1, n2⟩, ⟨t, t1, t2, t3⟩, z⟩ := z
    obtain ⟨g1, g2, g3⟩ := g k k1
    rw [← k2] at g1 g2 g3
    refine ⟨⟨⟨k, by omega, g1.symm⟩, n1, by omega⟩, ⟨t, (g2 3404 (by decide) (by decide)).trans t1, ⟨t2.1, by omega⟩, fun e => ?_⟩, ?_⟩
    · subst e
      rw [(TwT.ps (gx rfl) h7 (h + 1) (h + 1) st n (Nat.le_refl _) (SxR.tw _ _ _ _ z0)).2]; exact t3 rfl
    unfold lf3
    rw [g2 3400 (by decide) (by decide), g2 3401 (by decide) (by decide), g2 3402 (by decide) (by decide), g2 3403 (by decide) (by decide), g3 3405 (by decide) (by decide), g3 3406 (by decide) (by decide), g3 3407 (by decide) (by decide), gu.1 121 (by decide) n n2, gu.1 122 (by decide) n n2, gu.1 123 (by decide) n n2, gu.1 124 (by decide) n n2, gu.2.1 162 (by decide)]
    rcases z with ⟨q0, q1, q2⟩ | ⟨q0, op, vl, x, q1, q2⟩ | ⟨q1, ⟨x, x1, x2⟩, q3⟩ | ⟨q1, ⟨x, x1, x2⟩, ⟨y, y1, y2⟩, q3⟩ | ⟨q0, q2, q1, ⟨x, x1, x2⟩, ⟨y, y1, y2⟩, z, z1, z2⟩ | ⟨q0, q1, ⟨y, y1, y2⟩, ⟨z, z1, z2⟩, q3⟩ | z
    · refine Or.inl ⟨q0, q1, q2.imp id (fun q => q.imp id (fun ⟨q3, v, v1, v2, v3, v4⟩ => ⟨q3, v, v1, v2, v3, by rw [gu.2.1 94 (by decide)]; exact v4⟩))⟩
    · refine Or.inr (Or.inl ⟨q0, op, vl, x, ?_, q2.imp id (fun ⟨b0, b1, b2, b3, ⟨j, j1, j2⟩, b4, b5, b6, b7⟩ => ?_)⟩)
      · by_cases e : l = 134
        · exact q1.mv (gx e) n2
        · unfold LfO
          rw [gu.1 121 (by decide) n n2, gu.1 122 (by decide) n n2]
          rcases q1 with ⟨c0, v, u, b1, c, d⟩ | ⟨c0, v, u, b1, c, ⟨e0, -⟩ | d⟩ | ⟨c0, v, u, b1, c, d⟩ | z
          · exact Or.inl ⟨c0, v, u, b1, c.mu gu, d⟩
          · exact absurd e0 e
          · exact Or.inr (Or.inl ⟨c0, v, u, b1, c.mu gu, Or.inr d⟩)
          · exact Or.inr (Or.inr (Or.inl ⟨c0, v, u, b1, c.mu gu, d⟩))
          · exact Or.inr (Or.inr (Or.inr z))
      · obtain ⟨f1, f2, f3⟩ := g j j1
        rw [← j2] at f1 f2 f3
        rw [f2 3400 (by decide) (by decide), f2 3401 (by decide) (by decide), f2 3404 (by decide) (by decide), f3 3405 (by decide) (by decide), f3 3406 (by decide) (by decide), f3 3407 (by decide) (by decide)]
        exact ⟨b0, b1, b2, b3, ⟨j, by omega, f1.symm⟩, b4, b5, b6, b7⟩
    · exact Or.inr (Or.inr (Or.inl ⟨q1, ⟨x, x1, ih _ _ _ x2⟩, q3⟩))
    · exact Or.inr (Or.inr (Or.inr (Or.inl ⟨q1, ⟨x, x1, ih _ _ _ x2⟩, ⟨y, y1, ih _ _ _ y2⟩, q3⟩)))
    · exact Or.inr (Or.inr (Or.inr (Or.inr (Or.inl ⟨q0, q2, q1, ⟨x, x1, ih _ _ _ x2⟩, ⟨y, y1, ih _ _ _ y2⟩, z, z1, ih _ _ _ z2⟩))))
    · exact Or.inr (Or.inr (Or.inr (Or.inr (Or.inr (Or.inl ⟨q0, q1, ⟨y, y1, ih _ _ _ y2⟩, ⟨z, z1, ih _ _ _ z2⟩, q3⟩)))))
    · exact Or.inr (Or.inr (Or.inr (Or.inr (Or.inr (Or.inr z)))))
theorem EqI.ml (h : EqI D M s V K N e) (g : SnL D M D' M' 134 K) (x : NdX s s' N) (h7 : N ≤ 70000) (x6 : mX M' 126 e = mX M 126 e) (x7 : mX M' 127 e = mX M 127 e) (t1 : tA s' 141 e = tA s 141 e) (t2 : tA s' 142 e = tA s 142 e) (r : ∀ u, u < 180 → mA M' 132 (180 * e + u) = mA M 132 (180 * e + u)) (t : ∀ u, u < 180 → tA s' 202 (200 * e + u) = tA s 202 (200 * e + u)) : EqI D' M' s' V K N e := by
  obtain ⟨n1, n2, ⟨a1, a2, a3, a4⟩, ⟨b1, b2, b3, b4⟩, c⟩ := h
  have w1 := SxR.tw _ _ _ _ a2
  have w2 := SxR.tw _ _ _ _ b2
  have p1 := TwT.ps x h7 200 200 0 n1 (Nat.le_refl _) w1
  have p2 := TwT.ps x h7 200 200 0 n2 (Nat.le_refl _) w2
  refine ⟨n1, n2, ⟨t1.trans a1, by rw [x6]; exact SxR.ml g (x.nu (U := 0)) (fun _ => x) (Nat.le_refl _) (Nat.le_refl _) h7 _ _ _ _ a2, by rw [p1.2]; exact a3, by rw [p1.1]; exact a4⟩, ⟨t2.trans b1, by rw [x7]; exact SxR.ml g (x.nu (U := 0)) (fun _ => x) (Nat.le_refl _) (Nat.le_refl _) h7 _ _ _ _ b2, by rw [p2.2]; exact b3, by rw [p2.1]; exact b4⟩, fun u hu => ?_⟩
  rw [OcU.nd h7 x _ _ _ _ w1, OcU.nd h7 x _ _ _ _ w2, r u hu, t u hu]
  exact c u hu
theorem IdxR.ml (h : IdxR V E U S K N D M s) (A : ArS 133 134 40000 D' M' K) (r69 : mR M' 69 1 = 133) (m65 : mI M' 65 1 = mI M 65 1) (sn : SnL D M D' M' 134 K) (x : NdX s s' N) (uk : UkR V M' s' U) (a : ∀ o j, (o = 128 ∨ o = 129 ∨ o = 130 ∨ o = 132) → mA M' o j = mA M o j) (m : ∀ o j, (o = 126 ∨ o = 127) → mX M' o j = mX M o j) (ti : ∀ k, k ∈ [0, 126, 129, 130, 143, 154] → tI s' k = tI s k) (tl : tL s' 203 = tL s 203) (t : ∀ k j, k ∈ [141, 142, 180, 194, 195, 202] → tA s' k j = tA s k j) : IdxR V E U S K N D' M' s' := by
  obtain ⟨-, ⟨b1, b2, b3⟩, -, ⟨c1, c2, c3, c4⟩, eqs, dv, t0, ⟨z1, z2⟩, rb, uwE⟩ := h
  have h7 : N ≤ 70000 := by have := A.2.2.2.1.2.2; omega
  refine ⟨⟨A, r69⟩, ⟨m65.trans b1, (ti 143 (by decide)).trans b2, b3⟩, uk, ⟨(ti 126 (by decide)).trans c1, c2, c3, tl.trans c4⟩, fun e he => ?_, fun e he => ?_, (ti 0 (by decide)).trans t0, ⟨(ti 129 (by decide)).trans z1, (ti 130 (by decide)).trans z2⟩, fun e u he h1 h2 => ?_, fun e he z0 => ?_⟩
  · obtain ⟨p1, p2, p3⟩ := eqs e he
    rw [a 128 e (by omega), t 180 e (by decide)]
    refine ⟨p1, fun z => (p2 z).ml sn x h7 (m _ _ (by omega)) (m _ _ (by omega)) (t _ _ (by decide)) (t _ _ (by decide)) (fun u hu => a _ _ (by omega)) (fun u hu => t _ _ (by decide)), fun z u hu => ?_⟩
    rw [a 132 _ (by omega), t 202 _ (by decide)]; exact p3 z u hu
  · rw [a 129 e (by omega), a 130 e (by omega), t 194 e (by decide), t 195 e (by decide)]; exact dv e he
  · rw [t 202 _ (by decide)]; exact rb e u he h1 h2
  · rw [t 180 e (by decide)] at z0
    obtain ⟨n1, n2, ⟨a1, a2, -⟩, ⟨b1', b2', -⟩, -⟩ := (eqs e he).2.1 z0
    obtain ⟨u1, u2⟩ := uwE e he z0
    have w1 := SxR.tw _ _ _ _ a2
    have w2 := SxR.tw _ _ _ _ b2'
    have w1' := w1.nb
    have w2' := w2.nb
    rw [a1, ix_nI (by omega)] at u1
    rw [b1', ix_nI (by omega)] at u2
    rw [t 141 e (by decide), t 142 e (by decide), a1, b1', ix_nI (by omega), ix_nI (by omega)]
    exact ⟨u1.mv h7 (x.nu (U := 0)) (ti 154 (by decide)) w1 (TwT.mv x (Nat.le_refl _) _ _ _ _ (Nat.le_refl _) w1), u2.mv h7 (x.nu (U := 0)) (ti 154 (by decide)) w2 (TwT.mv x (Nat.le_refl _) _ _ _ _ (Nat.le_refl _) w2)⟩
end SNL
