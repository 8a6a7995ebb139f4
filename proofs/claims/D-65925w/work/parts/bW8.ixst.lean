/-! Layer B: the index: where it starts -/
set_option maxRecDepth 100000
section IXST
variable {D : FQ} {M : CM} {s s0 : TS} {V E A Wn U Kf K1 K2 N h st a n u w : Nat} {fx : Int32}
/-- DER and PRE leaves of a flat tree -/
theorem NdR.wl (h7 : N ≤ 70000) (hV : V ≤ 96) : ∀ (h H st a n w : Nat), NdR fx D M s 106 V h st Kf N a n → OcW s H n w → ∃ v x, v < V ∧ LfU s v w x
  | 0, _, _, _, _, _, z, _ => z.elim
  | _ + 1, 0, _, _, _, _, _, d => d.elim
  | h + 1, H + 1, st, a, n, w, z, d => by
    have ih := fun st a n z d => NdR.wl h7 hV h H st a n w z d
    obtain ⟨-, z⟩ := z.view
    rcases z with ⟨-, z⟩ | ⟨-, ⟨q, ⟨s1, x, x1, x2⟩, -⟩ | ⟨q, ⟨s1, x, x1, x2⟩, ⟨s2, y, y1, y2⟩, -⟩ | ⟨q, ⟨s1, x, x1, x2⟩, ⟨s2, y, y1, y2⟩, s3, c, w1, w2⟩ | ⟨q, ⟨s2, y, y1, y2⟩, ⟨s3, c, w1, w2⟩, -⟩⟩
    · rcases z with ⟨-, q, -⟩ | ⟨-, q⟩ | ⟨-, q, -⟩ | ⟨q, v, v1, -, v3, -⟩
      · exact absurd d (OcW_0 (by rw [q]; decide))
      · exact absurd d (OcW_0 (by rw [q]; decide))
      · exact absurd d (OcW_0 (by rw [q]; decide))
      · simp only [List.mem_cons, Prod.mk.injEq, List.not_mem_nil, or_false] at q
        rcases q with ⟨-, q⟩ | ⟨-, q⟩ | ⟨-, q⟩
        · exact absurd d (OcW_0 (by rw [q]; decide))
        · obtain ⟨v', x', d1, d2⟩ := (OcW_d (Or.inl q)).mp d
          have := d2.1.2
          exact ⟨v', x', by rw [nIq (d1.symm.trans v3) (by omega) (by omega)]; exact v1, d2⟩
        · obtain ⟨v', x', d1, d2⟩ := (OcW_d (Or.inr q)).mp d
          have := d2.1.2
          exact ⟨v', x', by rw [nIq (d1.symm.trans v3) (by omega) (by omega)]; exact v1, d2⟩
    · have xx : ix (nI x) = x := ix_nI (by have := x2.nb; omega)
      rw [OcW_1 q, x1, xx] at d
      exact ih _ _ _ x2 d
    · have xx : ix (nI x) = x := ix_nI (by have := x2.nb; omega)
      have yy : ix (nI y) = y := ix_nI (by have := y2.nb; omega)
      rw [OcW_2 q, x1, xx, y1, yy] at d
      exact d.elim (ih _ _ _ x2) (ih _ _ _ y2)
    · have xx : ix (nI x) = x := ix_nI (by have := x2.nb; omega)
      have yy : ix (nI y) = y := ix_nI (by have := y2.nb; omega)
      have ww : ix (nI c) = c := ix_nI (by have := w2.nb; omega)
      rw [OcW_3 q, x1, xx, y1, yy, w1, ww] at d
      exact d.elim (fun d => d.elim (ih _ _ _ x2) (ih _ _ _ y2)) (ih _ _ _ w2)
    · have yy : ix (nI y) = y := ix_nI (by have := y2.nb; omega)
      have ww : ix (nI c) = c := ix_nI (by have := w2.nb; omega)
      rw [OcW_4 (Or.inl q), y1, yy, w1, ww] at d
      exact d.elim (ih _ _ _ y2) (ih _ _ _ w2)
/-- relations of a flat tree have numbers -/
theorem NdR.wq (h7 : N ≤ 70000) : ∀ (h H st a n : Nat), NdR fx D M s 106 V h st Kf N a n → NumT D M s Kf N h n → OcQ s H n → False
  | 0, _, _, _, _, z, _, _ => z.elim
  | _ + 1, 0, _, _, _, _, _, d => d.elim
  | h + 1, H + 1, st, a, n, z, nt, d => by
    have ih := fun st a n z nt d => NdR.wq h7 h H st a n z nt d
    have nb := z.nb
    have n5 : n < N ∧ n < 100000 := ⟨nb.2, by omega⟩
    have rk : isR s n → RqOk s n := fun i => by
      obtain ⟨-, r, c1, -, c3, -, c5⟩ := nt n ⟨n5, Or.inl rfl⟩ i
      exact ⟨r, c1, c3, c5⟩
    have ch2 : ∀ x, tA s 121 n ∈ kd2 → tA s 122 n = nI x → NumT D M s Kf N h x := fun x hk e1 m o r => nt m ⟨n5, Or.inr (Or.inl ⟨hk, x, e1, o⟩)⟩ r
    have ch3 : ∀ x, tA s 121 n ∈ kd3 → tA s 123 n = nI x → NumT D M s Kf N h x := fun x hk e1 m o r => nt m ⟨n5, Or.inr (Or.inr (Or.inl ⟨hk, x, e1, o⟩))⟩ r
    have ch4 : ∀ x, tA s 121 n ∈ kd4 → tA s 124 n = nI x → NumT D M s Kf N h x := fun x hk e1 m o r => nt m ⟨n5, Or.inr (Or.inr (Or.inr ⟨hk, x, e1, o⟩))⟩ r
    have k12 : tA s 121 n ∈ k1T → tA s 121 n ∈ kd2 := fun q => by
      simp only [List.mem_cons, List.not_mem_nil, or_false] at q
      rcases q with q | q | q | q | q | q <;> rw [q] <;> decide
    have k22 : tA s 121 n ∈ k2T → tA s 121 n ∈ kd2 ∧ tA s 121 n ∈ kd3 := fun q => by
      simp only [List.mem_cons, List.not_mem_nil, or_false] at q
      rcases q with q | q | q | q | q | q | q | q <;> rw [q] <;> decide
    obtain ⟨-, z⟩ := z.view
    rcases z with ⟨-, z⟩ | ⟨-, ⟨q, ⟨s1, x, x1, x2⟩, -⟩ | ⟨q, ⟨s1, x, x1, x2⟩, ⟨s2, y, y1, y2⟩, -⟩ | ⟨q, ⟨s1, x, x1, x2⟩, ⟨s2, y, y1, y2⟩, s3, c, w1, w2⟩ | ⟨q, ⟨s2, y, y1, y2⟩, ⟨s3, c, w1, w2⟩, -⟩⟩
    · rcases z with ⟨-, q, -⟩ | ⟨-, q⟩ | ⟨-, q, -⟩ | ⟨q, v, v1, -, v3, -⟩
      · exact OcQ_0 (by rw [q]; decide) d
      · exact OcQ_0 (by rw [q]; decide) d
      · exact (OcQ_5 q).mp d (rk (Or.inr q))
      · simp only [List.mem_cons, Prod.mk.injEq, List.not_mem_nil, or_false] at q
        rcases q with ⟨-, q⟩ | ⟨-, q⟩ | ⟨-, q⟩ <;> exact OcQ_0 (by rw [q]; decide) d
    · have xx : ix (nI x) = x := ix_nI (by have := x2.nb; omega)
      rw [OcQ_1 q, x1, xx] at d
      exact ih _ _ _ x2 (ch2 x (k12 q) x1) d
    · have xx : ix (nI x) = x := ix_nI (by have := x2.nb; omega)
      have yy : ix (nI y) = y := ix_nI (by have := y2.nb; omega)
      rw [OcQ_2 q, x1, xx, y1, yy] at d
      exact d.elim (ih _ _ _ x2 (ch2 x (k22 q).1 x1)) (ih _ _ _ y2 (ch3 y (k22 q).2 y1))
    · have xx : ix (nI x) = x := ix_nI (by have := x2.nb; omega)
      have yy : ix (nI y) = y := ix_nI (by have := y2.nb; omega)
      have ww : ix (nI c) = c := ix_nI (by have := w2.nb; omega)
      rw [OcQ_3 q, x1, xx, y1, yy, w1, ww] at d
      exact d.elim (fun d => d.elim (ih _ _ _ x2 (ch2 x (by rw [q]; decide) x1)) (ih _ _ _ y2 (ch3 y (by rw [q]; decide) y1))) (ih _ _ _ w2 (ch4 c (by rw [q]; decide) w1))
    · have yy : ix (nI y) = y := ix_nI (by have := y2.nb; omega)
      have ww : ix (nI c) = c := ix_nI (by have := w2.nb; omega)
      rw [OcQ_4 (Or.inl q), y1, yy, w1, ww] at d
      rcases d with ⟨-, d⟩ | d | d
      · exact d (rk (Or.inl q))
      · exact ih _ _ _ y2 (ch3 y (by rw [q]; decide) y1) d
      · exact ih _ _ _ w2 (ch4 c (by rw [q]; decide) w1) d
/-- unknowns of a flat tree -/
theorem NdR.ul (h7 : N ≤ 70000) (hV : V ≤ 96) : ∀ (h H st a n u : Nat), NdR fx D M s 106 V h st Kf N a n → OcU s H n u → (∃ v x, v < V ∧ LfU s v u x) ∨ ∃ v w x, v < V ∧ LfU s v w x ∧ tA s 189 w = nI u ∧ u < 180
  | 0, _, _, _, _, _, z, _ => z.elim
  | _ + 1, 0, _, _, _, _, _, d => d.elim
  | h + 1, H + 1, st, a, n, u, z, d => by
    have ih := fun st a n z d => NdR.ul h7 hV h H st a n u z d
    obtain ⟨-, z⟩ := z.view
    rcases z with ⟨-, z⟩ | ⟨-, ⟨q, ⟨s1, x, x1, x2⟩, -⟩ | ⟨q, ⟨s1, x, x1, x2⟩, ⟨s2, y, y1, y2⟩, -⟩ | ⟨q, ⟨s1, x, x1, x2⟩, ⟨s2, y, y1, y2⟩, s3, c, w1, w2⟩ | ⟨q, ⟨s2, y, y1, y2⟩, ⟨s3, c, w1, w2⟩, -⟩⟩
    · rcases z with ⟨-, q, -⟩ | ⟨-, q⟩ | ⟨-, q, -⟩ | ⟨q, v, v1, -, v3, -⟩
      · exact absurd d (OcU_0 (by rw [q]; decide))
      · exact absurd d (OcU_0 (by rw [q]; decide))
      · exact absurd d (OcU_0 (by rw [q]; decide))
      · have q' : tA s 121 n ∈ ([2, 3, 4, 30] : List Int32) := by
          simp only [List.mem_cons, Prod.mk.injEq, List.not_mem_nil, or_false] at q
          rcases q with ⟨-, q⟩ | ⟨-, q⟩ | ⟨-, q⟩ <;> rw [q] <;> decide
        have same : ∀ {v'}, tA s 122 n = nI v' → v' < 96 → v' < V := fun e hv => by rw [nIq (e.symm.trans v3) (by omega) (by omega)]; exact v1
        obtain ⟨x, l⟩ := (OcU_l q').mp d
        rcases l with ⟨-, v', l1, l2⟩ | ⟨-, v', w', l1, l2, l3, l4⟩ | ⟨l, -⟩
        · exact Or.inl ⟨v', x, same l1 l2.1.2, l2⟩
        · exact Or.inr ⟨v', w', x, same l1 l2.1.2, l2, l3, l4⟩
        · exfalso
          simp only [List.mem_cons, Prod.mk.injEq, List.not_mem_nil, or_false] at q
          rcases q with ⟨-, q⟩ | ⟨-, q⟩ | ⟨-, q⟩ <;> rw [q] at l <;> exact absurd l (by decide)
    · have xx : ix (nI x) = x := ix_nI (by have := x2.nb; omega)
      rw [OcU_1 q, x1, xx] at d
      exact ih _ _ _ x2 d
    · have xx : ix (nI x) = x := ix_nI (by have := x2.nb; omega)
      have yy : ix (nI y) = y := ix_nI (by have := y2.nb; omega)
      rw [OcU_2 q, x1, xx, y1, yy] at d
      exact d.elim (ih _ _ _ x2) (ih _ _ _ y2)
    · have xx : ix (nI x) = x := ix_nI (by have := x2.nb; omega)
      have yy : ix (nI y) = y := ix_nI (by have := y2.nb; omega)
      have ww : ix (nI c) = c := ix_nI (by have := w2.nb; omega)
      rw [OcU_3 q, x1, xx, y1, yy, w1, ww] at d
      exact d.elim (fun d => d.elim (ih _ _ _ x2) (ih _ _ _ y2)) (ih _ _ _ w2)
    · have yy : ix (nI y) = y := ix_nI (by have := y2.nb; omega)
      have ww : ix (nI c) = c := ix_nI (by have := w2.nb; omega)
      rw [OcU_4 (Or.inl q), y1, yy, w1, ww] at d
      exact d.elim (ih _ _ _ y2) (ih _ _ _ w2)
theorem ix_start (hV : V ≤ 96) (so : SoE V E A Wn Kf N s0 D M K1 K2 s) (un : UkR V M s U) (t0 : tI s 0 = 0) (tz : tI s 129 = 0 ∧ tI s 130 = 0) (t143 : tI s 143 = nI E) (t126 : tI s 126 = nI N) (hN : 1 ≤ N ∧ N ≤ 12001) (e1 : ∀ e, e < E → tA s 194 e = -1 ∧ tA s 195 e = -1) (hU : ∀ v u x, v < V → LfU s0 v u x → u < U) : IdxR V E U E K1 N D M s := by
  obtain ⟨⟨⟨A, r69, -, va⟩, -, -, ⟨-, ⟨E120, -, fe⟩, -, -, f128⟩⟩, ⟨m65, t203⟩, eqs, -, -, f⟩ := so
  have h7 : N ≤ 70000 := by omega
  have x : NdX s0 s N := NdX.ft f rfl
  have t180 : ∀ j, tA s 180 j = tA s0 180 j := fun j => (f 180 rfl).2.2.1 j
  have t189 : ∀ j, tA s0 189 j = tA s 189 j := fun j => ((f 189 rfl).2.2.1 j).symm
  have uo : ∀ {a n}, NdR 0 D M s0 106 V 100 0 Kf N a n → ∀ u, OcU s0 200 n u → u < U := fun z u o => by
    rcases NdR.ul h7 hV _ _ _ _ _ _ z o with ⟨v, y, hv, l⟩ | ⟨v, w, y, hv, l, l2, l3⟩
    · exact hU v u y hv l
    · have hw := hU v w y hv l
      rw [t189] at l2
      rcases (un.2 w hw).2.2.2 with q | ⟨w', -, q1, q2⟩
      · exact absurd (q.symm.trans l2).symm (nI_m1 (by omega))
      · have := un.1.2.2
        rw [nIq (l2.symm.trans q2) (by omega) (by omega)]; exact q1
  have uw : ∀ {a n}, NdR 0 D M s0 106 V 100 0 Kf N a n → NumT D M s0 Kf N 100 n → UX s0 U n := fun z nt => ⟨fun H w o => by
    obtain ⟨v, y, hv, l⟩ := NdR.wl h7 hV _ _ _ _ _ _ z o
    exact hU v w y hv l, fun H o => NdR.wq h7 _ _ _ _ _ z nt o⟩
  refine ⟨⟨A, r69⟩, ⟨m65, t143, by omega, Nat.le_refl _⟩, un, ⟨t126, hN.1, by omega, t203⟩, fun e he => ⟨?_, fun z => ?_, fun z => ?_⟩, fun e he => ?_, t0, tz, fun e u he h1 h2 => ?_, fun e he z => ?_⟩
  · rw [t180]; exact f128 e he
  · rw [t180] at z
    obtain ⟨n1, n2, ⟨a1, a2, a3, a4⟩, ⟨b1, b2, b3, b4⟩, c⟩ := (eqs e he).1 z
    have p1 := TwT.ps x h7 200 200 0 n1 (Nat.le_refl _) (SxR.tw _ _ _ _ a2)
    have p2 := TwT.ps x h7 200 200 0 n2 (Nat.le_refl _) (SxR.tw _ _ _ _ b2)
    refine ⟨n1, n2, ⟨((f 141 rfl).2.2.1 e).trans a1, SxR.mv SnK.rf x (Nat.le_refl _) (Nat.le_refl _) h7 _ _ _ _ _ (Nat.le_refl _) a2, by rw [p1.2]; exact a3, by rw [p1.1]; exact a4⟩, ⟨((f 142 rfl).2.2.1 e).trans b1, SxR.mv SnK.rf x (Nat.le_refl _) (Nat.le_refl _) h7 _ _ _ _ _ (Nat.le_refl _) b2, by rw [p2.2]; exact b3, by rw [p2.1]; exact b4⟩, fun u hu => ?_⟩
    rw [OcU.fi f rfl, OcU.fi f rfl]; exact c u hu
  · rw [t180] at z
    exact ((eqs e he).2.1 (by rw [z]; decide)).2.2
  · obtain ⟨-, -, q1, q2, -⟩ := eqs e he
    rw [(e1 e he).1, (e1 e he).2]
    exact ⟨q1, q2, Or.inl rfl⟩
  · by_cases z : tA s0 180 e = 0
    · obtain ⟨n1, n2, ⟨a1, a2, -⟩, ⟨b1, b2, -⟩, c⟩ := (eqs e he).1 z
      obtain ⟨m1, m2, ⟨c1, c2, -⟩, c3, c4, -⟩ := fe e he
      have w1 := a2.nb
      have w2 := b2.nb
      have w3 := c2.nb
      have w4 := c4.nb
      have q1 : m1 = n1 := nIq (c1.symm.trans a1) (by omega) (by omega)
      have q2 : m2 = n2 := nIq (c3.symm.trans b1) (by omega) (by omega)
      rw [q1] at c2
      rw [q2] at c4
      refine ((c u h2).2 (fun o => ?_)).2
      have : u < U := o.elim (uo c2 u) (uo c4 u)
      omega
    · exact (((eqs e he).2.1 z).2.2 u h2).2
  · rw [t180] at z
    obtain ⟨n1, n2, ⟨a1, a2, -⟩, ⟨b1, b2, -⟩, -⟩ := (eqs e he).1 z
    obtain ⟨m1, m2, ⟨c1, c2, c5, -⟩, c3, c4, c6, -⟩ := fe e he
    have w3 := c2.nb
    have w4 := c4.nb
    have w1 := a2.nb
    have w2 := b2.nb
    have q1 : m1 = n1 := nIq (c1.symm.trans a1) (by omega) (by omega)
    have q2 : m2 = n2 := nIq (c3.symm.trans b1) (by omega) (by omega)
    rw [q1] at c2 c5
    rw [q2] at c4 c6
    have t1 := SxR.tw _ _ _ _ a2
    have t2 := SxR.tw _ _ _ _ b2
    rw [(f 141 rfl).2.2.1, (f 142 rfl).2.2.1, a1, b1, ix_nI (by omega), ix_nI (by omega)]
    exact ⟨(uw c2 c5).mv h7 (x.nu (U := 0)) (f 154 rfl).1 t1 (TwT.mv x (Nat.le_refl _) _ _ _ _ (Nat.le_refl _) t1), (uw c4 c6).mv h7 (x.nu (U := 0)) (f 154 rfl).1 t2 (TwT.mv x (Nat.le_refl _) _ _ _ _ (Nat.le_refl _) t2)⟩
end IXST
