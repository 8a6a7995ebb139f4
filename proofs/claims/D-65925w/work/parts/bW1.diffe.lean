/-! Layer B: the index: the twin differentiates an equation -/
set_option maxRecDepth 100000
abbrev dfS : List Nat := [0, 1, 121, 122, 123, 124, 125, 126, 127, 131, 134, 141, 142, 143, 180, 194, 195, 201, 202, 203]
def dfA (s : TS) (S : Nat) : TS := tsA (tsI s 143 (nI (S + 1))) 180 S 0
/-- an equation more, and all that it is -/
def DfG (s : TS) (S K N g n1 n2 c1 c2 : Nat) (sa sb s' : TS) (N1 N2 m1 m2 : Nat) : Prop :=
  (tI s' 0 = 0 ∧ tI s' 143 = nI (S + 1) ∧ tI s' 126 = nI N2 ∧ (N ≤ N1 ∧ N1 ≤ N + c1 ∧ N1 ≤ N2 ∧ N2 ≤ N1 + c2) ∧ tL s' 203 = n64 (K + c1 + c2)) ∧ (NdX s s' N ∧ NdX sb s' N1) ∧
  (∀ j, tA s' 141 j = if j = S then nI m1 else tA s 141 j) ∧ (∀ j, tA s' 142 j = if j = S then nI m2 else tA s 142 j) ∧ (∀ j, tA s' 180 j = if j = S then 0 else tA s 180 j) ∧ (∀ j, tA s' 194 j = if j = g then nI S else if j = S then -1 else tA s 194 j) ∧ (∀ j, tA s' 195 j = if j = S then nI g else tA s 195 j) ∧
  (Der s' N2 200 n1 m1 ∧ Der s' N2 200 n2 m2 ∧ TwZ s' N2 200 0 m1 c1 (dH sa 200 n1) ∧ TwZ s' N2 200 0 m2 c2 (dH sb 200 n2)) ∧
  (∀ u, u < 200 → ((OcU s' 200 m1 u ∨ OcU s' 200 m2 u) → tA s' 202 (200 * S + u) = 1) ∧ (¬ (OcU s' 200 m1 u ∨ OcU s' 200 m2 u) → tA s' 202 (200 * S + u) = 0)) ∧ ∀ j, ¬ (200 * S ≤ j ∧ j < 200 * S + 200) → tA s' 202 j = tA s 202 j
/-- the end of it -/
def dfTl (v1 : Int32) (σ : TS) : Option (Unit × TS) :=
  ob (F_isBad σ) fun r26 s25 =>
    if r26 = 0 then
      if inb v1 400 then
      ob (F_printedSize (tA s25 141 (ix v1)) s25) fun r31 s30 =>
      if inb v1 400 then
      ob (F_printedSize (tA s30 142 (ix v1)) s30) fun r36 s35 =>
      nm (tsL s35 203 ((tL s25 203) + (r31 + r36))) fun s39 =>
      if 0 < lg_cmp (tL s39 203) 40000 then
        ob (F_bad 52 (tI s39 204) s39) fun r41 s40 =>
        some ((), s40)
      else
        if inb v1 400 then
        ob (F_printedHeight (tA s39 141 (ix v1)) s39) fun r46 s45 =>
        if 200 < r46 then
          ob (F_bad 52 (tI s45 204) s45) fun r50 s49 =>
          some ((), s49)
        else
          if inb v1 400 then
          ob (F_printedHeight (tA s45 142 (ix v1)) s45) fun r55 s54 =>
          if r55 ≤ 200 then
            ob (F_learn v1 s54) fun r59 s58 =>
            some ((), s58)
          else
            ob (F_bad 52 (tI s54 204) s54) fun r63 s62 =>
            some ((), s62)
          else none
        else none
      else none
      else none
    else
      some ((), s25)
section DIFFE
variable {s s' s1 : TS} {S K N g n n1 n2 : Nat} {S' : List Nat}
theorem DnU.nx (h7 : N ≤ 70000) (d : DnU s 200 n) (t : TwT s N 200 0 n) (x : NdX s s' N) (f : Ft S' s' s) (hS : [94, 121, 122, 123, 124, 134, 162, 177, 178, 179, 189].all (fun k => !S'.contains k) = true) : DnU s' 200 n := fun u o => by
  obtain ⟨d, d1, d2⟩ := d u (OcU.ft f hS _ _ _ o)
  exact ⟨d, by rw [← (f 189 (by simpa using List.all_eq_true.mp hS 189 (by decide))).2.2.1]; exact d1, d2⟩
/-- unknowns of a tree stay when nodes are made -/
theorem OcU.nd (h7 : N ≤ 70000) (x : NdX s s' N) : ∀ (h st n u : Nat), TwT s N h st n → (OcU s' h n u ↔ OcU s h n u)
  | 0, _, _, _, t => t.elim
  | h + 1, st, n, u, t => by
    have ih := fun st n t => OcU.nd h7 x h st n u t
    have nb := t.nb
    have e1 := x.1 121 (by decide) n nb.2
    have e2 := x.1 122 (by decide) n nb.2
    have e3 := x.1 123 (by decide) n nb.2
    have e4 := x.1 124 (by decide) n nb.2
    have t0 := t
    rcases t.view with q | ⟨q, v, v1, v2⟩ | q | ⟨q, a, x1, x2⟩ | ⟨q, ⟨a, x1, x2⟩, b, y1, y2⟩ | ⟨q, ⟨a, x1, x2⟩, ⟨b, y1, y2⟩, c, w1, w2⟩ | ⟨q, ⟨b, y1, y2⟩, c, w1, w2⟩
    · have q' : tA s 121 n ∈ ([0, 1, 4, 24] : List Int32) := by
        simp only [List.mem_cons, List.not_mem_nil, or_false] at q
        rcases q with q | q | q <;> rw [q] <;> decide
      exact ⟨fun z => absurd z (OcU_0 (by rw [e1]; exact q')), fun z => absurd z (OcU_0 q')⟩
    · obtain ⟨-, t⟩ := t
      by_cases k4 : tA s 121 n = 4
      · exact ⟨fun z => absurd z (OcU_0 (by rw [e1, k4]; decide)), fun z => absurd z (OcU_0 (by rw [k4]; decide))⟩
      · rcases t with ⟨-, y | y⟩ | ⟨-, y, v', z1, z2, z3⟩ | ⟨-, u', x', y⟩ | ⟨-, y, -⟩ | ⟨y, -⟩ | ⟨y, -⟩ | ⟨-, y, -⟩ | ⟨-, y | y, -⟩ | ⟨-, y⟩
        · rw [y] at q; exact absurd q (by decide)
        · rw [y] at q; exact absurd q (by decide)
        · have y2 := y.resolve_right k4
          exact ⟨fun z => absurd z (OcU_v (by rw [e1]; exact y2) ⟨by rw [e2]; exact z2, z1, by rw [x.2.1 94 (by decide)]; exact z3⟩), fun z => absurd z (OcU_v y2 ⟨z2, z1, z3⟩)⟩
        · rw [OcU_u y, OcU_u (y.mv x nb.2)]
        · exact absurd y k4
        · have y := one_k1 y
          simp only [List.mem_cons, List.not_mem_nil, or_false] at q
          rcases q with q | q | q <;> rw [q] at y <;> exact absurd y (by decide)
        · have y := two_k2 y
          simp only [List.mem_cons, List.not_mem_nil, or_false] at q
          rcases q with q | q | q <;> rw [q] at y <;> exact absurd y (by decide)
        · rw [y] at q; exact absurd q (by decide)
        · rw [y] at q; exact absurd q (by decide)
        · rw [y] at q; exact absurd q (by decide)
        · rw [y] at q; exact absurd q (by decide)
    · obtain ⟨-, t⟩ := t
      rcases t with ⟨-, y | y⟩ | ⟨-, y | y, -⟩ | ⟨-, u', x', y⟩ | ⟨-, y, -⟩ | ⟨y, -⟩ | ⟨y, -⟩ | ⟨-, y, -⟩ | ⟨-, y | y, -⟩ | ⟨-, y⟩
      · rw [y] at q; exact absurd q (by decide)
      · rw [y] at q; exact absurd q (by decide)
      · rw [y] at q; exact absurd q (by decide)
      · rw [y] at q; exact absurd q (by decide)
      · rw [OcU_u y, OcU_u (y.mv x nb.2)]
      · rw [y] at q; exact absurd q (by decide)
      · have y := one_k1 y; rw [q] at y; exact absurd y (by decide)
      · have y := two_k2 y; rw [q] at y; exact absurd y (by decide)
      · rw [y] at q; exact absurd q (by decide)
      · rw [y] at q; exact absurd q (by decide)
      · rw [y] at q; exact absurd q (by decide)
      · rw [y] at q; exact absurd q (by decide)
    · have xx : ix (nI a) = a := ix_nI (by have := x2.nb; omega)
      rw [OcU_1 q, OcU_1 (s := s') (by rw [e1]; exact q), e2, x1, xx, ih _ _ x2]
    · have xx : ix (nI a) = a := ix_nI (by have := x2.nb; omega)
      have yy : ix (nI b) = b := ix_nI (by have := y2.nb; omega)
      rw [OcU_2 q, OcU_2 (s := s') (by rw [e1]; exact q), e2, x1, xx, e3, y1, yy, ih _ _ x2, ih _ _ y2]
    · have xx : ix (nI a) = a := ix_nI (by have := x2.nb; omega)
      have yy : ix (nI b) = b := ix_nI (by have := y2.nb; omega)
      have ww : ix (nI c) = c := ix_nI (by have := w2.nb; omega)
      rw [OcU_3 q, OcU_3 (s := s') (by rw [e1]; exact q), e2, x1, xx, e3, y1, yy, e4, w1, ww, ih _ _ x2, ih _ _ y2, ih _ _ w2]
    · have yy : ix (nI b) = b := ix_nI (by have := y2.nb; omega)
      have ww : ix (nI c) = c := ix_nI (by have := w2.nb; omega)
      rw [OcU_4 q, OcU_4 (s := s') (by rw [e1]; exact q), e3, y1, yy, e4, w1, ww, ih _ _ y2, ih _ _ w2]
theorem DnU.nd (h7 : N ≤ 70000) (d : DnU s 200 n) (t : TwT s N 200 0 n) (x : NdX s s' N) : DnU s' 200 n := fun u o => by
  obtain ⟨d, d1, d2⟩ := d u ((OcU.nd h7 x _ _ _ _ t).mp o)
  exact ⟨d, (x.2.2 u (by rw [d1]; exact nI_m1 (by omega))).trans d1, d2⟩
theorem dS_le (h7 : N ≤ 70000) : ∀ (h n : Nat), TwT s N h 0 n → dS s h n ≤ 8 * (h * PS s h n)
  | 0, _, t => t.elim
  | h + 1, n, t => by
    have ih := fun n t => dS_le h7 h n t
    have ph := fun {st n} (t : TwT s N h st n) => (TwT.ph h7 _ _ _ t).2.2
    have lfv : dS s (h + 1) n ≤ 2 → 1 ≤ PS s (h + 1) n → dS s (h + 1) n ≤ 8 * ((h + 1) * PS s (h + 1) n) := fun a b => by
      have : 1 * 1 ≤ (h + 1) * PS s (h + 1) n := Nat.mul_le_mul (by omega) b
      omega
    have p1 := (TwT.ph h7 _ _ _ t).2.2
    have vv : tA s 121 n ∈ ([2, 3, 4] : List Int32) → dS s (h + 1) n ≤ 8 * ((h + 1) * PS s (h + 1) n) := fun q => by
      refine lfv ?_ p1
      rw [(dS_v q).1]; split <;> decide
    have zz : tA s 121 n ∈ ([0, 1, 12, 13, 30] : List Int32) → dS s (h + 1) n ≤ 8 * ((h + 1) * PS s (h + 1) n) := fun q => by
      refine lfv ?_ p1
      rw [(dS_0 q).1]; decide
    obtain ⟨nb, t⟩ := t
    rcases t with ⟨-, q | q⟩ | ⟨-, q | q, -⟩ | ⟨-, u, x, q⟩ | ⟨-, q, -⟩ | ⟨q, a, x1, x2⟩ | ⟨q, ⟨a, x1, x2⟩, b, y1, y2⟩ | ⟨-, q, ⟨c, w1, w2⟩, ⟨a, x1, x2⟩, b, y1, y2⟩ | ⟨q, -⟩ | ⟨q, -⟩
    · exact zz (by rw [q]; decide)
    · exact zz (by rw [q]; decide)
    · exact vv (by rw [q]; decide)
    · exact vv (by rw [q]; decide)
    · rcases q with ⟨q, -⟩ | ⟨q, -⟩ | ⟨q, -⟩
      · exact vv (by rw [q]; decide)
      · exact vv (by rw [q]; decide)
      · exact zz (by rw [q]; decide)
    · exact vv (by rw [q]; decide)
    · have aN : a < 70000 := by have := x2.nb; omega
      have i := ih a x2
      have z := ph x2
      have ps := (PS_1 (h := h) (one_k1 q)).1
      rw [x1, ix_nI (by omega)] at ps
      have ex : (h + 1) * (1 + PS s h a) = h + h * PS s h a + 1 + PS s h a := by rw [Nat.add_mul, Nat.mul_add, Nat.one_mul, Nat.mul_one]; omega
      simp only [List.mem_cons, Prod.mk.injEq, List.not_mem_nil, or_false] at q
      rcases q with ⟨-, q⟩ | ⟨-, q⟩ | ⟨-, q⟩ | ⟨-, q⟩ | ⟨-, q⟩ | ⟨y, -⟩
      · rw [(dS_7 q x1 aN).1, ps, ex]; omega
      · rw [(dS_10 q x1 aN).1, ps, ex]; omega
      · rw [(dS_11 q x1 aN).1, ps, ex]; omega
      · exact zz (by rw [q]; decide)
      · exact zz (by rw [q]; decide)
      · exact absurd y (by decide)
    · have aN : a < 70000 := by have := x2.nb; omega
      have bN : b < 70000 := by have := y2.nb; omega
      have ps := (PS_2 (h := h) (two_k2 q)).1
      rw [x1, ix_nI (n := a) (by omega), y1, ix_nI (n := b) (by omega)] at ps
      have ex : (h + 1) * (1 + PS s h a + PS s h b) = h + h * PS s h a + h * PS s h b + 1 + PS s h a + PS s h b := by rw [Nat.add_mul, Nat.mul_add, Nat.mul_add, Nat.one_mul, Nat.mul_one]; omega
      simp only [List.mem_cons, Prod.mk.injEq, List.not_mem_nil, or_false] at q
      have main : (tA s 121 n = 5 ∨ tA s 121 n = 6) ∨ tA s 121 n = 8 ∨ tA s 121 n = 9 ∨ (tA s 121 n = 14 ∨ tA s 121 n = 15) → TwT s N h 0 a → TwT s N h 0 b → dS s (h + 1) n ≤ 8 * ((h + 1) * PS s (h + 1) n) := fun q ta tb => by
        have i := ih a ta
        have j := ih b tb
        have z := ph ta
        have z' := ph tb
        rw [ps, ex]
        rcases q with q | q | q | q
        · rw [(dS_5 q x1 y1 ⟨aN, bN⟩).1]; omega
        · rw [(dS_8 q x1 y1 ⟨aN, bN⟩).1]; omega
        · rw [(dS_9 q x1 y1 ⟨aN, bN⟩).1]; omega
        · rw [(dS_14 q x1 y1 ⟨aN, bN⟩).1]; omega
      rcases q with ⟨y, q⟩ | ⟨y, q⟩ | ⟨y, q⟩ | ⟨y, q⟩ | ⟨y, q⟩ | ⟨y, q⟩ | ⟨y, -⟩ | ⟨y, -⟩
      · exact main (Or.inl (Or.inl q)) x2 y2
      · exact main (Or.inl (Or.inr q)) x2 y2
      · exact main (Or.inr (Or.inl q)) x2 y2
      · exact main (Or.inr (Or.inr (Or.inl q))) x2 y2
      · exact main (Or.inr (Or.inr (Or.inr (Or.inl q)))) x2 y2
      · exact main (Or.inr (Or.inr (Or.inr (Or.inr q)))) x2 y2
      · exact absurd y (by decide)
      · exact absurd y (by decide)
    · have aN : a < 70000 := by have := x2.nb; omega
      have bN : b < 70000 := by have := y2.nb; omega
      have cN : c < 70000 := by have := w2.nb; omega
      have ps := (PS_3 (h := h) q).1
      rw [w1, ix_nI (n := c) (by omega), x1, ix_nI (n := a) (by omega), y1, ix_nI (n := b) (by omega)] at ps
      have ex : (h + 1) * (1 + PS s h c + PS s h a + PS s h b) = h + h * PS s h c + h * PS s h a + h * PS s h b + 1 + PS s h c + PS s h a + PS s h b := by rw [Nat.add_mul, Nat.mul_add, Nat.mul_add, Nat.mul_add, Nat.one_mul, Nat.mul_one]; omega
      have i := ih a x2
      have j := ih b y2
      rw [(dS_16 q w1 x1 y1 ⟨aN, bN, cN⟩).1, ps, ex]; omega
    · exact absurd q (by decide)
    · exact absurd q (by decide)
theorem t_diffe (hS : tI s 143 = nI S ∧ S ≤ 180) (hg : g < S) (hN : tI s 126 = nI N ∧ 1 ≤ N ∧ N ≤ 12001 + K) (hK : tL s 203 = n64 K ∧ K ≤ 40000) (h0 : tI s 0 = 0) (hz : tI s 129 = 0 ∧ tI s 130 = 0) (e1 : tA s 141 g = nI n1) (e2 : tA s 142 g = nI n2) (t1 : TwT s N 200 0 n1) (t2 : TwT s N 200 0 n2) (d1 : DnU s 200 n1) (d2 : DnU s 200 n2) (hp : PS s 200 n1 ≤ 40000 ∧ PS s 200 n2 ≤ 40000) :
    (S = 180 ∧ ∃ s', F_differentiate (nI g) s = some ((), s') ∧ Ft dfS s s' ∧ tI s' 0 = 52 ∧ tI s' 1 = tI s 204 ∧ Nd5 s s' N) ∨
    (S < 180 ∧ ∃ s11 N1, (NdX (dfA s S) s11 N ∧ N ≤ N1 ∧ N1 ≤ 70000 ∧ (Ft dfS s s11 ∧ ∀ u, tA s11 189 u = tA s 189 u)) ∧
      ((40000 < K + dS (dfA s S) 200 n1 ∨ (N1 ≤ N + dS (dfA s S) 200 n1 ∧ (40000 < K + dS (dfA s S) 200 n1 + dS s11 200 n2 ∨ 200 < dH (dfA s S) 200 n1 ∨ 200 < dH s11 200 n2))) ∧ (∃ s', F_differentiate (nI g) s = some ((), s') ∧ Ft dfS s s' ∧ tI s' 0 = 52 ∧ tI s' 1 = tI s 204 ∧ Nd5 s s' N) ∨
       (K + dS (dfA s S) 200 n1 + dS s11 200 n2 ≤ 40000 ∧ dH (dfA s S) 200 n1 ≤ 200 ∧ dH s11 200 n2 ≤ 200) ∧ ∃ s' N2 m1 m2, F_differentiate (nI g) s = some ((), s') ∧ Ft dfS s s' ∧ DfG s S K N g n1 n2 (dS (dfA s S) 200 n1) (dS s11 200 n2) (dfA s S) s11 s' N1 N2 m1 m2)) := by
  have ig : inb (nI g) 400 := inb_nI' (by omega) (by decide)
  have xg : ix (nI g) = g := ix_nI (by omega)
  by_cases S180 : S = 180
  · left
    refine ⟨S180, _, ?_, ((Ft.rf _ s).p_tsI (k := 0) (v := 52) rfl).p_tsI (k := 1) (v := tI s 204) rfl, rfl, rfl, Nd5.ft (((Ft.rf [0, 1] s).p_tsI (k := 0) (v := 52) rfl).p_tsI (k := 1) (v := tI s 204) rfl) rfl⟩
    unfold F_differentiate
    rw [hS.1, ifT (show nI S = (180 : Int32) by rw [S180]; rfl), t_bad h0, ob_some]
  · right
    have hS1 : S < 180 := by omega
    have n7 : N ≤ 70000 := by omega
    have iS : inb (nI S) 400 := inb_nI' (by omega) (by decide)
    have xS : ix (nI S) = S := ix_nI (by omega)
    have nS : ¬ nI S = (180 : Int32) := fun z => S180 ((bI_eq (b := 180) (by omega) (by decide)).mp z)
    obtain ⟨s4, hs4⟩ : ∃ q, q = dfA s S := ⟨_, rfl⟩
    rw [← hs4]
    have f4 : Ft [143, 180] s s4 := by rw [hs4]; exact ((Ft.rf _ s).p_tsI rfl).p_tsA rfl
    have x4 : NdX s s4 N := NdX.ft f4 rfl
    have t14 := TwT.mv x4 (Nat.le_refl _) _ _ _ _ (Nat.le_refl _) t1
    have d14 := d1.nd n7 t1 x4
    obtain ⟨y1, s6, N1, r1, i1, ⟨v1, v2, v3, v4⟩, l1, x6, o1⟩ := t_derv (σ := s4) (N0 := N) hN.2.1 n7 ⟨(f4 129 rfl).1.trans hz.1, (f4 130 rfl).1.trans hz.2⟩ 200 300 n1 s4 N (by decide) t14 d14 ⟨Ft.rf _ _, NdX.rf, ⟨Nat.le_refl _, n7⟩, (f4 126 rfl).1.trans hN.1⟩ (Or.inl ((f4 0 rfl).1.trans h0))
    obtain ⟨s11, hs11⟩ : ∃ q, q = tsA s6 141 S y1 := ⟨_, rfl⟩
    have f11 : Ft [141] s6 s11 := by rw [hs11]; exact (Ft.rf _ s6).p_tsA rfl
    have x11 : NdX s4 s11 N := x6.tr (NdX.ft (N := N1) f11 rfl) l1
    have xs11 : NdX s s11 N := x4.tr x11 (Nat.le_refl _)
    have t2b := TwT.mv xs11 l1 _ _ _ _ (Nat.le_refl _) t2
    have d2b := d2.nd n7 t2 xs11
    have fA : Ft dfS s s11 := ((f4.mono (by decide)).tr (v1.mono (by decide))).tr (f11.mono (by decide))
    have h204 : tI s11 204 = tI s 204 := (fA 204 rfl).1
    have h04 : tI s4 204 = tI s 204 := (f4 204 rfl).1
    have z11 : tI s11 0 = tI s6 0 := (f11 0 rfl).1
    have st11 : tI s11 0 = 0 ∨ Dvb s11 s11 := by
      rcases o1 with ⟨⟨b1, b2⟩, -⟩ | ⟨g0, -⟩
      · exact Or.inr ⟨z11.trans b1, by rw [(f11 1 rfl).1, b2, h04, h204]⟩
      · exact Or.inl (z11.trans g0)
    obtain ⟨y2, s13, N2, r2, i2, ⟨w1, w2, w3, w4⟩, l2, x13, o2⟩ := t_derv (σ := s11) (N0 := N1) (by omega) v3.2 ⟨(fA 129 rfl).1.trans hz.1, (fA 130 rfl).1.trans hz.2⟩ 200 300 n2 s11 N1 (by decide) t2b d2b ⟨Ft.rf _ _, NdX.rf, ⟨Nat.le_refl _, v3.2⟩, (f11 126 rfl).1.trans v4⟩ st11
    obtain ⟨s24, hs24⟩ : ∃ q, q = tsA (tsA (tsA (tsA s13 142 S y2) 194 S (-1)) 195 S (nI g)) 194 g (nI S) := ⟨_, rfl⟩
    have f24 : Ft [142, 194, 195] s13 s24 := by rw [hs24]; exact ((((Ft.rf _ s13).p_tsA rfl).p_tsA rfl).p_tsA rfl).p_tsA rfl
    have fB : Ft dfS s s24 := (fA.tr (w1.mono (by decide))).tr (f24.mono (by decide))
    have e0 : nZ 0 = 0 := by decide
    have a41 : tA s4 141 g = nI n1 := ((f4 141 rfl).2.2.1 g).trans e1
    have a42 : tA s11 142 g = nI n2 := by rw [(f11 142 rfl).2.2.1, (v1 142 rfl).2.2.1, (f4 142 rfl).2.2.1]; exact e2
    have run : F_differentiate (nI g) s = dfTl (nI S) s24 := by
      unfold F_differentiate dfTl
      rw [hS.1, ifF nS, nm_eq, nI_addL, nm_eq, ifT iS, xS, e0, show tsA (tsI s 143 (nI (S + 1))) 180 S 0 = s4 from hs4.symm, nm_eq, ifT ig, xg, a41, show F_derived (nI n1) s4 = some (y1, s6) from r1, ob_some, ifT iS, ← hs11, nm_eq, ifT ig, a42, show F_derived (nI n2) s11 = some (y2, s13) from r2, ob_some, ifT iS, nm_eq, ifT iS, nm_eq, ifT iS, nm_eq, ifT ig, ← hs24, nm_eq]
    rw [run]
    have b24 : tI s24 0 = tI s13 0 := (f24 0 rfl).1
    have b204 : tI s24 204 = tI s 204 := (fB 204 rfl).1
    refine ⟨hS1, s11, N1, ⟨x11, l1, v3.2, fA, fun u => by rw [(f11 189 rfl).2.2.1, (v1 189 rfl).2.2.1, (f4 189 rfl).2.2.1]⟩, ?_⟩
    rcases o2 with ⟨⟨p1, p2⟩, p3⟩ | ⟨g0, g11, p1, m2, p2, p3, p4, p5⟩
    · left
      have nb : tI s24 0 ≠ 0 := by rw [b24, p1]; decide
      refine ⟨?_, s24, ?_, fB, b24.trans p1, ((f24 1 rfl).1.trans p2).trans h204, ((xs11.tr x13 l1).tr (NdX.ft (N := N) f24 rfl) (Nat.le_refl _)).1⟩
      · rcases o1 with ⟨-, q2⟩ | ⟨q1, -, q2, -⟩
        · have := q2 ((f4 0 rfl).1.trans h0)
          exact Or.inl (by omega)
        · have := p3 (z11.trans q1)
          exact Or.inr ⟨q2, Or.inl (by omega)⟩
      · unfold dfTl
        rw [t_isBad1 nb, ob_some, ifF (by decide)]
    · rcases o1 with ⟨⟨q1, -⟩, -⟩ | ⟨q1, -, q2, m1, q3, q4, q5, q6⟩
      · rw [z11, q1] at g11; exact absurd g11 (by decide)
      · have n24 : tI s24 0 = 0 := b24.trans g0
        have x6b : NdX s6 s13 N1 := (NdX.ft (N := N1) f11 rfl).tr x13 (Nat.le_refl _)
        have xN : NdX s13 s24 N2 := NdX.ft f24 rfl
        have x64 : NdX s6 s24 N1 := x6b.tr xN l2
        have h72 : N2 ≤ 70000 := w3.2
        have z1 : TwZ s24 N2 602 0 m1 (dS s4 200 n1) (dH s4 200 n1) := TwZ.mv q5 x64 v3.2 l2 (Nat.le_refl _)
        have z2 : TwZ s24 N2 602 0 m2 (dS s11 200 n2) (dH s11 200 n2) := TwZ.mv p4 xN h72 (Nat.le_refl _) (Nat.le_refl _)
        have y24 : tA s24 141 S = nI m1 := by
          rw [(f24 141 rfl).2.2.1, (w1 141 rfl).2.2.1, hs11, tA_tsA, ifT ⟨rfl, rfl⟩]; exact q3
        have y242 : tA s24 142 S = nI m2 := by
          rw [hs24, tA_tsA, ifF (by omega), tA_tsA, ifF (by omega), tA_tsA, ifF (by omega), tA_tsA, ifT ⟨rfl, rfl⟩]; exact p2
        have ps1 : F_printedSize (nI m1) s24 = some (n64 (dS s4 200 n1), s24) := by
          rw [← z1.2.1]; exact t_ps h72 602 800 0 m1 (by decide) z1.1
        have ps2 : F_printedSize (nI m2) s24 = some (n64 (dS s11 200 n2), s24) := by
          rw [← z2.2.1]; exact t_ps h72 602 800 0 m2 (by decide) z2.1
        have bd1 : dS s4 200 n1 ≤ 64000000 := by
          have := dS_le n7 200 n1 t14
          rw [(TwT.ps x4 n7 200 200 0 n1 (Nat.le_refl _) t1).1] at this
          omega
        have bd2 : dS s11 200 n2 ≤ 64000000 := by
          have := dS_le v3.2 200 n2 t2b
          rw [(TwT.ps xs11 n7 200 200 0 n2 (Nat.le_refl _) t2).1] at this
          omega
        have tl : tL s24 203 = n64 K := by rw [(f24 203 rfl).2.1, (w1 203 rfl).2.1, (f11 203 rfl).2.1, (v1 203 rfl).2.1, (f4 203 rfl).2.1]; exact hK.1
        obtain ⟨s39, hs39⟩ : ∃ q, q = tsL s24 203 (tL s24 203 + (n64 (dS s4 200 n1) + n64 (dS s11 200 n2))) := ⟨_, rfl⟩
        have f39 : Ft [203] s24 s39 := by rw [hs39]; exact (Ft.rf _ s24).p_tsL rfl
        have t39 : tL s39 203 = n64 (K + dS s4 200 n1 + dS s11 200 n2) := by
          have : tL s39 203 = tL s24 203 + (n64 (dS s4 200 n1) + n64 (dS s11 200 n2)) := by rw [hs39]; rfl
          rw [this, tl, n64_add, n64_add]; congr 1; omega
        have cmp : 0 < lg_cmp (tL s39 203) 40000 ↔ 40000 < K + dS s4 200 n1 + dS s11 200 n2 := by
          rw [lg_gt, t39, show (40000 : Int64) = n64 40000 from rfl, n64_lt (by decide) (by omega)]
        have f39s : Ft dfS s s39 := fB.tr (f39.mono (by decide))
        have n39 : tI s39 0 = 0 := (f39 0 rfl).1.trans n24
        have s39_204 : tI s39 204 = tI s 204 := (f39s 204 rfl).1
        have z1' : TwZ s39 N2 602 0 m1 (dS s4 200 n1) (dH s4 200 n1) := TwZ.mv z1 (NdX.ft f39 rfl) h72 (Nat.le_refl _) (Nat.le_refl _)
        have z2' : TwZ s39 N2 602 0 m2 (dS s11 200 n2) (dH s11 200 n2) := TwZ.mv z2 (NdX.ft f39 rfl) h72 (Nat.le_refl _) (Nat.le_refl _)
        have hb1 := (TwT.ph h72 _ _ _ z1'.1).2.1
        have hb2 := (TwT.ph h72 _ _ _ z2'.1).2.1
        rw [z1'.2.2] at hb1
        rw [z2'.2.2] at hb2
        have ph1 : F_printedHeight (nI m1) s39 = some (nI (dH s4 200 n1), s39) := by
          rw [← z1'.2.2]; exact t_ph h72 602 800 0 m1 (by decide) (by decide) z1'.1
        have ph2 : F_printedHeight (nI m2) s39 = some (nI (dH s11 200 n2), s39) := by
          rw [← z2'.2.2]; exact t_ph h72 602 800 0 m2 (by decide) (by decide) z2'.1
        have tail : dfTl (nI S) s24 = if 0 < lg_cmp (tL s39 203) 40000 then (ob (F_bad 52 (tI s39 204) s39) fun r41 s40 => some ((), s40)) else if 200 < nI (dH s4 200 n1) then (ob (F_bad 52 (tI s39 204) s39) fun r50 s49 => some ((), s49)) else if nI (dH s11 200 n2) ≤ 200 then (ob (F_learn (nI S) s39) fun r59 s58 => some ((), s58)) else ob (F_bad 52 (tI s39 204) s39) fun r63 s62 => some ((), s62) := by
          unfold dfTl
          rw [t_isBad0 n24, ob_some, ifT rfl, ifT iS, xS, y24, ps1, ob_some, ifT iS, y242, ps2, ob_some, ← hs39, nm_eq, ifT iS, (f39 141 rfl).2.2.1, y24, ph1, ob_some, ifT iS, (f39 142 rfl).2.2.1, y242, ph2, ob_some]
        rw [tail]
        have fbad : ∃ s', (ob (F_bad 52 (tI s39 204) s39) fun r41 s40 => some ((), s40)) = some ((), s') ∧ Ft dfS s s' ∧ tI s' 0 = 52 ∧ tI s' 1 = tI s 204 ∧ Nd5 s s' N := by
          rw [t_bad n39, ob_some]
          exact ⟨_, rfl, (f39s.p_tsI (k := 0) (v := 52) rfl).p_tsI (k := 1) (v := tI s39 204) rfl, rfl, s39_204, Nd5.tr (s1 := s39) (N' := N) (((xs11.tr x13 l1).tr (NdX.ft (N := N) f24 rfl) (Nat.le_refl _)).tr (NdX.ft (N := N) f39 rfl) (Nat.le_refl _)).1 (Nd5.ft (((Ft.rf [0, 1] s39).p_tsI (k := 0) (v := 52) rfl).p_tsI (k := 1) (v := tI s39 204) rfl) rfl) (Nat.le_refl _)⟩
        have gt1 : 200 < nI (dH s4 200 n1) ↔ 200 < dH s4 200 n1 := bI_lt (a := 200) (by decide) (by omega)
        have le2 : nI (dH s11 200 n2) ≤ 200 ↔ dH s11 200 n2 ≤ 200 := bI_le (b := 200) (by omega) (by decide)
        by_cases c1 : 40000 < K + dS s4 200 n1 + dS s11 200 n2
        · left
          rw [ifT (cmp.mpr c1)]
          exact ⟨Or.inr ⟨q2, Or.inl c1⟩, fbad⟩
        · rw [ifF (fun z => c1 (cmp.mp z))]
          by_cases c2 : 200 < dH s4 200 n1
          · left
            rw [ifT (gt1.mpr c2)]
            exact ⟨Or.inr ⟨q2, Or.inr (Or.inl c2)⟩, fbad⟩
          · rw [ifF (fun z => c2 (gt1.mp z))]
            by_cases c3 : dH s11 200 n2 ≤ 200
            · right
              rw [ifT (le2.mpr c3)]
              have lo1 : TwZ s39 N2 200 0 m1 (dS s4 200 n1) (dH s4 200 n1) := by
                have t := TwT.low h72 602 200 0 m1 z1'.1 (by rw [z1'.2.2]; omega)
                have e := TwT.pe h72 z1'.1 t
                exact ⟨t, e.1.symm.trans z1'.2.1, e.2.symm.trans z1'.2.2⟩
              have lo2 : TwZ s39 N2 200 0 m2 (dS s11 200 n2) (dH s11 200 n2) := by
                have t := TwT.low h72 602 200 0 m2 z2'.1 (by rw [z2'.2.2]; omega)
                have e := TwT.pe h72 z2'.1 t
                exact ⟨t, e.1.symm.trans z2'.2.1, e.2.symm.trans z2'.2.2⟩
              obtain ⟨s', l1', l2', l3', l4'⟩ := t_learn h72 (e := S) (by omega) (((f39 141 rfl).2.2.1 S).trans y24) (((f39 142 rfl).2.2.1 S).trans y242) lo1.1 lo2.1 ⟨by decide, by decide⟩
              have xL : NdX s39 s' N2 := NdX.ft l2' rfl
              have x24 : NdX s24 s' N2 := (NdX.ft (N := N2) f39 rfl).tr xL (Nat.le_refl _)
              have fS : Ft dfS s s' := f39s.tr (l2'.mono (by decide))
              have f24' : Ft [201, 202, 203] s24 s' := (f39.mono (by decide)).tr (l2'.mono (by decide))
              have v24 : ∀ j, tA s24 141 j = if j = S then nI m1 else tA s 141 j := fun j => by
                by_cases y : j = S
                · rw [y, ifT rfl]; exact y24
                · rw [ifF y, (f24 141 rfl).2.2.1, (w1 141 rfl).2.2.1, hs11, tA_tsA, ifF (fun z => y z.2), (v1 141 rfl).2.2.1, (f4 141 rfl).2.2.1]
              have base : ∀ k j, [142, 194, 195].contains k = true → tA s13 k j = tA s k j := fun k j hk => by
                simp only [List.contains_eq_mem, List.mem_cons, List.not_mem_nil, or_false, decide_eq_true_eq] at hk
                rcases hk with rfl | rfl | rfl <;> rw [(w1 _ rfl).2.2.1, (f11 _ rfl).2.2.1, (v1 _ rfl).2.2.1, (f4 _ rfl).2.2.1]
              refine ⟨⟨by omega, by omega, c3⟩, s', N2, m1, m2, by rw [l1', ob_some], fS, ⟨(f24' 0 rfl).1.trans n24, ?_, ((f24' 126 rfl).1.trans ((f24 126 rfl).1.trans w4)), ⟨l1, q2, l2, p1⟩, (l2' 203 rfl).2.1.trans t39⟩, ⟨xs11.tr ((x13.tr xN l2).tr x24 l2) l1, (x13.tr xN l2).tr x24 l2⟩, fun j => by rw [(f24' 141 rfl).2.2.1]; exact v24 j, fun j => ?_, fun j => ?_, fun j => ?_, fun j => ?_, ⟨Der.mv (x64.tr x24 l2) l2 _ _ _ q6, Der.mv (xN.tr x24 (Nat.le_refl _)) (Nat.le_refl _) _ _ _ p5, TwZ.mv lo1 xL h72 (Nat.le_refl _) (Nat.le_refl _), TwZ.mv lo2 xL h72 (Nat.le_refl _) (Nat.le_refl _)⟩, fun u hu => ?_, fun j hj => ?_⟩
              · rw [(f24' 143 rfl).1, (f24 143 rfl).1, (w1 143 rfl).1, (f11 143 rfl).1, (v1 143 rfl).1, hs4]; rfl
              · rw [(f24' 142 rfl).2.2.1, hs24, tA_tsA, ifF (by omega), tA_tsA, ifF (by omega), tA_tsA, ifF (by omega), tA_tsA]
                by_cases y : j = S
                · rw [ifT ⟨rfl, y⟩, ifT y]; exact p2
                · rw [ifF (fun z => y z.2), ifF y]; exact base 142 j rfl
              · rw [(f24' 180 rfl).2.2.1, (f24 180 rfl).2.2.1, (w1 180 rfl).2.2.1, (f11 180 rfl).2.2.1, (v1 180 rfl).2.2.1, hs4]
                show tA (tsA (tsI s 143 (nI (S + 1))) 180 S 0) 180 j = _
                rw [tA_tsA]
                by_cases y : j = S
                · rw [ifT ⟨rfl, y⟩, ifT y]
                · rw [ifF (fun z => y z.2), ifF y]; rfl
              · rw [(f24' 194 rfl).2.2.1, hs24, tA_tsA]
                by_cases y : j = g
                · rw [ifT ⟨rfl, y⟩, ifT y]
                · rw [ifF (fun z => y z.2), ifF y, tA_tsA, ifF (by omega), tA_tsA]
                  by_cases y2 : j = S
                  · rw [ifT ⟨rfl, y2⟩, ifT y2]
                  · rw [ifF (fun z => y2 z.2), ifF y2, tA_tsA, ifF (by omega)]; exact base 194 j rfl
              · rw [(f24' 195 rfl).2.2.1, hs24, tA_tsA, ifF (by omega), tA_tsA]
                by_cases y : j = S
                · rw [ifT ⟨rfl, y⟩, ifT y]
                · rw [ifF (fun z => y z.2), ifF y, tA_tsA, ifF (by omega), tA_tsA, ifF (by omega)]; exact base 195 j rfl
              · rw [OcU.fi l2' rfl, OcU.fi l2' rfl]; exact l3' u hu
              · rw [l4' j hj, (f39 202 rfl).2.2.1, (f24 202 rfl).2.2.1, (w1 202 rfl).2.2.1, (f11 202 rfl).2.2.1, (v1 202 rfl).2.2.1, (f4 202 rfl).2.2.1]
            · left
              rw [ifF (fun z => c3 (le2.mp z))]
              exact ⟨Or.inr ⟨q2, Or.inr (Or.inr (by omega))⟩, fbad⟩
end DIFFE
