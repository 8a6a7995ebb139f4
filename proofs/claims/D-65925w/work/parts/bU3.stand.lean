/-! Layer B: which unknowns stand in a tree: both sides mark them -/
set_option maxRecDepth 100000
/-- P are set to 1, nothing else -/
def SetA (f g : Nat → Int32) (P : Nat → Prop) : Prop := (∀ j, P j → g j = 1) ∧ ∀ j, ¬ P j → g j = f j
/-- the component marks -/
abbrev KE (D : FQ) (M M' : CM) : Prop := KF D [65] [] [128, 129, 130, 131, 132] [126, 127] M M'
section STAND
variable {s s' s1 s2 σ : TS} {D D' : FQ} {M M' M1 M2 M3 M4 : CM} {N N' K V h h' st n m u v w x y z f a b e k p q c1 c2 c3 : Nat} {fa fb fc fd : Nat → Int32} {P Q R T : Nat → Prop} {sx op : Int32}
theorem SetA.no (h : ∀ j, ¬ P j) : SetA fa fa P := ⟨fun j q => absurd q (h j), fun _ _ => rfl⟩
theorem SetA.seq (h : SetA fa fb P) (g : SetA fb fc Q) (hR : ∀ j, R j ↔ P j ∨ Q j) : SetA fa fc R := ⟨fun j q => by
  by_cases z : Q j
  · exact g.1 j z
  · rw [g.2 j z]; exact h.1 j (((hR j).mp q).resolve_right z), fun j q => by
  rw [g.2 j (fun z => q ((hR j).mpr (Or.inr z))), h.2 j (fun z => q ((hR j).mpr (Or.inl z)))]⟩
theorem SetA.im (h : SetA fa fb P) (hR : ∀ j, R j ↔ P j) : SetA fa fb R := ⟨fun j q => h.1 j ((hR j).mp q), fun j q => h.2 j (fun z => q ((hR j).mpr z))⟩
theorem SetA.tw : SetA (tA s 201) (tA (tsA s 201 u 1) 201) (fun j => j = u) := ⟨fun j q => by rw [tA_tsA, ifT ⟨rfl, q⟩], fun j q => by rw [tA_tsA, ifF (fun z => q z.2)]⟩
theorem SetA.kw : SetA (mA M 132) (mA (mwA M 132 u 1) 132) (fun j => j = u) := ⟨fun j q => by rw [mA_mwA, ifT ⟨rfl, q⟩], fun j q => by rw [mA_mwA, ifF (fun z => q z.2)]⟩
theorem nI_mul (a b : Nat) : nI a * nI b = nI (a * b) := (Int32.ofNat_mul a b).symm
-- by kinds
theorem OcU_0 (q : tA s 121 n ∈ ([0, 1, 4, 24] : List Int32)) : ¬ OcU s (h + 1) n u := fun z => by
  rw [OcU] at z
  have hk : tA s 121 n ∉ ([2, 3, 30] : List Int32) ∧ tA s 121 n ∉ k1T ∧ tA s 121 n ∉ k2T ∧ ¬ tA s 121 n = 16 ∧ ¬ (tA s 121 n = 20 ∨ tA s 121 n = 25) := by
    simp only [List.mem_cons, List.not_mem_nil, or_false] at q
    rcases q with q | q | q | q <;> rw [q] <;> decide
  rcases z with ⟨x, z⟩ | ⟨z, -⟩ | ⟨z, -⟩ | ⟨z, -⟩ | ⟨z, -⟩
  · exact hk.1 z.kd
  · exact hk.2.1 z
  · exact hk.2.2.1 z
  · exact hk.2.2.2.1 z
  · exact hk.2.2.2.2 z
theorem OcU_v (q : tA s 121 n = 2) (hv : tA s 122 n = nI v ∧ v < 96 ∧ ¬ tA s 94 v = 0) : ¬ OcU s (h + 1) n u := fun z => by
  rw [OcU] at z
  rcases z with ⟨x, z⟩ | ⟨z, -⟩ | ⟨z, -⟩ | ⟨z, -⟩ | ⟨z, -⟩
  · rcases z with ⟨-, v', b, c⟩ | ⟨a, -⟩ | ⟨a, -⟩
    · have : v' = v := nI_inj (b.symm.trans hv.1) (by have := c.1.2; omega) (by omega)
      subst this; exact hv.2.2 c.1.1
    · rw [q] at a; exact absurd a (by decide)
    · rw [q] at a; exact absurd a (by decide)
  all_goals (rw [q] at z; exact absurd z (by decide))
theorem OcU_u (q : LfK s n u sx) : OcU s (h + 1) n v ↔ v = u := by
  rw [OcU]
  have hk : tA s 121 n ∉ k1T ∧ tA s 121 n ∉ k2T ∧ ¬ tA s 121 n = 16 ∧ ¬ (tA s 121 n = 20 ∨ tA s 121 n = 25) := by
    have q := q.kd
    simp only [List.mem_cons, List.not_mem_nil, or_false] at q
    rcases q with q | q | q <;> rw [q] <;> decide
  refine ⟨fun z => ?_, fun e => Or.inl ⟨sx, by rw [e]; exact q⟩⟩
  rcases z with ⟨x, z⟩ | ⟨z, -⟩ | ⟨z, -⟩ | ⟨z, -⟩ | ⟨z, -⟩
  · exact (z.uq q).1
  · exact absurd z hk.1
  · exact absurd z hk.2.1
  · exact absurd z hk.2.2.1
  · exact absurd z hk.2.2.2
theorem OcU_1 (q : tA s 121 n ∈ k1T) : OcU s (h + 1) n u ↔ OcU s h (ix (tA s 122 n)) u := by
  rw [OcU]
  have hk : tA s 121 n ∉ ([2, 3, 30] : List Int32) ∧ tA s 121 n ∉ k2T ∧ ¬ tA s 121 n = 16 ∧ ¬ (tA s 121 n = 20 ∨ tA s 121 n = 25) := by
    have q := q
    simp only [List.mem_cons, List.not_mem_nil, or_false] at q
    rcases q with q | q | q | q | q | q <;> rw [q] <;> decide
  refine ⟨fun z => ?_, fun z => Or.inr (Or.inl ⟨q, z⟩)⟩
  rcases z with ⟨x, z⟩ | ⟨-, z⟩ | ⟨z, -⟩ | ⟨z, -⟩ | ⟨z, -⟩
  · exact absurd z.kd hk.1
  · exact z
  · exact absurd z hk.2.1
  · exact absurd z hk.2.2.1
  · exact absurd z hk.2.2.2
theorem OcU_2 (q : tA s 121 n ∈ k2T) : OcU s (h + 1) n u ↔ OcU s h (ix (tA s 122 n)) u ∨ OcU s h (ix (tA s 123 n)) u := by
  rw [OcU]
  have hk : tA s 121 n ∉ ([2, 3, 30] : List Int32) ∧ tA s 121 n ∉ k1T ∧ ¬ tA s 121 n = 16 ∧ ¬ (tA s 121 n = 20 ∨ tA s 121 n = 25) := by
    have q := q
    simp only [List.mem_cons, List.not_mem_nil, or_false] at q
    rcases q with q | q | q | q | q | q | q | q <;> rw [q] <;> decide
  refine ⟨fun z => ?_, fun z => Or.inr (Or.inr (Or.inl ⟨q, z⟩))⟩
  rcases z with ⟨x, z⟩ | ⟨z, -⟩ | ⟨-, z⟩ | ⟨z, -⟩ | ⟨z, -⟩
  · exact absurd z.kd hk.1
  · exact absurd z hk.2.1
  · exact z
  · exact absurd z hk.2.2.1
  · exact absurd z hk.2.2.2
theorem OcU_3 (q : tA s 121 n = 16) : OcU s (h + 1) n u ↔ (OcU s h (ix (tA s 122 n)) u ∨ OcU s h (ix (tA s 123 n)) u) ∨ OcU s h (ix (tA s 124 n)) u := by
  rw [OcU, q]
  have hk : (16 : Int32) ∉ ([2, 3, 30] : List Int32) := by decide
  refine ⟨fun z => ?_, fun z => Or.inr (Or.inr (Or.inr (Or.inl ⟨rfl, or_assoc.mp z⟩)))⟩
  rcases z with ⟨x, z⟩ | ⟨z, -⟩ | ⟨z, -⟩ | ⟨-, z⟩ | ⟨z, -⟩
  · have z := z.kd; rw [q] at z; exact absurd z hk
  · exact absurd z (by decide)
  · exact absurd z (by decide)
  · exact or_assoc.mpr z
  · exact absurd z (by decide)
theorem OcU_4 (q : tA s 121 n = 20 ∨ tA s 121 n = 25) : OcU s (h + 1) n u ↔ OcU s h (ix (tA s 123 n)) u ∨ OcU s h (ix (tA s 124 n)) u := by
  rw [OcU]
  have hk : tA s 121 n ∉ ([2, 3, 30] : List Int32) ∧ tA s 121 n ∉ k1T ∧ tA s 121 n ∉ k2T ∧ ¬ tA s 121 n = 16 := by
    rcases q with q | q <;> rw [q] <;> decide
  refine ⟨fun z => ?_, fun z => Or.inr (Or.inr (Or.inr (Or.inr ⟨q, z⟩)))⟩
  rcases z with ⟨x, z⟩ | ⟨z, -⟩ | ⟨z, -⟩ | ⟨z, -⟩ | ⟨-, z⟩
  · exact absurd z.kd hk.1
  · exact absurd z hk.2.1
  · exact absurd z hk.2.2.1
  · exact absurd z hk.2.2.2
  · exact z
/-- the twin marks -/
theorem t_stands (h7 : N ≤ 70000) : ∀ (h f st n : Nat) (s1 : TS), h < f → TwT s N h st n → Ft [201] s s1 → ∃ s2, G_standsIn f (nI n) s1 = some ((), s2) ∧ Ft [201] s1 s2 ∧ SetA (tA s1 201) (tA s2 201) (OcU s h n)
  | 0, _, _, _, _, _, q, _ => q.elim
  | h + 1, 0, _, _, _, hf, _, _ => absurd hf (Nat.not_lt_zero _)
  | h + 1, f + 1, st, n, s1, hf, q, g => by
    have ih := fun st x s1 q g => t_stands h7 h f st x s1 (by omega) q g
    have nb := q.nb
    have inn : inb (nI n) 70000 := inb_nI' (by omega) (by decide)
    have xn : ix (nI n) = n := ix_nI (by omega)
    have z1 : nZ 1 = 1 := by decide
    have e1 : tA s1 121 n = tA s 121 n := (g 121 rfl).2.2.1 n
    have e2 : ∀ s1, Ft [201] s s1 → tA s1 122 n = tA s 122 n := fun s1 g => (g 122 rfl).2.2.1 n
    have e3 : ∀ s1, Ft [201] s s1 → tA s1 123 n = tA s 123 n := fun s1 g => (g 123 rfl).2.2.1 n
    have e4 : ∀ s1, Ft [201] s s1 → tA s1 124 n = tA s 124 n := fun s1 g => (g 124 rfl).2.2.1 n
    show ∃ s2, B_standsIn (G_standsIn f) (nI n) s1 = some ((), s2) ∧ _
    have no : tA s 121 n ∈ ([0, 1, 4, 24] : List Int32) → ∃ s2, B_standsIn (G_standsIn f) (nI n) s1 = some ((), s2) ∧ Ft [201] s1 s2 ∧ SetA (tA s1 201) (tA s2 201) (OcU s (h + 1) n) := fun q => ⟨s1, by
      simp only [List.mem_cons, List.not_mem_nil, or_false] at q
      unfold B_standsIn
      rw [xn, e1]
      rcases q with q | q | q | q <;> rw [q] <;> simp +decide only [↓reduceIte, ifT inn, nm_eq], Ft.rf _ s1, SetA.no (fun u => OcU_0 q)⟩
    have set : ∀ u x, LfK s n u x → u < 180 → B_standsIn (G_standsIn f) (nI n) s1 = some ((), tsA s1 201 u 1) → ∃ s2, B_standsIn (G_standsIn f) (nI n) s1 = some ((), s2) ∧ Ft [201] s1 s2 ∧ SetA (tA s1 201) (tA s2 201) (OcU s (h + 1) n) := fun u x k hu e => ⟨_, e, (Ft.rf _ s1).p_tsA rfl, SetA.tw.im (fun j => OcU_u k)⟩
    obtain ⟨-, q⟩ := q
    rcases q with ⟨-, q | q⟩ | ⟨-, q2, v, q3, q4, q5⟩ | ⟨-, u, x, q2⟩ | ⟨-, q2, v, u, x, q3, q4⟩ | ⟨q1, x, q2, q3⟩ | ⟨q1, ⟨x, q2, q3⟩, y, q4, q5⟩ | ⟨-, q1, ⟨x, q2, q3⟩, ⟨y, q4, q5⟩, z, q6, q7⟩ | ⟨-, q1, ⟨y, q4, q5⟩, z, q6, q7⟩ | ⟨-, q⟩
    · exact no (by rw [q]; decide)
    · exact no (by rw [q]; decide)
    · rcases q2 with q2 | q2
      · have iv : inb (nI v) 96 := inb_nI' q3 (by decide)
        have xv : ix (nI v) = v := ix_nI (by omega)
        refine ⟨s1, ?_, Ft.rf _ s1, SetA.no (fun u => OcU_v q2 ⟨q4, q3, q5⟩)⟩
        unfold B_standsIn
        rw [xn, e1, e2 s1 g, q2, q4, xv, (g 94 rfl).2.2.1]
        simp +decide only [↓reduceIte, ifT inn, nm_eq, ifT iv, ifF q5]
      · exact no (by rw [q2]; decide)
    · have hu := q2.lt.1
      refine set u x q2 hu ?_
      rcases q2 with ⟨a, v, b, ⟨c1, c2⟩, ⟨w, d1, d2, d3⟩, -⟩ | ⟨a, v, w', b, ⟨⟨c1, c2⟩, ⟨w, d1, d2, d3⟩, c3, -⟩, c, d⟩ | ⟨a, b, c, d⟩
      · have iv : inb (nI v) 96 := inb_nI' c2 (by decide)
        have xv : ix (nI v) = v := ix_nI (by omega)
        have iw : inb (nI w) 96 := inb_nI' d1 (by decide)
        have xw : ix (nI w) = w := ix_nI (by omega)
        have iu : inb (nI u) 200 := inb_nI' (by omega) (by decide)
        have xu : ix (nI u) = u := ix_nI (by omega)
        unfold B_standsIn
        rw [xn, e1, e2 s1 g, a, b, xv, (g 94 rfl).2.2.1, (g 177 rfl).2.2.1, d2, xw, (g 179 rfl).2.2.1, d3, xu, z1]
        simp +decide only [↓reduceIte, ifT inn, nm_eq, ifT iv, ifT c1, ifT iw, ifT iu]
      · have iv : inb (nI v) 96 := inb_nI' c2 (by decide)
        have xv : ix (nI v) = v := ix_nI (by omega)
        have iw : inb (nI w) 96 := inb_nI' d1 (by decide)
        have xw : ix (nI w) = w := ix_nI (by omega)
        have iw' : inb (nI w') 200 := inb_nI' (by omega) (by decide)
        have xw' : ix (nI w') = w' := ix_nI (by omega)
        have iu : inb (nI u) 200 := inb_nI' (by omega) (by decide)
        have xu : ix (nI u) = u := ix_nI (by omega)
        unfold B_standsIn
        rw [xn, e1, e2 s1 g, a, b, xv, (g 177 rfl).2.2.1, d2, xw, (g 179 rfl).2.2.1, d3, xw', (g 189 rfl).2.2.1, c, xu, z1]
        simp +decide only [↓reduceIte, ifT inn, nm_eq, ifT iv, ifT iw, ifT iw', ifT iu]
      · have iu : inb (nI u) 200 := inb_nI' (by omega) (by decide)
        have xu : ix (nI u) = u := ix_nI (by omega)
        unfold B_standsIn
        rw [xn, e1, e2 s1 g, a, b, xu, z1]
        simp +decide only [↓reduceIte, ifT inn, nm_eq, ifT iu]
    · exact no (by rw [q2]; decide)
    · have q1 := one_k1 q1
      obtain ⟨s2, a1, a2, a3⟩ := ih _ x s1 q3 g
      refine ⟨s2, ?_, a2, a3.im (fun u => by rw [OcU_1 q1, q2, ix_nI (by have := q3.nb; omega)])⟩
      simp only [List.mem_cons, List.not_mem_nil, or_false] at q1
      unfold B_standsIn
      rw [xn, e1, e2 s1 g, q2]
      rcases q1 with q1 | q1 | q1 | q1 | q1 | q1 <;> rw [q1] <;> simp +decide only [↓reduceIte, ifT inn, nm_eq, a1, ob_some]
    · have q1 := two_k2 q1
      obtain ⟨s2, a1, a2, a3⟩ := ih _ x s1 q3 g
      obtain ⟨s3, b1, b2, b3⟩ := ih _ y s2 q5 (g.tr a2)
      refine ⟨s3, ?_, a2.tr b2, a3.seq b3 (fun u => by rw [OcU_2 q1, q2, q4, ix_nI (n := x) (by have := q3.nb; omega), ix_nI (n := y) (by have := q5.nb; omega)])⟩
      simp only [List.mem_cons, List.not_mem_nil, or_false] at q1
      unfold B_standsIn
      rw [xn, e1, e2 s1 g, q2]
      rcases q1 with q1 | q1 | q1 | q1 | q1 | q1 | q1 | q1 <;> rw [q1] <;> simp +decide only [↓reduceIte, ifT inn, nm_eq, a1, ob_some, e3 s2 (g.tr a2), q4, b1]
    · obtain ⟨s2, a1, a2, a3⟩ := ih _ x s1 q3 g
      obtain ⟨s3, b1, b2, b3⟩ := ih _ y s2 q5 (g.tr a2)
      obtain ⟨s4, c1, c2, c3⟩ := ih _ z s3 q7 ((g.tr a2).tr b2)
      refine ⟨s4, ?_, (a2.tr b2).tr c2, (a3.seq b3 (fun u => Iff.rfl)).seq c3 (fun u => by rw [OcU_3 q1, q2, q4, q6, ix_nI (n := x) (by have := q3.nb; omega), ix_nI (n := y) (by have := q5.nb; omega), ix_nI (n := z) (by have := q7.nb; omega)])⟩
      unfold B_standsIn
      rw [xn, e1, e2 s1 g, q2, q1]
      simp +decide only [↓reduceIte, ifT inn, nm_eq, a1, ob_some, e3 s2 (g.tr a2), q4, b1, e4 s3 ((g.tr a2).tr b2), q6, c1]
    · obtain ⟨s2, a1, a2, a3⟩ := ih _ y s1 q5 g
      obtain ⟨s3, b1, b2, b3⟩ := ih _ z s2 q7 (g.tr a2)
      refine ⟨s3, ?_, a2.tr b2, a3.seq b3 (fun u => by rw [OcU_4 q1, q4, q6, ix_nI (n := y) (by have := q5.nb; omega), ix_nI (n := z) (by have := q7.nb; omega)])⟩
      unfold B_standsIn
      rw [xn, e1, e3 s1 g, q4]
      rcases q1 with q1 | q1 <;> rw [q1] <;> simp +decide only [↓reduceIte, ifT inn, nm_eq, a1, ob_some, e4 s2 (g.tr a2), q6, b1]
    · exact no (by rw [q]; decide)
/-- the component marks -/
theorem k_mark0 (f : Nat) (x : Int32) (M : CM) : KG_X0_mark (f + 1) 0 x M = some ((), M) := by
  show KB_X0_mark (KG_X0_mark f) 0 x M = _
  unfold KB_X0_mark
  rw [ifT rfl]
theorem k_mark29 {M1 M2 M3 M4 : CM} {xe : Int32} (g : KE D M M1) (ka : mk M a = 18) (r1 : KG_X0_mark f (mR M 3405 a) xe M1 = some ((), M2)) (f1 : KF D [] [] [132] [] M1 M2) (r2 : KG_X0_mark f (mR M 3406 a) xe M2 = some ((), M3)) (f2 : KF D [] [] [132] [] M2 M3) (r3 : KG_X0_mark f (mR M 3407 a) xe M3 = some ((), M4)) : KJ_X0_mark_29 (KG_X0_mark f) a xe M1 = some ((), M4) := by
  unfold KJ_X0_mark_29
  rw [ifT ((g.k a).trans ka), g.r rfl a, r1, ob_some, ifT ((f1.k a).trans ((g.k a).trans ka)), f1.r rfl a, g.r rfl a, r2, ob_some, ifT ((f2.k a).trans ((f1.k a).trans ((g.k a).trans ka))), f2.r rfl a, f1.r rfl a, g.r rfl a, r3, ob_some]
theorem KF.e132 (h : KF D [] [] [132] [] M M') : KE D M M' := h.mono rfl rfl rfl rfl
theorem k_markL (A : ArS 133 134 40000 D M K) (he : e < 180) (hk : k < K) (ha : a = (pl D 134).getD k 0) (lf : lf3 M a) (g : KE D M M1) (hf : 1 < f) : (mI M 3400 a ≠ 17 → KG_X0_mark f a (nI e) M1 = some ((), M1)) ∧ ∀ u, mI M 3400 a = 17 → mI M 3401 a = nI u → u < 180 → KG_X0_mark f a (nI e) M1 = some ((), mwA M1 132 (180 * e + u) 1) := by
  obtain ⟨f, rfl⟩ : ∃ g, f = g + 2 := ⟨f - 2, by omega⟩
  have ka := A.k18 NdS2.one hk
  rw [← ha] at ka
  obtain ⟨l1, l2, l3⟩ := lf
  have z1 : nZ 1 = 1 := by decide
  have jj : ∀ M1, KE D M M1 → KJ_X0_mark_29 (KG_X0_mark (f + 1)) a (nI e) M1 = some ((), M1) := fun M1 g => k_mark29 g ka.1 (by rw [l1]; exact k_mark0 f _ M1) KF.rf (by rw [l2]; exact k_mark0 f _ M1) KF.rf (by rw [l3]; exact k_mark0 f _ M1)
  refine ⟨fun q => ?_, fun u q e2 hu => ?_⟩
  · show KB_X0_mark (KG_X0_mark (f + 1)) a (nI e) M1 = _
    unfold KB_X0_mark
    rw [ifF ka.2, ifT ((g.k a).trans ka.1), g.i rfl a, ifF q]
    exact jj M1 g
  · show KB_X0_mark (KG_X0_mark (f + 1)) a (nI e) M1 = _
    unfold KB_X0_mark
    rw [ifF ka.2, ifT ((g.k a).trans ka.1), g.i rfl a, ifT q, ifT ((g.k a).trans ka.1), g.i rfl a, e2, show (180 : Int32) * nI e + nI u = nI (180 * e + u) from by rw [show (180 : Int32) = nI 180 from rfl, nI_mul, bI_add], ifT (inb_nI' (by omega) (by decide)), ix_nI (by omega), z1, nm_eq]
    exact jj _ (g.wA rfl ⟨by decide, by decide⟩)
theorem k_mark (A : ArS 133 134 40000 D M K) (he : e < 180) (h7 : N ≤ 70000) : ∀ (h f st a n : Nat) (M1 : CM), h + 1 < f → SxR D M s 134 V K N h st a n → KE D M M1 → ∃ M2, KG_X0_mark f a (nI e) M1 = some ((), M2) ∧ KF D [] [] [132] [] M1 M2 ∧ SetA (mA M1 132) (mA M2 132) (fun j => ∃ u, OcU s h n u ∧ j = 180 * e + u)
  | 0, _, _, _, _, _, _, z, _ => z.elim
  | h + 1, 0, _, _, _, _, hf, _, _ => absurd hf (Nat.not_lt_zero _)
  | h + 1, f + 1, st, a, n, M1, hf, z, g => by
    have ih := fun st a n M1 z g => k_mark A he h7 h f st a n M1 (by omega) z g
    obtain ⟨⟨⟨k, hk, ha⟩, n1, n2⟩, -, z⟩ := z
    have ka := A.k18 NdS2.one hk
    rw [← ha] at ka
    obtain ⟨f, rfl⟩ : ∃ g, f = g + 1 := ⟨f - 1, by omega⟩
    -- a node that isn't an unknown
    have nx : mI M 3400 a ≠ 17 → KG_X0_mark (f + 1 + 1) a (nI e) M1 = KJ_X0_mark_29 (KG_X0_mark (f + 1)) a (nI e) M1 := fun q => by
      show KB_X0_mark (KG_X0_mark (f + 1)) a (nI e) M1 = _
      unfold KB_X0_mark
      rw [ifF ka.2, ifT ((g.k a).trans ka.1), g.i rfl a, ifF q]
    have nl : ∀ M', KG_X0_mark (f + 1) 0 (nI e) M' = some ((), M') := fun M' => k_mark0 f _ M'
    have no : ∀ P : Nat → Prop, (∀ u, ¬ P u) → SetA (mA M1 132) (mA M1 132) (fun j => ∃ u, P u ∧ j = 180 * e + u) := fun P hP => SetA.no (fun j ⟨u, z, _⟩ => hP u z)
    rcases z with ⟨-, lf, q⟩ | ⟨-, op, vl, x, q1, q2⟩ | ⟨q1, ⟨x, x1, x2⟩, q3⟩ | ⟨q1, ⟨x, x1, x2⟩, ⟨y, y1, y2⟩, q3⟩ | ⟨-, q2, q1, ⟨x, x1, x2⟩, ⟨y, y1, y2⟩, z, z1, z2⟩ | ⟨-, q1, ⟨y, y1, y2⟩, ⟨z, z1, z2⟩, q3⟩ | ⟨-, q2, q1, lf, -⟩
    · refine ⟨M1, (k_markL A he hk ha lf g (by omega)).1 ?_, KF.rf, no _ (fun u => ?_)⟩
      · rcases q with ⟨q, -⟩ | ⟨q, -⟩ | ⟨q, -⟩
        · rw [q]; decide
        · rw [q]; decide
        · simp only [List.mem_cons, Prod.mk.injEq, List.not_mem_nil, or_false] at q
          rcases q with ⟨q, -⟩ | ⟨q, -⟩ <;> rw [q] <;> decide
      · rcases q with ⟨-, q, -⟩ | ⟨-, q⟩ | ⟨q, v, v1, -, v2, v3, -⟩
        · exact OcU_0 (by rw [q]; decide)
        · exact OcU_0 (by rw [q]; decide)
        · simp only [List.mem_cons, Prod.mk.injEq, List.not_mem_nil, or_false] at q
          rcases q with ⟨-, q⟩ | ⟨-, q⟩
          · exact OcU_v q ⟨v2, v1.2, v3⟩
          · exact OcU_0 (by rw [q]; decide)
    · -- an unknown, maybe with a sign
      have leaf : ∀ b j f', j < K → b = (pl D 134).getD j 0 → lf3 M b → mI M 3400 b = op → mI M 3401 b = vl → 1 < f' → ∃ M2, KG_X0_mark f' b (nI e) M1 = some ((), M2) ∧ KF D [] [] [132] [] M1 M2 ∧ SetA (mA M1 132) (mA M2 132) (fun j => ∃ u, OcU s (h + 1) n u ∧ j = 180 * e + u) := fun b j f' hj hb lf o1 o2 hf' => by
        rcases q1.sp with ⟨p1, u, p2, p3⟩ | ⟨p1, p2, -⟩
        · refine ⟨_, (k_markL A he hj hb lf g hf').2 u (o1.trans p1) (o2.trans p3) p2.lt.1, KF.rf.wA rfl ⟨by decide, by decide⟩, SetA.kw.im (fun i => ⟨fun ⟨u', c1, c2⟩ => ?_, fun c => ⟨u, (OcU_u p2).mpr rfl, c⟩⟩)⟩
          rw [c2, (OcU_u p2).mp c1]
        · exact ⟨M1, (k_markL A he hj hb lf g hf').1 (by rw [o1, p1]; decide), KF.rf, no _ (fun u => OcU_0 (by rw [p2]; decide))⟩
      rcases q2 with ⟨-, o1, o2, lf⟩ | ⟨-, o0, r6, r7, ⟨j, hj, hb⟩, o1, o2, lf, -⟩
      · exact leaf a k _ hk ha lf o1 o2 (by omega)
      · obtain ⟨M2, a1, a2, a3⟩ := leaf _ j (f + 1) hj hb lf o1 o2 (by omega)
        exact ⟨M2, (nx (by rw [o0]; decide)).trans (k_mark29 g ka.1 a1 a2 (by rw [r6]; exact nl _) KF.rf (by rw [r7]; exact nl _)), a2, a3⟩
    · obtain ⟨M2, a1, a2, a3⟩ := ih _ _ _ M1 x2 g
      have k1 := one_k1 (oneX_T q1)
      refine ⟨M2, (nx ?_).trans (k_mark29 g ka.1 a1 a2 (by rw [q3.1]; exact nl _) KF.rf (by rw [q3.2]; exact nl _)), a2, a3.im (fun j => by
        have : ∀ u, OcU s (h + 1) n u ↔ OcU s h x u := fun u => by rw [OcU_1 k1, x1, ix_nI (by have := x2.nb; omega)]
        simp only [this])⟩
      simp only [List.mem_cons, Prod.mk.injEq, List.not_mem_nil, or_false] at q1
      rcases q1 with ⟨-, q, -⟩ | ⟨-, q, -⟩ | ⟨-, q, -⟩ | ⟨-, q, -⟩ | ⟨-, q, -⟩ | ⟨-, q, -⟩ <;> rw [q] <;> decide
    · obtain ⟨M2, a1, a2, a3⟩ := ih _ _ _ M1 x2 g
      obtain ⟨M3, b1, b2, b3⟩ := ih _ _ _ M2 y2 (g.tr a2.e132)
      have k2 := two_k2 (twoX_T q1)
      refine ⟨M3, (nx ?_).trans (k_mark29 g ka.1 a1 a2 b1 b2 (by rw [q3]; exact nl _)), a2.tr b2, a3.seq b3 (fun j => by
        have : ∀ u, OcU s (h + 1) n u ↔ OcU s h x u ∨ OcU s h y u := fun u => by rw [OcU_2 k2, x1, y1, ix_nI (n := x) (by have := x2.nb; omega), ix_nI (n := y) (by have := y2.nb; omega)]
        simp only [this, or_and_right, exists_or])⟩
      simp only [List.mem_cons, Prod.mk.injEq, List.not_mem_nil, or_false] at q1
      rcases q1 with ⟨-, q, -⟩ | ⟨-, q, -⟩ | ⟨-, q, -⟩ | ⟨-, q, -⟩ | ⟨-, q, -⟩ | ⟨-, q, -⟩ | ⟨-, q, -⟩ | ⟨-, q, -⟩ <;> rw [q] <;> decide
    · obtain ⟨M2, a1, a2, a3⟩ := ih _ _ _ M1 x2 g
      obtain ⟨M3, b1, b2, b3⟩ := ih _ _ _ M2 y2 (g.tr a2.e132)
      obtain ⟨M4, c1, c2, c3⟩ := ih _ _ _ M3 z2 ((g.tr a2.e132).tr b2.e132)
      refine ⟨M4, (nx (by rw [q2]; decide)).trans (k_mark29 g ka.1 a1 a2 b1 b2 c1), (a2.tr b2).tr c2, (a3.seq b3 (fun j => Iff.rfl)).seq c3 (fun j => by
        have : ∀ u, OcU s (h + 1) n u ↔ (OcU s h x u ∨ OcU s h y u) ∨ OcU s h z u := fun u => by rw [OcU_3 q1, x1, y1, z1, ix_nI (n := x) (by have := x2.nb; omega), ix_nI (n := y) (by have := y2.nb; omega), ix_nI (n := z) (by have := z2.nb; omega)]
        simp only [this, or_and_right, exists_or])⟩
    · obtain ⟨M2, a1, a2, a3⟩ := ih _ _ _ M1 y2 g
      obtain ⟨M3, b1, b2, b3⟩ := ih _ _ _ M2 z2 (g.tr a2.e132)
      have k4 : tA s 121 n = 20 ∨ tA s 121 n = 25 := q1.imp (fun q => q.1) (fun q => q.1)
      refine ⟨M3, (nx ?_).trans (k_mark29 g ka.1 a1 a2 b1 b2 (by rw [q3]; exact nl _)), a2.tr b2, a3.seq b3 (fun j => by
        have : ∀ u, OcU s (h + 1) n u ↔ OcU s h y u ∨ OcU s h z u := fun u => by rw [OcU_4 k4, y1, z1, ix_nI (n := y) (by have := y2.nb; omega), ix_nI (n := z) (by have := z2.nb; omega)]
        simp only [this, or_and_right, exists_or])⟩
      rcases q1 with ⟨-, q, -⟩ | ⟨-, q, -⟩
      · simp only [List.mem_cons, Prod.mk.injEq, List.not_mem_nil, or_false] at q
        rcases q with ⟨q, -⟩ | ⟨q, -⟩ | ⟨q, -⟩ | ⟨q, -⟩ | ⟨q, -⟩ | ⟨q, -⟩ <;> rw [q] <;> decide
      · simp only [List.mem_cons, Prod.mk.injEq, List.not_mem_nil, or_false] at q
        rcases q with ⟨q, -⟩ | ⟨q, -⟩ <;> rw [q] <;> decide
    · exact ⟨M1, (k_markL A he hk ha lf g (by omega)).1 (by rw [q2]; decide), KF.rf, no _ (fun u => OcU_0 (by rw [q1]; decide))⟩
end STAND
