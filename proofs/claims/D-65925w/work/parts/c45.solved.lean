/-! Layer B: printing: solved trees -/
set_option maxRecDepth 100000
/-- unknowns of heads bear their names, derivatives theirs -/
def NmU (V : Nat) (M : CM) (s : TS) : Prop := (∀ v u x, v < V → LfU s v u x → ∃ w, w < V ∧ tA s 177 v = nI w ∧ mA M 119 u = nI w ∧ mA M 120 u = nI 0) ∧ ∀ v u x d, v < V → LfU s v u x → tA s 189 u = nI d → d < 180 → ∃ w, w < V ∧ tA s 177 v = nI w ∧ mA M 119 d = nI w ∧ mA M 120 d = nI 1
section PSOLVED
variable {C : PC} {P : Nat → Prop} {mss fss : List Nat} {D : FQ} {M0 M M' : CM} {s0 σ σ' : TS} {B V I Bm U K N h st a n : Nat} {z7 : Nat → Nat}
theorem pl_unk (W : FW C B P mss fss D M0 s0) (X : FlY z7 C P D mss M0 s0 V I Bm) (uk : UkR V M0 s0 U) (ka : mk M0 a = 18) (hn : n < 70000) {u : Nat} (hu : u < U) (e : mI M0 3400 a = 17) (ev : mI M0 3401 a = nI u) (e' : tA s0 121 n = 30) (ev' : tA s0 122 n = nI u) : PlR M0 s0 a n := fun kf cfN cfC cfH M σ _ o => by
  have i70 : inb (nI n) 70000 := inb_nI' hn (by decide)
  have xn : ix (nI n) = n := ix_nI (by omega)
  unfold KB_X0_put_2 B_printNode
  refine PrJ.b9 o.1 ?_
  rw [ifT (o.k18 ka), o.i (g := 3400) (by decide), ifT i70, nm_eq, e, show tA σ 121 (ix (nI n)) = 30 from by rw [xn, o.ta (k := 121) rfl]; exact e']
  simp +decide only [↓reduceIte, o.k18 ka]
  rw [ifT i70, ob_idk, ob_idu, xn, o.ta (k := 122) rfl, o.i (g := 3401) (by decide), ev, ev']
  exact z_punk W X uk hu o
theorem SxR.pn (W : FW C B P mss fss D M0 s0) (X : FlY z7 C P D mss M0 s0 V I Bm) (uk : UkR V M0 s0 U) (nm_ : NmU V M0 s0) (h7 : N ≤ 70000) (hk : ∀ k, k < K → mk M0 ((pl D 134).getD k 0) = 18) (h176 : ¬ tI s0 176 = 0) : ∀ (h st a n : Nat), SxR D M0 s0 134 V K N h st a n → LvB U s0 h n → PnR M0 s0 (PlR M0 s0) h a n
  | 0, _, _, _, z, _ => z.elim
  | h + 1, st, a, n, z, b => by
    have ih := fun st a n z b => SxR.pn W X uk nm_ h7 hk h176 h st a n z b
    obtain ⟨⟨⟨k, k1, k2⟩, n1, n2⟩, -, z⟩ := z
    obtain ⟨⟨b1, b2, -⟩, c1, c2, c3, c4⟩ := b
    have ka : mk M0 a = 18 := by rw [k2]; exact hk k k1
    have hn : n < 70000 := by omega
    have sub : ∀ {x f}, tA s0 f n = nI x → x < N → LvB U s0 h (ix (tA s0 f n)) → LvB U s0 h x := fun e hx u => by rw [e, ix_nI (by omega)] at u; exact u
    refine ⟨⟨ka, hn⟩, ?_⟩
    have nar : ∀ {c : Int32}, tA s0 121 n = c → (c ≠ 5 ∧ c ≠ 6 ∧ c ≠ 8 ∧ c ≠ 9) → ¬ (tA s0 121 n = 5 ∨ tA s0 121 n = 6 ∨ tA s0 121 n = 8 ∨ tA s0 121 n = 9) := fun e ⟨c1, c2, c3, c4⟩ y => by
      rw [e] at y
      rcases y with y | y | y | y
      · exact c1 y
      · exact c2 y
      · exact c3 y
      · exact c4 y
    rcases z with ⟨q0, q1, ⟨q2, q3, q4, q5⟩ | ⟨q2, q3⟩ | ⟨q2, v, ⟨v1, v2⟩, v3, v4, v5, -⟩⟩ | ⟨q0, op, vl, x, q1, q2⟩ | ⟨q1, ⟨x, x1, x2⟩, -⟩ | ⟨q1, ⟨x, x1, x2⟩, ⟨y, y1, y2⟩, -⟩ | ⟨q0, q2, q1, ⟨x, x1, x2⟩, ⟨y, y1, y2⟩, z, z1, z2⟩ | ⟨q0, q1, ⟨y, y1, y2⟩, ⟨z, z1, z2⟩, -⟩ | ⟨q0, q1, q2, q3, -, x, y, v1, v2, v3, v4, v5, v6, v7⟩
    · exact Or.inl ⟨pl_num ka hn q2 q3 q4 q5, nar q3 (by decide)⟩
    · exact Or.inl ⟨pl_time ka hn q2 q3, nar q3 (by decide)⟩
    · simp only [List.mem_cons, List.not_mem_nil, or_false, Prod.mk.injEq] at q2
      rcases q2 with ⟨e, e'⟩ | ⟨e, e'⟩
      · exact Or.inl ⟨pl_var W X ka hn (by rw [e, e']; decide) v1 v3 v4 (Or.inr ⟨h176, v2, v5⟩) (fun y => by rw [e'] at y; exact absurd y (by decide)), nar e' (by decide)⟩
      · exact Or.inl ⟨pl_var W X ka hn (by rw [e, e']; decide) v1 v3 v4 (Or.inr ⟨h176, v2, v5⟩) (fun y => by rw [e'] at y; exact absurd y (by decide)), nar e' (by decide)⟩
    · -- by its head
      have sg : (x = 1 ∧ mI M0 3400 a = op ∧ mI M0 3401 a = vl) ∨ (x = -1 ∧ mI M0 3400 a = 7 ∧ mk M0 (mR M0 3405 a) = 18 ∧ mI M0 3400 (mR M0 3405 a) = op ∧ mI M0 3401 (mR M0 3405 a) = vl) := by
        rcases q2 with ⟨e1, e2, e3, -⟩ | ⟨e1, e2, -, -, ⟨j, j1, j2⟩, e3, e4, -⟩
        · exact Or.inl ⟨e1, e2, e3⟩
        · exact Or.inr ⟨e1, e2, by rw [j2]; exact hk j j1, e3, e4⟩
      rcases q1 with ⟨e, v, u, ⟨ev, vV⟩, l, rfl, rfl⟩ | ⟨e, v, u, ⟨ev, vV⟩, l, ⟨-, rfl, d, d1, d2, rfl⟩ | ⟨y, -⟩⟩ | ⟨e, v, u, ⟨ev, vV⟩, l, rfl, rfl⟩ | ⟨e, u, u1, ev, rfl, rfl, rfl⟩
      · obtain ⟨w, w1, w2, w3, w4⟩ := nm_.1 v u x vV l
        exact Or.inl ⟨pl_hd W X ka hn h176 e ev l.1.2 l.1.1 w2 l.2.2.2.1 w1 l.2.2.1 w3 (Or.inl ⟨rfl, rfl, w4⟩) sg, nar e (by decide)⟩
      · obtain ⟨w, w1, w2, w3, w4⟩ := nm_.2 v u x d vV l d2 d1
        exact Or.inl ⟨pl_hd W X ka hn h176 e ev l.1.2 l.1.1 w2 l.2.2.2.1 w1 d1 w3 (Or.inr (Or.inl ⟨rfl, rfl, w4⟩)) sg, nar e (by decide)⟩
      · exact absurd rfl y
      · obtain ⟨w, w1, w2, w3, w4⟩ := nm_.1 v u x vV l
        exact Or.inl ⟨pl_hd W X ka hn h176 e ev l.1.2 l.1.1 w2 l.2.2.2.1 w1 l.2.2.1 w3 (Or.inr (Or.inr ⟨rfl, rfl, w4⟩)) sg, nar e (by decide)⟩
      · rcases sg with ⟨-, s1, s2⟩ | ⟨y, -⟩
        · exact Or.inl ⟨pl_unk W X uk ka hn (b2 u e ev u1) s1 s2 e ev, nar e (by decide)⟩
        · exact absurd y (by decide)
    · have w := sub x1 x2.nb.2.2 (c1 (one_k1 (oneX_T q1)))
      simp only [List.mem_cons, Prod.mk.injEq, List.not_mem_nil, or_false] at q1
      refine Or.inr (Or.inl ⟨?_, x, x1, ih _ _ _ x2 w⟩)
      rcases q1 with ⟨-, e, e'⟩ | ⟨-, e, e'⟩ | ⟨-, e, e'⟩ | ⟨-, e, e'⟩ | ⟨-, e, e'⟩ | ⟨-, e, e'⟩ <;> rw [e, e'] <;> decide
    · obtain ⟨w1, w2⟩ := c2 (two_k2 (twoX_T q1))
      have w1 := sub x1 x2.nb.2.2 w1
      have w2 := sub y1 y2.nb.2.2 w2
      simp only [List.mem_cons, Prod.mk.injEq, List.not_mem_nil, or_false] at q1
      rcases q1 with ⟨-, e, e'⟩ | ⟨-, e, e'⟩ | ⟨-, e, e'⟩ | ⟨-, e, e'⟩ | ⟨-, e, e'⟩ | ⟨-, e, e'⟩ | ⟨-, e, e'⟩ | ⟨-, e, e'⟩
      · exact Or.inr (Or.inr (Or.inr (Or.inl ⟨by rw [e, e']; decide, ⟨x, x1, ih _ _ _ x2 w1⟩, y, y1, ih _ _ _ y2 w2⟩)))
      · exact Or.inr (Or.inr (Or.inr (Or.inl ⟨by rw [e, e']; decide, ⟨x, x1, ih _ _ _ x2 w1⟩, y, y1, ih _ _ _ y2 w2⟩)))
      · exact Or.inr (Or.inr (Or.inr (Or.inl ⟨by rw [e, e']; decide, ⟨x, x1, ih _ _ _ x2 w1⟩, y, y1, ih _ _ _ y2 w2⟩)))
      · exact Or.inr (Or.inr (Or.inr (Or.inl ⟨by rw [e, e']; decide, ⟨x, x1, ih _ _ _ x2 w1⟩, y, y1, ih _ _ _ y2 w2⟩)))
      · exact Or.inr (Or.inr (Or.inl ⟨by rw [e, e']; decide, ⟨x, x1, ih _ _ _ x2 w1⟩, y, y1, ih _ _ _ y2 w2⟩))
      · exact Or.inr (Or.inr (Or.inl ⟨by rw [e, e']; decide, ⟨x, x1, ih _ _ _ x2 w1⟩, y, y1, ih _ _ _ y2 w2⟩))
      · exact Or.inr (Or.inr (Or.inl ⟨by rw [e, e']; decide, ⟨x, x1, ih _ _ _ x2 w1⟩, y, y1, ih _ _ _ y2 w2⟩))
      · exact Or.inr (Or.inr (Or.inl ⟨by rw [e, e']; decide, ⟨x, x1, ih _ _ _ x2 w1⟩, y, y1, ih _ _ _ y2 w2⟩))
    · obtain ⟨w1, w2, w3⟩ := c3 q1
      exact Or.inr (Or.inr (Or.inr (Or.inr (Or.inl ⟨⟨q2, q1⟩, ⟨x, x1, ih _ _ _ x2 (sub x1 x2.nb.2.2 w1)⟩, ⟨y, y1, ih _ _ _ y2 (sub y1 y2.nb.2.2 w2)⟩, z, z1, ih _ _ _ z2 (sub z1 z2.nb.2.2 w3)⟩))))
    · have k4 : tA s0 121 n = 20 ∨ tA s0 121 n = 25 := q1.imp (fun q => q.1) (fun q => q.1)
      obtain ⟨w1, w2⟩ := c4 k4
      refine Or.inr (Or.inr (Or.inr (Or.inr (Or.inr (Or.inl ⟨⟨k4, ?_⟩, ⟨y, y1, ih _ _ _ y2 (sub y1 y2.nb.2.2 w1)⟩, z, z1, ih _ _ _ z2 (sub z1 z2.nb.2.2 w2)⟩)))))
      rcases q1 with ⟨-, q1, -⟩ | ⟨-, q1, -⟩
      · exact q1
      · simp only [List.mem_cons, Prod.mk.injEq, List.not_mem_nil, or_false] at q1
        rcases q1 with ⟨q1, q2⟩ | ⟨q1, q2⟩ <;> rw [q1, q2] <;> decide
    · exact Or.inr (Or.inr (Or.inr (Or.inr (Or.inr (Or.inr ⟨⟨q1, q2⟩, x, y, v1, v2, v3, v4, by omega, by omega⟩)))))
end PSOLVED
