/-! Layer B: the flat model: every relation is numbered, in a form that later steps keep -/
set_option maxRecDepth 100000
/-- the numbered ones -/
def NuS (D : FQ) (M : CM) (σ : TS) (K q : Nat) (k : Nat) : Prop := k < K ∧ ∃ j, j < q ∧ mI M 3403 ((pl D 106).getD k 0) = nI j ∧ tA σ 162 (k + 1) = nI j ∧ tA σ 153 j = nI (k + 1)
/-- node n: all its relations are numbered -/
def CvN (V K N : Nat) (D : FQ) (M : CM) (σ : TS) (q s n : Nat) : Prop := ∃ a, NdR 0 D M σ 106 V 100 s K N a n ∧ CvS D M (NuS D M σ K q) a
/-- so it is in all equations, whens and actions -/
def CvQ (V K N : Nat) (D : FQ) (M : CM) (σ : TS) (q E Wn : Nat) : Prop := (∀ k, k < E → (∃ n, tA σ 141 k = nI n ∧ CvN V K N D M σ q 0 n) ∧ ∃ n, tA σ 142 k = nI n ∧ CvN V K N D M σ q 0 n) ∧ ∀ k, k < Wn → (∃ n, tA σ 145 k = nI n ∧ CvN V K N D M σ q 1 n) ∧ ∃ f m, tA σ 146 k = nI f ∧ tA σ 147 k = nI m ∧ f + m ≤ 200 ∧ ∀ i, f ≤ i → i < f + m → ∃ n, tA σ 151 i = nI n ∧ CvN V K N D M σ q 0 n
/-- every numbered node is a relation -/
def RlT (V K N : Nat) (D : FQ) (M : CM) (σ : TS) (q : Nat) : Prop := ∀ j, j < q → ∃ k, k < K ∧ tA σ 153 j = nI (k + 1) ∧ (mI M 3403 ((pl D 106).getD k 0) = nI j ∧ tA σ 162 (k + 1) = nI j) ∧ RlN V K N D M σ k
section COVER
variable {zb : Nat} {fx x3 : Int32} {z7 : Nat → Nat} {C : PC} {D D' : FQ} {M M' M1 M2 : CM} {σ σ' s : TS} {mss fss : List Nat} {B V I Bm Lp K N K' N' E A Wn v l k h h1 s0 n q a b : Nat} {S' : Nat → Prop} {P : Nat → Prop} {S : List Nat}
/-- what hangs on a node is a node of the row, and stays so -/
theorem NdR.rc (nk : NdK D M σ D' M' σ' 106 K N) : ∀ (h h1 s0 a n b : Nat), NdR fx D M σ 106 V h s0 K N a n → Rc M' h1 a b → Rc M h1 a b ∧ ∃ k, k < K ∧ b = (pl D 106).getD k 0 := by
  intro h
  induction h with
  | zero => intro h1 s0 a n b hN; exact hN.elim
  | succ h ih =>
    intro h1 s0 a n b hN hb
    cases h1 with
    | zero => exact hb.elim
    | succ h1 =>
      obtain ⟨⟨⟨k, hk, ha, -⟩, -⟩, -, hN⟩ := hN
      have rr : ∀ f, f ∈ [3405, 3406, 3407] → mR M' f a = mR M f a := fun f hf => by rw [ha]; exact (nk.1 k hk).2.2 f hf
      have e5 := rr 3405 (by decide)
      have e6 := rr 3406 (by decide)
      have e7 := rr 3407 (by decide)
      have k5 : mR M 3405 a = 0 ∨ ∃ s1 n1, NdR fx D M σ 106 V h s1 K N (mR M 3405 a) n1 := by
        rcases hN with q | q | q | q | q | q | q | q | q | q
        · exact Or.inl q.2.2.2.2.1
        · exact Or.inl q.2.2.2.1
        · exact Or.inl q.2.2.2.2.1
        · obtain ⟨-, -, ⟨x, -, y⟩, -⟩ := q; exact Or.inr ⟨_, _, y⟩
        · obtain ⟨-, -, ⟨x, -, y⟩, -⟩ := q; exact Or.inr ⟨_, _, y⟩
        · obtain ⟨-, -, -, ⟨x, -, y⟩, -⟩ := q; exact Or.inr ⟨_, _, y⟩
        · obtain ⟨-, -, -, ⟨x, -, y⟩, -⟩ := q; exact Or.inr ⟨_, _, y⟩
        · obtain ⟨-, -, ⟨x, -, y⟩, -⟩ := q; exact Or.inr ⟨_, _, y⟩
        · obtain ⟨-, -, -, ⟨x, -, y⟩, -⟩ := q; exact Or.inr ⟨_, _, y⟩
        · exact Or.inl q.2.2.2.2.2.1
      have k6 : mR M 3406 a = 0 ∨ ∃ s1 n1, NdR fx D M σ 106 V h s1 K N (mR M 3406 a) n1 := by
        rcases hN with q | q | q | q | q | q | q | q | q | q
        · exact Or.inl q.2.2.2.2.2.1
        · exact Or.inl q.2.2.2.2.1
        · exact Or.inl q.2.2.2.2.2.1
        · exact Or.inl q.2.2.2.1
        · obtain ⟨-, -, -, ⟨x, -, y⟩, -⟩ := q; exact Or.inr ⟨_, _, y⟩
        · obtain ⟨-, -, -, -, ⟨x, -, y⟩, -⟩ := q; exact Or.inr ⟨_, _, y⟩
        · obtain ⟨-, -, -, -, ⟨x, -, y⟩, -⟩ := q; exact Or.inr ⟨_, _, y⟩
        · obtain ⟨-, -, -, ⟨x, -, y⟩, -⟩ := q; exact Or.inr ⟨_, _, y⟩
        · exact Or.inl q.2.2.2.2.1
        · exact Or.inl q.2.2.2.2.2.2.1
      have k7 : mR M 3407 a = 0 ∨ ∃ s1 n1, NdR fx D M σ 106 V h s1 K N (mR M 3407 a) n1 := by
        rcases hN with q | q | q | q | q | q | q | q | q | q
        · exact Or.inl q.2.2.2.2.2.2
        · exact Or.inl q.2.2.2.2.2
        · exact Or.inl q.2.2.2.2.2.2
        · exact Or.inl q.2.2.2.2
        · exact Or.inl q.2.2.2.2
        · obtain ⟨-, -, -, -, -, x, -, y⟩ := q; exact Or.inr ⟨_, _, y⟩
        · exact Or.inl q.2.2.2.2.2
        · exact Or.inl q.2.2.2.2
        · exact Or.inl q.2.2.2.2.2
        · exact Or.inl q.2.2.2.2.2.2.2
      rcases hb with hb | ⟨z, hb⟩ | ⟨z, hb⟩ | ⟨z, hb⟩
      · exact ⟨Or.inl hb, k, hk, hb.trans ha⟩
      · rw [e5] at z hb
        rcases k5 with y | ⟨s1, n1, y⟩
        · exact absurd y z
        · obtain ⟨g1, g2⟩ := ih h1 s1 _ n1 b y hb
          exact ⟨Or.inr (Or.inl ⟨z, g1⟩), g2⟩
      · rw [e6] at z hb
        rcases k6 with y | ⟨s1, n1, y⟩
        · exact absurd y z
        · obtain ⟨g1, g2⟩ := ih h1 s1 _ n1 b y hb
          exact ⟨Or.inr (Or.inr (Or.inl ⟨z, g1⟩)), g2⟩
      · rw [e7] at z hb
        rcases k7 with y | ⟨s1, n1, y⟩
        · exact absurd y z
        · obtain ⟨g1, g2⟩ := ih h1 s1 _ n1 b y hb
          exact ⟨Or.inr (Or.inr (Or.inr ⟨z, g1⟩)), g2⟩
theorem NuS.mv (nk : NdK D M σ D' M' σ' 106 K N) (hK : K ≤ K') (hN : K < N) (f : ∀ j, tA σ' 153 j = tA σ 153 j) (h : NuS D M σ K q k) : NuS D' M' σ' K' q k := by
  obtain ⟨h1, j, j1, j2, j3, j4⟩ := h
  obtain ⟨a1, a2, -⟩ := nk.1 k h1
  exact ⟨by omega, j, j1, by rw [a1, a2 3403 (by decide)]; exact j2, by rw [nk.2.1 162 (by decide) (k + 1) (by omega)]; exact j3, (f j).trans j4⟩
theorem CvN.mv (nk : NdK D M σ D' M' σ' 106 K N) (hK : K ≤ K') (hN : N ≤ N') (hKN : K < N) (f : ∀ j, tA σ' 153 j = tA σ 153 j) (h : CvN V K N D M σ q s0 n) : CvN V K' N' D' M' σ' q s0 n := by
  obtain ⟨a, r, c⟩ := h
  refine ⟨a, r.mv nk hK hN (Nat.le_refl V) 100 100 _ _ _ (Nat.le_refl _), fun b hb hr => ?_⟩
  obtain ⟨g1, k, hk, e⟩ := r.rc nk _ _ _ _ _ _ hb
  obtain ⟨a1, a2, -⟩ := nk.1 k hk
  have e0 : mI M' 3400 b = mI M 3400 b := by rw [e]; exact a2 3400 (by decide)
  obtain ⟨k', c1, c2⟩ := c b g1 (by rw [← e0]; exact hr)
  exact ⟨k', c1.mv nk hK hKN f, by rw [(nk.1 k' c1.1).1]; exact c2⟩
theorem CvQ.mv (h : CvQ V K N D M σ q E Wn) (nk : NdK D M σ D' M' σ' 106 K N) (hK : K ≤ K') (hN : N ≤ N') (hKN : K < N) (f : Ft S σ σ') (hS : [141, 142, 145, 146, 147, 151, 153].all (fun k => !S.contains k) = true) : CvQ V K' N' D' M' σ' q E Wn := by
  have hf : ∀ k, k ∈ [141, 142, 145, 146, 147, 151, 153] → ∀ j, tA σ' k j = tA σ k j := fun k hk j => (f k (by simpa using List.all_eq_true.mp hS k hk)).2.2.1 j
  refine ⟨fun k hk => ?_, fun k hk => ?_⟩
  · obtain ⟨⟨n, n1, n2⟩, m, m1, m2⟩ := h.1 k hk
    exact ⟨⟨n, (hf 141 (by decide) k).trans n1, n2.mv nk hK hN hKN (hf 153 (by decide))⟩, m, (hf 142 (by decide) k).trans m1, m2.mv nk hK hN hKN (hf 153 (by decide))⟩
  · obtain ⟨⟨n, n1, n2⟩, f', m, m1, m2, m0, m3⟩ := h.2 k hk
    refine ⟨⟨n, (hf 145 (by decide) k).trans n1, n2.mv nk hK hN hKN (hf 153 (by decide))⟩, f', m, (hf 146 (by decide) k).trans m1, (hf 147 (by decide) k).trans m2, m0, fun i i1 i2 => ?_⟩
    obtain ⟨n', p1, p2⟩ := m3 i i1 i2
    exact ⟨n', (hf 151 (by decide) i).trans p1, p2.mv nk hK hN hKN (hf 153 (by decide))⟩
/-- from the numbering -/
theorem CvQ.of (h : BX zb D M σ V K N E A Wn) (hq : NQ D K M σ q S') (hE : ∀ k, k < E → CvE D M S' k) (hW : ∀ k, k < Wn → CvW D M σ S' k) : CvQ V K N D M σ q E Wn := by
  obtain ⟨-, ⟨-, b5⟩, ⟨⟨-, -, hA, -⟩, c5⟩, ⟨-, d5⟩, -⟩ := h
  have hs : ∀ k, S' k → NuS D M σ K q k := fun k hk => hq.2.2 k hk
  refine ⟨fun k hk => ?_, fun k hk => ?_⟩
  · obtain ⟨⟨n, n1, n2⟩, m, m1, m2⟩ := b5 k hk
    exact ⟨⟨n, n1, _, n2, (hE k hk).1.mono hs⟩, m, m1, _, m2, (hE k hk).2.mono hs⟩
  · obtain ⟨⟨n, n1, n2⟩, f, m, m1, m2, m3, m4, m5⟩ := d5 k hk
    refine ⟨⟨n, n1, _, n2, (hW k hk).1.mono hs⟩, f, m, m2, m4, by omega, fun i i1 i2 => ?_⟩
    obtain ⟨-, -, n', p1, p2⟩ := c5 i (by omega)
    exact ⟨n', p1, _, p2, CvS.mono ((hW k hk).2 f m m2 m4 (by omega) i i1 i2) hs⟩
theorem RlT.mv (h : RlT V K N D M σ q) (nk : NdK D M σ D' M' σ' 106 K N) (hK : K ≤ K') (hN : N ≤ N') (hKN : K < N) (f : ∀ j, tA σ' 153 j = tA σ 153 j) (ft : Ft S σ σ') (hS : [141, 142, 143, 145, 148, 151, 152].all (fun k => !S.contains k) = true) : RlT V K' N' D' M' σ' q := fun j hj => by
  obtain ⟨k, k1, k2, ⟨k4, k5⟩, k3⟩ := h j hj
  obtain ⟨a1, a2, -⟩ := nk.1 k k1
  exact ⟨k, by omega, (f j).trans k2, ⟨by rw [a1, a2 3403 (by decide)]; exact k4, by rw [nk.2.1 162 (by decide) (k + 1) (by omega)]; exact k5⟩, k3.mv nk.wk hK hN k1 ft hS⟩
theorem RlT.of (hq : NQ D K M σ q S') (hr : ∀ k, S' k → (fun _ => False) k ∨ RlN V K N D M σ k) : RlT V K N D M σ q := fun j hj => by
  obtain ⟨k, k1, k2, k3, k4⟩ := hq.2.1 j hj
  exact ⟨k, (hq.2.2 k k1).1, k3, k4, (hr k k1).elim (fun z => z.elim) id⟩
end COVER
