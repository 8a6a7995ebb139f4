/-! Layer B: flat trees as solving reads them; how big they are when solved -/
set_option maxRecDepth 100000
abbrev fqI : List Nat := [35, 37, 39, 3203, 3217, 3218, 3219, 3400, 3401, 3402, 3403, 3404, 3802, 3803, 4000, 4001]
abbrev fqR : List Nat := [3405, 3406, 3407, 3600, 3601, 3800, 4002]
abbrev fqL : List Nat := [98, 106, 111, 112, 113]
/-- what solving reads stays -/
def FrQ (D : FQ) (M : CM) (D1 : FQ) (M1 : CM) : Prop := (∀ l, l ∈ fqL → pl D1 l = pl D l) ∧ (∀ l, l ∈ fqL → ∀ k, k < (pl D l).length → (∀ f, f ∈ fqI → mI M1 f ((pl D l).getD k 0) = mI M f ((pl D l).getD k 0)) ∧ ∀ f, f ∈ fqR → mR M1 f ((pl D l).getD k 0) = mR M f ((pl D l).getD k 0)) ∧ (∀ f, f ∈ fqI → mI M1 f 1 = mI M f 1) ∧ ∀ j, mA M1 121 j = mA M 121 j ∧ mA M1 128 j = mA M 128 j
def EqN (V Kf N : Nat) (D : FQ) (M : CM) (s : TS) (e : Nat) : Prop := ∃ n1 n2, (tA s 141 e = nI n1 ∧ NdR 0 D M s 106 V 100 0 Kf N (mR M 3600 ((pl D 111).getD e 0)) n1 ∧ NumT D M s Kf N 100 n1 ∧ (tA s 180 e = 0 → DrD s 100 n1)) ∧ (tA s 142 e = nI n2 ∧ NdR 0 D M s 106 V 100 0 Kf N (mR M 3601 ((pl D 111).getD e 0)) n2 ∧ NumT D M s Kf N 100 n2 ∧ (tA s 180 e = 0 → DrD s 100 n2))
def AcN (V Kf N : Nat) (D : FQ) (M : CM) (s : TS) (i : Nat) : Prop := (∃ v, v < V ∧ mI M 4001 ((pl D 112).getD i 0) = nI v ∧ tA s 150 i = nI v) ∧ ((mI M 4000 ((pl D 112).getD i 0) = 0 ∧ tA s 149 i = 6) ∨ (mI M 4000 ((pl D 112).getD i 0) = 1 ∧ tA s 149 i = 7)) ∧ ∃ n, tA s 151 i = nI n ∧ NdR 0 D M s 106 V 100 0 Kf N (mR M 4002 ((pl D 112).getD i 0)) n ∧ NumT D M s Kf N 100 n
def WhN (V Kf N : Nat) (D : FQ) (M : CM) (s : TS) (w : Nat) : Prop := ∃ n, tA s 145 w = nI n ∧ NdR 0 D M s 106 V 100 1 Kf N (mR M 3800 ((pl D 113).getD w 0)) n ∧ NumT D M s Kf N 100 n
def FlQ (V E A Wn Kf N : Nat) (D : FQ) (M : CM) (s : TS) : Prop := (mI M 35 1 = nI E ∧ mI M 37 1 = nI A ∧ mI M 39 1 = nI Wn) ∧ (E ≤ 120 ∧ E ≤ (pl D 111).length ∧ ∀ e, e < E → EqN V Kf N D M s e) ∧ (A ≤ 200 ∧ A ≤ (pl D 112).length ∧ ∀ i, i < A → AcN V Kf N D M s i) ∧ (Wn ≤ 12 ∧ Wn ≤ (pl D 113).length ∧ ∀ w, w < Wn → WhN V Kf N D M s w) ∧ ∀ e, e < E → mA M 128 e = tA s 180 e ∧ (tA s 180 e = 0 ∨ tA s 180 e = 1)
section FLQ
variable {C : PC} {P : Nat → Prop} {mss fss I' R' A' X' S : List Nat} {s s' s0 σ : TS} {D D1 D2 : FQ} {M M0 M1 M2 : CM} {fx : Int32} {B l V K K1 Kf N E A Wn h st a n m q x0 X H z e i c : Nat}
theorem FrQ.tr (h : FrQ D M D1 M1) (g : FrQ D1 M1 D2 M2) : FrQ D M D2 M2 := ⟨fun l hl => (g.1 l hl).trans (h.1 l hl), fun l hl k hk => by
  have e := h.1 l hl
  obtain ⟨a1, a2⟩ := h.2.1 l hl k hk
  obtain ⟨b1, b2⟩ := g.2.1 l hl k (by rw [e]; exact hk)
  rw [e] at b1 b2
  exact ⟨fun f hf => (b1 f hf).trans (a1 f hf), fun f hf => (b2 f hf).trans (a2 f hf)⟩, fun f hf => (g.2.2.1 f hf).trans (h.2.2.1 f hf), fun j => ⟨(g.2.2.2 j).1.trans (h.2.2.2 j).1, (g.2.2.2 j).2.trans (h.2.2.2 j).2⟩⟩
theorem FrQ.sh (S : StH x0 l D M K D1 M1 K1) (hx : NdS2 x0 l X H) (A : ArS x0 l X D M K) (A1 : ArS x0 l X D1 M1 K1) : FrQ D M D1 M1 := by
  have nu := hx.nu
  have hl : ∀ l', l' ∈ fqL → l' ≠ l ∧ l' ∈ flL := fun l' h => by
    simp only [List.mem_cons, List.not_mem_nil, or_false] at h
    rcases h with rfl | rfl | rfl | rfl | rfl <;> exact ⟨by omega, by decide⟩
  have s1 := S.s1 hx A.2.2.1 (o := 1) (by decide)
  refine ⟨fun l' h => S.2.2.1 l' (hl l' h).1, fun l' h k hk => ?_, fun f _ => s1.i f, fun j => ⟨(S.s1 hx A.2.2.1 (o := 121) (by decide)).a j, (S.s1 hx A.2.2.1 (o := 128) (by decide)).a j⟩⟩
  have so := S.sl hx A.1 (hl l' h).2 (hl l' h).1 hk (by have := A1.2.2.2.1.2.2; omega)
  exact ⟨fun f _ => so.i f, fun f _ => so.r f⟩
theorem FrQ.kf (k : KF D I' R' A' X' M M1) (hI : fqI.all (fun k => !I'.contains k) = true) (hR : fqR.all (fun k => !R'.contains k) = true) (hA : A'.contains 121 = false) (e : ∀ j, mA M1 128 j = mA M 128 j) : FrQ D M D M1 := by
  have i : ∀ f, f ∈ fqI → I'.contains f = false := fun k hk => by simpa using List.all_eq_true.mp hI k hk
  have r : ∀ f, f ∈ fqR → R'.contains f = false := fun k hk => by simpa using List.all_eq_true.mp hR k hk
  exact ⟨fun _ _ => rfl, fun _ _ _ _ => ⟨fun f hf => k.i (i f hf) _, fun f hf => k.r (r f hf) _⟩, fun f hf => k.i (i f hf) _, fun j => ⟨k.ga hA j, e j⟩⟩
theorem FrQ.nk (g : FrQ D M D1 M1) (hK : Kf ≤ (pl D 106).length) : NdK D M s D1 M1 s 106 Kf N := ⟨fun k hk => by
  obtain ⟨a1, a2⟩ := g.2.1 106 (by decide) k (by omega)
  exact ⟨by rw [g.1 106 (by decide)], fun f hf => a1 f (by simp only [List.mem_cons, List.not_mem_nil, or_false] at hf ⊢; omega), fun f hf => a2 f (by simp only [List.mem_cons, List.not_mem_nil, or_false] at hf ⊢; omega)⟩, fun _ _ _ _ => rfl, fun _ => rfl⟩
theorem VaD.fr (h : VaD D M s V) (g : FrQ D M D1 M1) : VaD D1 M1 s V := by
  obtain ⟨h1, h2⟩ := h
  have e := g.1 98 (by decide)
  refine ⟨by rw [e]; exact h1, fun v hv => ?_⟩
  have i : ∀ v, v < V → ∀ f, f ∈ fqI → mI M1 f ((pl D 98).getD v 0) = mI M f ((pl D 98).getD v 0) := fun v hv => (g.2.1 98 (by decide) v (by omega)).1
  rw [e, i v hv 3203 (by decide), i v hv 3217 (by decide), i v hv 3218 (by decide)]
  obtain ⟨a1, a2⟩ := h2 v hv
  refine ⟨a1, fun z => ?_⟩
  obtain ⟨w, x, u, b1, b2, b3, b4, b5, b6⟩ := a2 z
  exact ⟨w, x, u, b1, b2, b3, by rw [i w b1 3219 (by decide)]; exact b4, b5, by rw [(g.2.2.2 u).1]; exact b6⟩
theorem FlQ.fr (h : FlQ V E A Wn Kf N D M s) (g : FrQ D M D1 M1) (hK : Kf ≤ (pl D 106).length) : FlQ V E A Wn Kf N D1 M1 s := by
  have nk : NdK D M s D1 M1 s 106 Kf N := g.nk hK
  have nd : ∀ {st a n}, NdR 0 D M s 106 V 100 st Kf N a n → NdR 0 D1 M1 s 106 V 100 st Kf N a n := fun z => NdR.mv nk (Nat.le_refl _) (Nat.le_refl _) (Nat.le_refl _) 100 100 _ _ _ (Nat.le_refl _) z
  obtain ⟨⟨m1, m2, m3⟩, ⟨a1, a2, a3⟩, ⟨b1, b2, b3⟩, ⟨c1, c2, c3⟩, d⟩ := h
  refine ⟨⟨(g.2.2.1 35 (by decide)).trans m1, (g.2.2.1 37 (by decide)).trans m2, (g.2.2.1 39 (by decide)).trans m3⟩, ⟨a1, by rw [g.1 111 (by decide)]; exact a2, fun e he => ?_⟩, ⟨b1, by rw [g.1 112 (by decide)]; exact b2, fun e he => ?_⟩, ⟨c1, by rw [g.1 113 (by decide)]; exact c2, fun e he => ?_⟩, fun e he => by rw [(g.2.2.2 e).2]; exact d e he⟩
  · obtain ⟨-, r⟩ := g.2.1 111 (by decide) e (by omega)
    obtain ⟨n1, n2, ⟨p1, p2, p3, p4⟩, q1, q2, q3, q4⟩ := a3 e he
    unfold EqN
    rw [g.1 111 (by decide), r 3600 (by decide), r 3601 (by decide)]
    exact ⟨n1, n2, ⟨p1, nd p2, p3.mv nk, p4⟩, q1, nd q2, q3.mv nk, q4⟩
  · obtain ⟨i, r⟩ := g.2.1 112 (by decide) e (by omega)
    obtain ⟨p1, p2, n, q1, q2, q3⟩ := b3 e he
    unfold AcN
    rw [g.1 112 (by decide), i 4001 (by decide), i 4000 (by decide), r 4002 (by decide)]
    exact ⟨p1, p2, n, q1, nd q2, q3.mv nk⟩
  · obtain ⟨i, r⟩ := g.2.1 113 (by decide) e (by omega)
    obtain ⟨n, q1, q2, q3⟩ := c3 e he
    unfold WhN
    rw [g.1 113 (by decide), r 3800 (by decide)]
    exact ⟨n, q1, nd q2, q3.mv nk⟩
theorem NumT.o (z : NumT D M s Kf N h n) (hs : ∀ m, OcT s N c i m → OcT s N h n m) : NumT D M s Kf N c i := fun m o r => z m (hs m o) r
/-- how big a flat tree is when solved -/
theorem NdR.ps (hV : V ≤ 96) (h7 : N ≤ 70000) : ∀ (h st a n z : Nat), NdR fx D M s 106 V h st Kf N a n → SzR s N h n z → PS s h n ≤ 2 * z ∧ PH s h n ≤ h + 1
  | 0, _, _, _, _, q, _ => q.elim
  | h + 1, st, a, n, z, q, sz => by
    have ih := fun st a x z q sz => NdR.ps hV h7 h st a x z q sz
    obtain ⟨⟨-, nb⟩, q⟩ := q.view
    obtain ⟨-, z1, z2, z3, z4, s2, s3, s4⟩ := sz
    have ng : (if ngv s n then 2 else 1) ≤ 2 := by split <;> decide
    rcases q with ⟨-, q⟩ | ⟨-, ⟨q, ⟨st1, x, x1, x2⟩, -⟩ | ⟨q, ⟨st1, x, x1, x2⟩, ⟨st2, y, y1, y2⟩, -⟩ | ⟨q, ⟨st1, x, x1, x2⟩, ⟨st2, y, y1, y2⟩, st3, w, w1, w2⟩ | ⟨q, ⟨st1, y, y1, y2⟩, ⟨st2, w, w1, w2⟩, -⟩⟩
    · by_cases k : tA s 121 n ∈ ([2, 3, 4] : List Int32)
      · rw [(PS_v (h := h) k).1, (PS_v (h := h) k).2]; omega
      · have k0 : tA s 121 n ∈ ([0, 1, 24, 30] : List Int32) := by
          rcases q with ⟨-, q, -⟩ | ⟨-, q⟩ | ⟨-, q, -⟩ | ⟨q, -⟩
          · rw [q]; decide
          · rw [q]; decide
          · rw [q]; decide
          · exfalso
            simp only [List.mem_cons, Prod.mk.injEq, List.not_mem_nil, or_false] at q
            rcases q with ⟨-, q⟩ | ⟨-, q⟩ | ⟨-, q⟩ <;> exact k (by rw [q]; decide)
        rw [(PS_0 (h := h) k0).1, (PS_0 (h := h) k0).2]; omega
    · have k2 : tA s 121 n ∈ kd2 := by
        simp only [List.mem_cons, List.not_mem_nil, or_false] at q ⊢
        rcases q with q | q | q | q | q | q <;> rw [q] <;> decide
      obtain ⟨x', e1, e2, -⟩ := s2 k2
      have xN := x2.nb
      have : x' = x := nIq (e1.symm.trans x1) (by have := e2.lt; omega) (by omega)
      subst this
      have := ih _ _ _ _ x2 e2
      rw [(PS_1 (h := h) q).1, (PS_1 (h := h) q).2, x1, ix_nI (by omega), hgt_eq]; omega
    · have k2 : tA s 121 n ∈ kd2 ∧ tA s 121 n ∈ kd3 := by
        simp only [List.mem_cons, List.not_mem_nil, or_false] at q ⊢
        rcases q with q | q | q | q | q | q | q | q <;> rw [q] <;> decide
      obtain ⟨x', e1, e2, -⟩ := s2 k2.1
      obtain ⟨y', g1, g2, -⟩ := s3 k2.2
      have xN := x2.nb
      have yN := y2.nb
      have : x' = x := nIq (e1.symm.trans x1) (by have := e2.lt; omega) (by omega)
      subst this
      have : y' = y := nIq (g1.symm.trans y1) (by have := g2.lt; omega) (by omega)
      subst this
      have := ih _ _ _ _ x2 e2
      have := ih _ _ _ _ y2 g2
      rw [(PS_2 (h := h) q).1, (PS_2 (h := h) q).2, x1, y1, ix_nI (n := x') (by omega), ix_nI (n := y') (by omega), hgt_eq]; omega
    · have k2 : tA s 121 n ∈ kd2 ∧ tA s 121 n ∈ kd3 ∧ tA s 121 n ∈ kd4 := by rw [q]; decide
      obtain ⟨x', e1, e2, -⟩ := s2 k2.1
      obtain ⟨y', g1, g2, -⟩ := s3 k2.2.1
      obtain ⟨w', i1, i2, -⟩ := s4 k2.2.2
      have xN := x2.nb
      have yN := y2.nb
      have wN := w2.nb
      have : x' = x := nIq (e1.symm.trans x1) (by have := e2.lt; omega) (by omega)
      subst this
      have : y' = y := nIq (g1.symm.trans y1) (by have := g2.lt; omega) (by omega)
      subst this
      have : w' = w := nIq (i1.symm.trans w1) (by have := i2.lt; omega) (by omega)
      subst this
      have := ih _ _ _ _ x2 e2
      have := ih _ _ _ _ y2 g2
      have := ih _ _ _ _ w2 i2
      rw [(PS_3 (h := h) q).1, (PS_3 (h := h) q).2, x1, y1, w1, ix_nI (n := x') (by omega), ix_nI (n := y') (by omega), ix_nI (n := w') (by omega), hgt_eq]; omega
    · have k2 : tA s 121 n ∈ kd3 ∧ tA s 121 n ∈ kd4 := by rw [q]; decide
      obtain ⟨y', g1, g2, -⟩ := s3 k2.1
      obtain ⟨w', i1, i2, -⟩ := s4 k2.2
      have yN := y2.nb
      have wN := w2.nb
      have : y' = y := nIq (g1.symm.trans y1) (by have := g2.lt; omega) (by omega)
      subst this
      have : w' = w := nIq (i1.symm.trans w1) (by have := i2.lt; omega) (by omega)
      subst this
      have := ih _ _ _ _ y2 g2
      have := ih _ _ _ _ w2 i2
      rw [(PS_4 (h := h) (Or.inl q)).1, (PS_4 (h := h) (Or.inl q)).2, y1, w1, ix_nI (n := y') (by omega), ix_nI (n := w') (by omega), hgt_eq]; omega
/-- a node of a tree is a node of the flat model below its root -/
theorem NdR.oc (h0 : ∀ k, k < Kf → (pl D 106).getD k 0 ≠ 0) (h7 : N ≤ 70000) : ∀ (h st a n m : Nat), NdR fx D M s 106 V h st Kf N a n → OcT s N h n m → (1 ≤ m ∧ m ≤ Kf) ∧ Rc M h a ((pl D 106).getD (m - 1) 0) ∧ (isR s m → RlO (mI M 3400 ((pl D 106).getD (m - 1) 0)))
  | 0, _, _, _, _, q, _ => q.elim
  | h + 1, st, a, n, m, q, o => by
    have ih := fun st a x q o => NdR.oc h0 h7 h st a x m q o
    have q0 := q
    obtain ⟨⟨⟨k, k1, k2, kn⟩, nb⟩, -, q⟩ := q
    have kn := kn rfl
    have n5 : n < N ∧ n < 100000 := ⟨nb.2, by omega⟩
    have ne : ∀ {st a n}, NdR fx D M s 106 V h st Kf N a n → a ≠ 0 ∧ n < 100000 := fun q => by
      cases h with
      | zero => exact q.elim
      | succ h =>
        obtain ⟨⟨⟨k, k1, k2, -⟩, n1, n2⟩, -⟩ := q
        exact ⟨by rw [k2]; exact h0 k k1, by omega⟩
    have slf : m = n → (isR s n → RlO (mI M 3400 a)) → (1 ≤ m ∧ m ≤ Kf) ∧ Rc M (h + 1) a ((pl D 106).getD (m - 1) 0) ∧ (isR s m → RlO (mI M 3400 ((pl D 106).getD (m - 1) 0))) := fun e hr => by
      subst e
      have e : (pl D 106).getD (m - 1) 0 = a := by rw [k2, show m - 1 = k by omega]
      rw [e]
      exact ⟨⟨by omega, by omega⟩, Or.inl rfl, hr⟩
    have cd5 : ∀ {b : Nat}, mR M 3405 a ≠ 0 → Rc M h (mR M 3405 a) b → Rc M (h + 1) a b := fun z q => Or.inr (Or.inl ⟨z, q⟩)
    have cd6 : ∀ {b : Nat}, mR M 3406 a ≠ 0 → Rc M h (mR M 3406 a) b → Rc M (h + 1) a b := fun z q => Or.inr (Or.inr (Or.inl ⟨z, q⟩))
    have cd7 : ∀ {b : Nat}, mR M 3407 a ≠ 0 → Rc M h (mR M 3407 a) b → Rc M (h + 1) a b := fun z q => Or.inr (Or.inr (Or.inr ⟨z, q⟩))
    have nr : ∀ {c : Int32}, tA s 121 n = c → ¬ (c = 20 ∨ c = 24) → isR s n → RlO (mI M 3400 a) := fun e hc i => absurd i (by unfold isR; rw [e]; exact hc)
    rcases q with ⟨-, b1, b2, -⟩ | ⟨-, b1, -⟩ | ⟨-, b1, b2, -⟩ | ⟨-, b1, ⟨x, x1, x2⟩, -⟩ | ⟨-, b1, ⟨x, x1, x2⟩, ⟨y, y1, y2⟩, -⟩ | ⟨-, b1, b2, ⟨x, x1, x2⟩, ⟨y, y1, y2⟩, w, w1, w2⟩ | ⟨-, b2, b1, ⟨y, y1, y2⟩, ⟨w, w1, w2⟩, -⟩ | ⟨-, b1, ⟨x, x1, x2⟩, ⟨y, y1, y2⟩, -⟩ | ⟨-, b1, b2, ⟨x, x1, x2⟩, -⟩ | ⟨-, b1, b2, -⟩
    · exact slf ((oc_0 n5 (by rw [b2]; decide)).mp o) (nr b2 (by decide))
    · have k0 : tA s 121 n ∈ k0T ∧ ¬ isR s n := by
        unfold isR
        simp only [List.mem_cons, Prod.mk.injEq, List.not_mem_nil, or_false] at b1
        rcases b1 with ⟨-, b⟩ | ⟨-, b⟩ | ⟨-, b⟩ <;> rw [b] <;> decide
      exact slf ((oc_0 n5 k0.1).mp o) (fun i => absurd i k0.2)
    · exact slf ((oc_0 n5 (by rw [b2]; decide)).mp o) (nr b2 (by decide))
    · have k0 : tA s 121 n ∈ k1T ∧ ¬ isR s n := by
        unfold isR
        simp only [List.mem_cons, Prod.mk.injEq, List.not_mem_nil, or_false] at b1
        rcases b1 with ⟨-, b⟩ | ⟨-, b⟩ | ⟨-, b⟩ | ⟨-, b⟩ | ⟨-, b⟩ <;> rw [b] <;> decide
      rcases (oc_1 n5 k0.1 x1 (ne x2).2).mp o with o | o
      · obtain ⟨r1, r2, r3⟩ := ih _ _ _ x2 o
        exact ⟨r1, cd5 (ne x2).1 r2, r3⟩
      · exact slf o (fun i => absurd i k0.2)
    · have k0 : tA s 121 n ∈ k2T ∧ ¬ isR s n := by
        unfold isR
        simp only [List.mem_cons, Prod.mk.injEq, List.not_mem_nil, or_false] at b1
        rcases b1 with ⟨-, b⟩ | ⟨-, b⟩ | ⟨-, b⟩ | ⟨-, b⟩ | ⟨-, b⟩ | ⟨-, b⟩ <;> rw [b] <;> decide
      rcases (oc_2 n5 k0.1 x1 (ne x2).2 y1 (ne y2).2).mp o with (o | o) | o
      · obtain ⟨r1, r2, r3⟩ := ih _ _ _ x2 o
        exact ⟨r1, cd5 (ne x2).1 r2, r3⟩
      · obtain ⟨r1, r2, r3⟩ := ih _ _ _ y2 o
        exact ⟨r1, cd6 (ne y2).1 r2, r3⟩
      · exact slf o (fun i => absurd i k0.2)
    · rcases (oc_3 n5 b2 x1 (ne x2).2 y1 (ne y2).2 w1 (ne w2).2).mp o with ((o | o) | o) | o
      · obtain ⟨r1, r2, r3⟩ := ih _ _ _ x2 o
        exact ⟨r1, cd5 (ne x2).1 r2, r3⟩
      · obtain ⟨r1, r2, r3⟩ := ih _ _ _ y2 o
        exact ⟨r1, cd6 (ne y2).1 r2, r3⟩
      · obtain ⟨r1, r2, r3⟩ := ih _ _ _ w2 o
        exact ⟨r1, cd7 (ne w2).1 r2, r3⟩
      · exact slf o (nr b2 (by decide))
    · rcases (oc_4 n5 b2 y1 (ne y2).2 w1 (ne w2).2).mp o with (o | o) | o
      · obtain ⟨r1, r2, r3⟩ := ih _ _ _ y2 o
        exact ⟨r1, cd5 (ne y2).1 r2, r3⟩
      · obtain ⟨r1, r2, r3⟩ := ih _ _ _ w2 o
        exact ⟨r1, cd6 (ne w2).1 r2, r3⟩
      · refine slf o (fun _ => ?_)
        unfold RlO
        simp only [List.mem_cons, Prod.mk.injEq, List.not_mem_nil, or_false] at b1
        rcases b1 with ⟨b, -⟩ | ⟨b, -⟩ | ⟨b, -⟩ | ⟨b, -⟩ | ⟨b, -⟩ | ⟨b, -⟩ <;> rw [b] <;> decide
    · have k0 : tA s 121 n ∈ k2T ∧ ¬ isR s n := by
        unfold isR
        simp only [List.mem_cons, Prod.mk.injEq, List.not_mem_nil, or_false] at b1
        rcases b1 with ⟨-, b⟩ | ⟨-, b⟩ <;> rw [b] <;> decide
      rcases (oc_2 n5 k0.1 x1 (ne x2).2 y1 (ne y2).2).mp o with (o | o) | o
      · obtain ⟨r1, r2, r3⟩ := ih _ _ _ x2 o
        exact ⟨r1, cd5 (ne x2).1 r2, r3⟩
      · obtain ⟨r1, r2, r3⟩ := ih _ _ _ y2 o
        exact ⟨r1, cd6 (ne y2).1 r2, r3⟩
      · exact slf o (fun i => absurd i k0.2)
    · rcases (oc_1 n5 (by rw [b2]; decide) x1 (ne x2).2).mp o with o | o
      · obtain ⟨r1, r2, r3⟩ := ih _ _ _ x2 o
        exact ⟨r1, cd5 (ne x2).1 r2, r3⟩
      · exact slf o (nr b2 (by decide))
    · exact slf ((oc_0 n5 (by rw [b2]; decide)).mp o) (fun _ => by rw [b1]; unfold RlO; decide)
/-- all relations of a tree have numbers -/
theorem NumT.of (W : PoW D M) (hK : Kf ≤ (pl D 106).length) (h7 : N ≤ 70000) (hq : q ≤ 24) (t154 : tI s 154 = nI q) (z : CvN V Kf N D M s q st n) : NumT D M s Kf N 100 n := fun m o i => by
  obtain ⟨a, nd, cv⟩ := z
  obtain ⟨r1, r2, r3⟩ := NdR.oc (fun k hk => by have := (W.2.1 106 (by decide) k (by omega)).2.1; omega) h7 _ _ _ _ m nd o
  obtain ⟨k, ⟨k1, j, j1, j2, j3, j4⟩, k2⟩ := cv _ r2 (r3 i)
  have : m - 1 = k := (W.inj (l := 106) (l' := 106) (by decide) (by decide) (by omega) (by omega) k2).2
  subst this
  rw [show m - 1 + 1 = m by omega] at j3 j4
  exact ⟨r1, j, by omega, j2, j3, j4, by rw [t154, bI_lt (by omega) (by omega)]; exact j1⟩
end FLQ
