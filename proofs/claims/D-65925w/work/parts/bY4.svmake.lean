/-! Layer B: solvable, put together -/
set_option maxRecDepth 100000
section SVMAKE
variable {D D' D2 D3 : FQ} {M M' M2 M3 Mf : CM} {σ s s0 s1 s2 sf : TS} {V E A Wn q U U' S K K1 K1' K2 N N' Kf c k l m n h : Nat} {I0 A0 T T3 : List Nat} {hd : Nat → Nat} {sg : Nat → Int32}
theorem Kp6.snl (A : ArS 135 136 30000 D M K) (h : Kp6 D M D' M') : SnL D M D' M' 136 K := fun k hk => by
  obtain ⟨-, q2, q3⟩ := A.1.2.1 136 (by decide) k (by have := A.2.2.2.1.2.1; omega)
  have hl := (A.1.1 136 (flL_A 136 (by decide))).2.2
  have hX : flX 136 = 30000 := rfl
  have := A.2.2.2.1.2.1
  obtain ⟨r1, r2⟩ := h.2.1 _ q2.2 q2.1 (Or.inr ⟨by rw [tgo_d q2.1, q3]; unfold tg; omega, by rw [tgo_d q2.1, q3]; unfold tg; omega⟩)
  exact ⟨by rw [h.1], fun f f1 _ => r1 f (by omega), fun f f1 _ => r2 f (by omega)⟩
theorem Kp6.row (W : PoW D M) (h : Kp6 D M D' M') (hl : l ∈ [98, 112, 113]) (hk : k < (pl D l).length) : (∀ f, 3000 ≤ f → mI M' f ((pl D l).getD k 0) = mI M f ((pl D l).getD k 0)) ∧ ∀ f, 3000 ≤ f → mR M' f ((pl D l).getD k 0) = mR M f ((pl D l).getD k 0) := by
  have hl' : l ∈ flL ∧ flX l ≤ 12000 ∧ 98 ≤ l ∧ l ≤ 113 := by
    have : ∀ l, l ∈ [98, 112, 113] → l ∈ flL ∧ flX l ≤ 12000 ∧ 98 ≤ l ∧ l ≤ 113 := by decide
    exact this l hl
  obtain ⟨-, q2, q3⟩ := W.2.1 l hl'.1 k hk
  have := (W.1 l (flL_A l hl'.1)).2.2
  exact h.2.1 _ q2.2 q2.1 (Or.inl ⟨by rw [tgo_d q2.1, q3]; unfold tg; omega, by rw [tgo_d q2.1, q3]; unfold tg; omega⟩)
theorem NdR.rel {fx : Int32} {a : Nat} (z : NdR fx D M σ 106 V h 1 K N a n) (o : RlO (mI M 3400 a)) : isR σ n := by
  cases h with
  | zero => exact z.elim
  | succ h =>
    obtain ⟨-, -, z⟩ := z
    unfold RlO at o
    rcases z with ⟨z, -⟩ | ⟨z, -⟩ | ⟨z, -⟩ | ⟨z, -⟩ | ⟨z, -⟩ | ⟨z, -⟩ | ⟨-, z, -⟩ | ⟨-, z, -⟩ | ⟨-, z, -⟩ | ⟨-, -, z, -⟩
    · exact absurd z (by decide)
    · exact absurd z (by decide)
    · exact absurd z (by decide)
    · exact absurd z (by decide)
    · exact absurd z (by decide)
    · exact absurd z (by decide)
    · exact Or.inl z
    · exfalso
      simp only [List.mem_cons, Prod.mk.injEq, List.not_mem_nil, or_false] at z
      rcases z with ⟨q, -⟩ | ⟨q, -⟩ <;> rw [q] at o <;> exact absurd o (by decide)
    · rw [z] at o; exact absurd o (by decide)
    · exact Or.inr z
theorem sv_make (hV : V ≤ 96) (so : SoE V E A Wn Kf N s0 D3 M3 K1 K2 s1) (hU : ∀ v u x, v < V → LfU s0 v u x → u < U)
    (rl : ∀ r, r < q → ∃ m, (tA s0 153 r = nI m ∧ tA s0 162 m = nI r) ∧ (isR s0 m ∧ r < 24) ∧ (EqPs s0 N E m ∨ WhPs s0 N Wn m ∨ AcPs s0 N A m) ∧ UW s0 U m)
    (lw : NdU s1 s2 N U) (sn : SnK D3 M3 D2 M2 134 K1) (k6 : Kp6 D3 M3 D2 M2) (pl_ : ∀ i, i ≠ 134 → i ≠ 136 → pl D2 i = pl D3 i) (i66 : mI M2 66 1 = mI M3 66 1) (f2 : Ft rdV s1 s2) (hN : N ≤ N') (hK : K1 ≤ K1') (hUU : U ≤ U')
    (k3 : KF D2 [46, 74, 75, 83, 84] [] A0 [] M2 Mf) (f3 : Ft T3 s2 sf) (hT3 : [94, 121, 122, 123, 124, 134, 145, 151, 153, 162, 177, 178, 179, 181, 189].all (fun k => !T3.contains k) = true)
    (ix : IdxR V E U' S K1' N' D2 Mf sf) (ro : RolR Mf sf U') (st : StR U' Mf sf) (bl : BlR S U' Mf sf) (al : AlL V s1 hd sg) (am : AlM D3 V M3 s1 hd sg) (uv : UvR D3 V s1 M3 s1 hd U) (cc : mI M3 66 1 = nI c ∧ tI s1 181 = nI c) (h221 : tI sf 221 = tI sf 126) : SvS V E A Wn q U' S K1' K2 N' hd sg c D2 Mf sf := by
  have hf3 : ∀ k, k ∈ [94, 121, 122, 123, 124, 134, 145, 151, 153, 162, 177, 178, 179, 181, 189] → T3.contains k = false := fun k hk => by simpa using List.all_eq_true.mp hT3 k hk
  obtain ⟨⟨⟨A1, r69, ⟨hKf, hKf2, -⟩, va⟩, A2, hdv, fq⟩, -, -, ⟨wh, ac⟩, rls, f1⟩ := so
  have h7 : N ≤ 70000 := by have := SxR.n7 ix; omega
  have h7' : N' ≤ 70000 := SxR.n7 ix
  have x1 : NdX s0 s1 N := NdX.ft f1 rfl
  have x3 : NdX s2 sf N := NdX.ft f3 (by
    simp only [List.all_cons, List.all_nil, hf3 94 (by decide), hf3 121 (by decide), hf3 122 (by decide), hf3 123 (by decide), hf3 124 (by decide), hf3 134 (by decide), hf3 162 (by decide), hf3 177 (by decide), hf3 178 (by decide), hf3 179 (by decide), hf3 189 (by decide)]; rfl)
  have xU : NdU s0 sf N U := ((x1.nu (U := U)).tr lw (Nat.le_refl _) (Nat.le_refl _)).tr (x3.nu (U := U)) (Nat.le_refl _) (Nat.le_refl _)
  have pw3 := A1.1
  have pwf := ix.1.1.1
  have V98 : V ≤ (pl D3 98).length := va.1
  have p98 : pl D2 98 = pl D3 98 := pl_ 98 (by decide) (by decide)
  have p112 : pl D2 112 = pl D3 112 := pl_ 112 (by decide) (by decide)
  have p113 : pl D2 113 = pl D3 113 := pl_ 113 (by decide) (by decide)
  have lA : A ≤ (pl D3 112).length := fq.2.2.1.2.1
  have lW : Wn ≤ (pl D3 113).length := fq.2.2.2.1.2.1
  have rI : ∀ {l k}, l ∈ [98, 112, 113] → k < (pl D3 l).length → ∀ f, 3000 ≤ f → mI Mf f ((pl D3 l).getD k 0) = mI M3 f ((pl D3 l).getD k 0) := fun {l k} hl hk f h3 => by
    rw [k3.i (by
      cases e : ([46, 74, 75, 83, 84] : List Nat).contains f with
      | false => rfl
      | true =>
        have : f ∈ ([46, 74, 75, 83, 84] : List Nat) := by simpa using e
        simp only [List.mem_cons, List.not_mem_nil, or_false] at this
        omega)]
    exact (k6.row pw3 hl hk).1 f h3
  have rR : ∀ {l k}, l ∈ [98, 112, 113] → k < (pl D3 l).length → ∀ f, 3000 ≤ f → mR Mf f ((pl D3 l).getD k 0) = mR M3 f ((pl D3 l).getD k 0) := fun {l k} hl hk f h3 => by
    rw [k3.r rfl]
    exact (k6.row pw3 hl hk).2 f h3
  have s6 : SnL D3 M3 D2 Mf 136 K2 := (k6.snl A2).tr (SnL.kf k3 rfl (K := K2)) (Nat.le_refl _)
  have s4 : SnL D3 M3 D2 Mf 134 K1 := sn.sl.tr (SnL.kf k3 rfl (K := K1)) (Nat.le_refl _)
  have t94 : ∀ v, tA sf 94 v = tA s1 94 v := fun v => ((f3 94 (hf3 94 (by decide))).2.2.1 v).trans ((f2 94 rfl).2.2.1 v)
  have t01 : ∀ k, [201, 202, 203].contains k = false → ∀ j, tA s1 k j = tA s0 k j := fun k hk j => (f1 k hk).2.2.1 j
  have tf : ∀ k, k ∈ [94, 121, 122, 123, 124, 134, 145, 151, 153, 162, 177, 178, 179, 181, 189] → rdV.contains k = false → ∀ j, tA sf k j = tA s1 k j := fun k hk h2 j => ((f3 k (hf3 k hk)).2.2.1 j).trans ((f2 k h2).2.2.1 j)
  refine ⟨ix, ⟨ro, st, bl⟩, ⟨fun v hv => ?_, fun v hv => ?_, fun v hv => ?_, by rw [p98]; exact V98, fun v hv => ?_⟩, ⟨by rw [k3.i rfl, i66]; exact cc.1, (f3 181 (hf3 181 (by decide))).1.trans ((f2 181 rfl).1.trans cc.2)⟩, ⟨⟨pwf, ix.1.1.2.1, ix.1.1.2.2.1, ⟨by rw [k3.i rfl, k6.2.2.1]; exact A2.2.2.2.1.1, by rw [k6.1]; exact A2.2.2.2.1.2.1, A2.2.2.2.1.2.2⟩, ix.1.1.2.2.2.2⟩, by rw [p112]; exact lA, fun e he => ?_, fun i hi => ?_⟩, fun r hr => ?_, h221⟩
  · rw [t94, t94]; exact al v hv
  · obtain ⟨⟨b1, b2⟩, b3, b4⟩ := am v hv
    rw [p98, rI (l := 98) (by decide) (by omega) 3217 (by decide), rI (l := 98) (by decide) (by omega) 3218 (by decide), tf 177 (by decide) rfl, tf 178 (by decide) rfl]
    exact ⟨⟨b1, b2⟩, b3, b4⟩
  · have := uv v hv
    rw [p98, rI (l := 98) (by decide) (by omega) 3219 (by decide), tf 179 (by decide) rfl, t94]
    exact this.imp (fun ⟨y, u, y1, y2⟩ => ⟨y, u, by omega, y2⟩) id
  · obtain ⟨⟨x, x1', x2', x3'⟩, y⟩ := va.2 v hv
    have e94 : tA sf 94 v = tA s0 94 v := (t94 v).trans (t01 94 rfl v)
    rw [p98, rI (l := 98) (by decide) (by omega) 3203 (by decide), e94]
    refine ⟨⟨x, x1', x2', x3'⟩, fun z => ?_⟩
    obtain ⟨w, x', u, y1, y2, y3, y4, y5, y6⟩ := y z
    have uU := hU v u x' hv y5
    rw [rI (l := 98) (by decide) (by omega) 3217 (by decide), rI (l := 98) (by decide) (by omega) 3218 (by decide)]
    exact ⟨w, x', u, y1, y2, y3, by rw [rI (l := 98) (by decide) (by omega) 3219 (by decide)]; exact y4, y5.mu xU, (ix.2.2.1.2 u (by omega)).2.2.1⟩
  · obtain ⟨n, y1, y2⟩ := wh e he
    refine ⟨n, ((tf 145 (by decide) rfl e).trans (t01 145 rfl e)).trans y1, ?_⟩
    rw [p113, rR (l := 113) (by decide) (by omega) 3801 (by decide)]
    exact SxR.ml s6 xU (fun z => absurd z (by decide)) (Nat.le_refl _) hN h7 _ _ _ _ y2
  · obtain ⟨n, c', y1, y2, z⟩ := ac i hi
    refine ⟨n, c', ((tf 151 (by decide) rfl i).trans (t01 151 rfl i)).trans y1, SxR.ml s6 xU (fun z => absurd z (by decide)) (Nat.le_refl _) hN h7 _ _ _ _ y2, ?_⟩
    have r12 := fun f (h : 3000 ≤ f) => rI (l := 112) (k := i) (by decide) (by omega) f h
    rw [p112, p98, r12 4000 (by decide), r12 4001 (by decide), r12 4004 (by decide), rR (l := 112) (by decide) (by omega) 4003 (by decide)]
    refine z.imp id (fun ⟨z1, v, w, v1, w1, z2, z3⟩ => ⟨z1, v, w, v1, ⟨w1.1, by rw [rI (l := 98) (by decide) (by omega) 3217 (by decide)]; exact w1.2⟩, by rw [rI (l := 98) (by decide) (by omega) 3219 (by decide)]; exact z2, ?_⟩)
    rw [rI (l := 98) (by decide) (by omega) 3218 (by decide)]
    refine z3.imp id (fun ⟨y1, j, j1, j2, j3, j4, j5, j6⟩ => ?_)
    obtain ⟨e1, e2, e3⟩ := s6 j j1
    refine ⟨y1, j, j1, by rw [e1]; exact j2, ?_⟩
    rw [e1, e2 3400 (by decide) (by decide), e3 3405 (by decide) (by decide), e3 3406 (by decide) (by decide), e3 3407 (by decide) (by decide)]
    exact ⟨j3, j4, j5, j6⟩
  · obtain ⟨m, ⟨m1, m2⟩, ⟨m3, m4⟩, m5, m6⟩ := rl r hr
    refine ⟨m, ((tf 153 (by decide) rfl r).trans (t01 153 rfl r)).trans m1, ((tf 162 (by decide) rfl m).trans (t01 162 rfl m)).trans m2, ?_, ?_⟩
    · have mN : m < N := by
        rcases rls m r m5 m3 m4 m2 with q | q
        · exact q.nb.2.2
        · exact q.nb.2.2
      unfold isR at *
      rw [xU.1 121 (by decide) m mN]; exact m3
    · rw [k3.gx rfl, k6.2.2.2]
      rcases rls m r m5 m3 m4 m2 with q | q
      · left
        have q1 : SxR D3 M3 s1 134 V K1 N 100 1 (mX M3 137 r) m := SxR.mv SnK.rf x1 (Nat.le_refl _) (Nat.le_refl _) h7 _ _ _ _ _ (Nat.le_refl _) q
        have uw1 : UW s1 U m := m6.mv h7 (x1.nu (U := 0)) (SxR.tw _ _ _ _ q) (SxR.tw _ _ _ _ q1)
        have q2 := SxR.mu sn lw (Nat.le_refl K1) (Nat.le_refl N) h7 _ _ _ _ q1 uw1
        exact SxR.ml (SnL.kf k3 rfl) (x3.nu (U := 0)) (fun _ => x3) hK hN h7 _ _ _ _ q2
      · right
        exact SxR.ml s6 xU (fun z => absurd z (by decide)) (Nat.le_refl _) hN h7 _ _ _ _ q
end SVMAKE
