/-! Layer B: the twin differentiates: steps, nodes made -/
set_option maxRecDepth 100000
abbrev dvS : List Nat := [0, 1, 121, 122, 123, 124, 125, 126, 127, 131, 134]
/-- while it differentiates from σ on, N nodes now -/
def DvI (σ : TS) (N0 : Nat) (s : TS) (N : Nat) : Prop := Ft dvS σ s ∧ NdX σ s N0 ∧ (N0 ≤ N ∧ N ≤ 70000) ∧ tI s 126 = nI N
def Dvb (σ : TS) (s : TS) : Prop := tI s 0 = 52 ∧ tI s 1 = tI σ 204
/-- a step: at most c nodes, or all are used up -/
def DP (σ : TS) (N0 : Nat) (s : TS) (N : Nat) (r : Option (Int32 × TS)) (c : Nat) (G : TS → Nat → Nat → Prop) : Prop := DvI σ N0 s N → (tI s 0 = 0 ∨ Dvb σ s) → ∃ y s' N', r = some (y, s') ∧ inb y 70000 ∧ DvI σ N0 s' N' ∧ N ≤ N' ∧ NdX s s' N ∧ ((Dvb σ s' ∧ (tI s 0 = 0 → 70000 < N + c)) ∨ (tI s' 0 = 0 ∧ tI s 0 = 0 ∧ N' ≤ N + c ∧ ∃ m, y = nI m ∧ (1 ≤ m ∧ m < N') ∧ G s' N' m))
def MkX (op x2 x3 x4 : Int32) : Prop := MkA op x2 x3 x4 ∨ (op = 25 ∧ inb x3 70000 ∧ inb x4 70000)
section DER
variable {s s' s1 s2 σ : TS} {S : List Nat} {N N' N0 K h h' st n m u v w x y z c c' : Nat} {sx op x2 x3 x4 hv sz : Int32} {r : Option (Int32 × TS)} {k : Int32 → TS → Option (Int32 × TS)} {G G' : TS → Nat → Nat → Prop}
theorem t_mkLv (hN : tI σ 126 = nI N ∧ N < 70000) (h3 : inb x3 70000) (h4 : inb x4 70000) : F_make 25 x2 x3 x4 σ = J_make_433 (nI N) (mmax (tA σ 134 (ix x3)) (tA σ 134 (ix x4))) (ndT σ N 25 x2 x3 x4 (1 + (tA σ 125 (ix x3) + tA σ 125 (ix x4)))) := by
  have i1 : inb (nI N) 70000 := inb_nI' hN.2 (by decide)
  have e1 : ix (nI N) = N := ix_nI (by omega)
  have n7 : ¬ nI N = 70000 := by rw [show (70000 : Int32) = nI 70000 from rfl, bI_eq (by omega) (by decide)]; omega
  have nb : nB (nB 25) = 25 := by decide
  unfold F_make
  rw [hN.1, ifF n7, nm_eq, nI_addL, nm_eq, ifT i1, nm_eq, ifT i1, nm_eq, ifT i1, nm_eq, ifT i1, nm_eq, e1, nb]
  have k263 : ∀ s : TS, J_make_263 25 x2 x3 x4 (nI N) 1 s = J_make_433 (nI N) (mmax (tA s 134 (ix x3)) (tA s 134 (ix x4))) (tsA s 125 N (mmin (1 + (tA s 125 (ix x3) + tA s 125 (ix x4))) 1000000)) := fun s => by
    unfold J_make_263
    rw [ifT h3, ifT h4, nm_eq]
    unfold J_make_282
    rw [ifT i1, nm_eq, e1]
    exact (ifT h3).trans (ifT h4)
  exact k263 _
theorem mk_any (hN : tI s 126 = nI N ∧ N < 70000) (ho : MkX op x2 x3 x4) : ∃ hv sz, F_make op x2 x3 x4 s = J_make_433 (nI N) hv (ndT s N op x2 x3 x4 sz) := by
  rcases ho with (o1 | ⟨o1, o2⟩ | ⟨o1, o2, o3⟩ | ⟨o1, o2, o3⟩ | ⟨o1, o2, o3, o4⟩) | ⟨o1, o2, o3⟩
  · exact ⟨_, _, t_mkLf hN o1⟩
  · exact ⟨_, _, t_mkUn hN o1 o2⟩
  · exact ⟨_, _, t_mkBi hN o1 o2 o3⟩
  · rw [o1]; exact ⟨_, _, t_mkRl hN o2 o3⟩
  · rw [o1]; exact ⟨_, _, t_mkIf hN o2 o3 o4⟩
  · rw [o1]; exact ⟨_, _, t_mkLv hN o2 o3⟩
theorem DvI.ex (g : DvI σ N0 s N) (f : Ft dvS s s') (hx : NdX s s' N) (hN : N ≤ N' ∧ N' ≤ 70000) (e : tI s' 126 = nI N') : DvI σ N0 s' N' := ⟨g.1.tr f, g.2.1.tr hx g.2.2.1.1, ⟨Nat.le_trans g.2.2.1.1 hN.1, hN.2⟩, e⟩
theorem dv_make (hn0 : 1 ≤ N0) (hz : tI σ 129 = 0 ∧ tI σ 130 = 0) (ho : MkX op x2 x3 x4) : DP σ N0 s N (F_make op x2 x3 x4 s) 1 (fun s' _ m => tA s' 121 m = op ∧ tA s' 122 m = x2 ∧ tA s' 123 m = x3 ∧ tA s' 124 m = x4) := by
  intro g1 g0
  obtain ⟨f, nx, ⟨n1, n2⟩, n3⟩ := id g1
  have h129 : tI s 129 = 0 := (f 129 rfl).1.trans hz.1
  have h130 : tI s 130 = 0 := (f 130 rfl).1.trans hz.2
  by_cases q : N = 70000
  · rcases g0 with g0 | g0
    · have fb : Ft [0, 1] s (tsI (tsI s 0 52) 1 (tI s 204)) := ((Ft.rf _ s).p_tsI rfl).p_tsI rfl
      refine ⟨0, tsI (tsI s 0 52) 1 (tI s 204), N, ?_, by decide, g1.ex (fb.mono (by decide)) (NdX.ft fb (by decide)) ⟨Nat.le_refl _, n2⟩ n3, Nat.le_refl _, NdX.ft fb (by decide), Or.inl ⟨⟨rfl, (f 204 rfl).1⟩, fun _ => by omega⟩⟩
      unfold F_make
      rw [n3, ifT (by rw [q]; rfl), ifT h130, ifT h130, t_bad g0, ob_some]
    · have b0 : tI s 0 ≠ 0 := by rw [g0.1]; decide
      refine ⟨0, s, N, ?_, by decide, g1, Nat.le_refl _, NdX.rf, Or.inl ⟨g0, fun z => absurd z b0⟩⟩
      unfold F_make
      rw [n3, ifT (by rw [q]; rfl), ifT h130, ifT h130, t_bad2 b0, ob_some]
  · have n7 : N < 70000 := by omega
    obtain ⟨hv, sz, e⟩ := mk_any ⟨n3, n7⟩ ho
    obtain ⟨s1, hs1⟩ : ∃ q, q = ndT s N op x2 x3 x4 sz := ⟨_, rfl⟩
    have fn : Ft [121, 122, 123, 124, 125, 126] s s1 := by rw [hs1]; exact ndT_f
    have vn := ndT_v (σ := s) (N := N) (op := op) (x2 := x2) (x3 := x3) (x4 := x4) (sz := sz)
    rw [← hs1] at vn e
    obtain ⟨⟨v1, v2, v3, v4, v5, v6⟩, vo⟩ := vn
    obtain ⟨s', u1, u2, u3, u4, u5, u6, u7, u8, u9⟩ := t_433 (h := hv) (s := s1) n7 (md := 0) (K := 0) (Or.inr (Or.inr ⟨rfl, (fn 129 rfl).1.trans h129, (fn 130 rfl).1.trans h130⟩)) (Nat.zero_le _)
    have f7 := u7 (Or.inl rfl)
    have fs : Ft dvS s s' := (fn.mono (by decide)).tr (f7.mono (by decide))
    have hx : NdX s s' N := ⟨fun g hg j hj => by
      have ne : j ≠ N := by omega
      simp only [List.mem_cons, List.not_mem_nil, or_false] at hg
      rcases hg with rfl | rfl | rfl | rfl | rfl
      · rw [(f7 121 rfl).2.2.1]; exact vo 121 (by decide) j ne
      · rw [(f7 122 rfl).2.2.1]; exact vo 122 (by decide) j ne
      · rw [(f7 123 rfl).2.2.1]; exact vo 123 (by decide) j ne
      · rw [(f7 124 rfl).2.2.1]; exact vo 124 (by decide) j ne
      · rw [u4 j ne]; exact (fn 134 rfl).2.2.1 j, fun g hg v => by
      simp only [List.mem_cons, List.not_mem_nil, or_false] at hg
      rcases hg with rfl | rfl | rfl | rfl | rfl <;> exact (fs _ rfl).2.2.1 v, fun u _ => (fs 189 rfl).2.2.1 u⟩
    have e6 : tI s' 126 = nI (N + 1) := (f7 126 rfl).1.trans v1
    have e0 : tI s' 0 = tI s 0 := (f7 0 rfl).1.trans (fn 0 rfl).1
    have e1 : tI s' 1 = tI s 1 := (f7 1 rfl).1.trans (fn 1 rfl).1
    refine ⟨nI N, s', N + 1, e.trans u1, inb_nI' n7 (by decide), g1.ex fs hx ⟨by omega, by omega⟩ e6, by omega, hx, ?_⟩
    rcases g0 with g0 | g0
    · exact Or.inr ⟨e0.trans g0, g0, Nat.le_refl _, N, rfl, ⟨by have := hn0; omega, by omega⟩, (f7 121 rfl).2.2.1 N |>.trans v2, (f7 122 rfl).2.2.1 N |>.trans v3, (f7 123 rfl).2.2.1 N |>.trans v4, (f7 124 rfl).2.2.1 N |>.trans v5⟩
    · exact Or.inl ⟨⟨e0.trans g0.1, e1.trans g0.2⟩, fun z => absurd (z.symm.trans g0.1) (by decide)⟩
theorem DP.seq (d : DP σ N0 s N r c G) (hk : ∀ y s' N', inb y 70000 → DvI σ N0 s' N' → N ≤ N' → NdX s s' N → (tI s' 0 = 0 → tI s 0 = 0 ∧ ∃ m, y = nI m ∧ (1 ≤ m ∧ m < N') ∧ G s' N' m) → DP σ N0 s' N' (k y s') c' (fun s2 N2 m2 => NdX s' s2 N' → N' ≤ N2 → G' s2 N2 m2)) : DP σ N0 s N (ob r k) (c + c') G' := by
  intro g1 g0
  obtain ⟨y, s', N', rfl, a1, a2, a3, a4, a5⟩ := d g1 g0
  rw [ob_some]
  have hg : tI s' 0 = 0 → tI s 0 = 0 ∧ ∃ m, y = nI m ∧ (1 ≤ m ∧ m < N') ∧ G s' N' m := fun z => by
    rcases a5 with ⟨b, -⟩ | ⟨-, b2, -, b4⟩
    · exact absurd (z.symm.trans b.1) (by decide)
    · exact ⟨b2, b4⟩
  obtain ⟨y2, s2, N2, c1, c2, c3, c4, c5, c6⟩ := hk y s' N' a1 a2 a3 a4 hg a2 (by
    rcases a5 with ⟨b, -⟩ | ⟨b, -⟩
    · exact Or.inr b
    · exact Or.inl b)
  refine ⟨y2, s2, N2, c1, c2, c3, by omega, a4.tr c5 a3, ?_⟩
  rcases c6 with ⟨b, bb⟩ | ⟨b1, b2, b3, m, b4, b5, b6⟩
  · refine Or.inl ⟨b, fun z => ?_⟩
    rcases a5 with ⟨-, e⟩ | ⟨e1, -, e3, -⟩
    · have := e z; omega
    · have := bb e1; omega
  · rcases a5 with ⟨e, -⟩ | ⟨e1, e2, e3, -⟩
    · exact absurd (b2.symm.trans e.1) (by decide)
    · exact Or.inr ⟨b1, e2, by omega, m, b4, b5, b6 c5 c4⟩
theorem DP.mono (d : DP σ N0 s N r c G) (hc : c ≤ c') (hG : tI s 0 = 0 → ∀ s' N' m, DvI σ N0 s' N' → N ≤ N' → NdX s s' N → (1 ≤ m ∧ m < N') → G s' N' m → G' s' N' m) : DP σ N0 s N r c' G' := by
  intro g1 g0
  obtain ⟨y, s', N', a0, a1, a2, a3, a4, a5⟩ := d g1 g0
  refine ⟨y, s', N', a0, a1, a2, a3, a4, ?_⟩
  rcases a5 with ⟨b, e⟩ | ⟨b1, b2, b3, m, b4, b5, b6⟩
  · exact Or.inl ⟨b, fun z => by have := e z; omega⟩
  · exact Or.inr ⟨b1, b2, by omega, m, b4, b5, hG b2 s' N' m a2 a3 a4 b5 b6⟩
/-- the end of a row of steps -/
theorem DP.idr (d : DP σ N0 s N r c G) : DP σ N0 s N (ob r fun x s => some (x, s)) c G := by rw [ob_id]; exact d
theorem dv_num (hn0 : 1 ≤ N0) (hz : tI σ 129 = 0 ∧ tI σ 130 = 0) (x2 : Int32) : DP σ N0 s N (F_numeralNode x2 s) 1 (fun s' _ m => tA s' 121 m = 0 ∧ tA s' 122 m = x2) := by
  unfold F_numeralNode
  exact ((dv_make hn0 hz (op := 0) (x2 := x2) (x3 := 0) (x4 := 0) (Or.inl (Or.inl (by decide)))).mono (Nat.le_refl _) (fun _ _ _ _ _ _ _ _ e => ⟨e.1, e.2.1⟩)).idr
end DER
