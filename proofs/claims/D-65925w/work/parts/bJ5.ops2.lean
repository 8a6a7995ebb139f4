/-! Layer B: the flat model: an operation with several parts, both sides -/
set_option maxRecDepth 100000
section OPS2
variable {C : PC} {D D' D1 D2 : FQ} {M M' M1 M2 M3 : CM} {σ σ' σ1 σ2 : TS} {mss fss ps : List Nat} {B V I Bm b c e f z w q Lp dc n j p x o o1 o2 o3 md x0 l X N0 K K' K1 N N' N1 ar nf d h s s1 s2 a i u1 u2 u3 : Nat} {P T : Nat → Prop} {x3 x4 tw op op' vl y y2 y3 y4 tok kop : Int32} {z7 : Nat → Nat} {S : List Nat} {kr : Option ((Nat ⊕ Nat) × CM)} {tr : Option (Int32 × TS)} {cfK : Nat → Nat → Int32 → Int32 → Int32 → CM → Option ((Nat ⊕ Nat) × CM)} {cfT : Int32 → Int32 → Int32 → Int32 → TS → Option (Int32 × TS)} {kk : Nat → CM → Option ((Nat ⊕ Nat) × CM)} {tt : Int32 → TS → Option (Int32 × TS)}
/-- what is 0 is no object -/
theorem ar_n0 (W : FW C B P mss fss D M σ) (A : AR P (tN σ) (tQ σ) (cm C) ar nf (cfn C) M σ d s o n) : o ≠ 0 := by
  cases d with
  | zero => exact A.elim
  | succ d =>
    have h := (W.1.2.2.2.2.2.1.1 o A.1.1).2.1.1
    omega
/-- two parts -/
theorem z_bi (hB1 : B ≤ 1280) (hF : ∀ a b c d s, tI s 0 ≠ 0 → cfT a b c d s = some (0, s)) (ih : FlJ md x0 l X N0 z7 C B P mss fss V I Bm Lp x3 i cfK cfT h) (Fs : FSt md x0 l X N0 z7 C B P mss fss D M σ V I Bm K N Lp dc x3) (hd : dc + (h + 1) ≤ 100) (hnf : nf ≤ cnf C) (cx : CaX P D M x4 tw dc ar) (Po : P o ∧ mk M o = 8) (hn : n < tN σ) (ho : (s = 0 ∧ (mI M 1400 o, tA σ 24 n) ∈ biL) ∨ (s = 1 ∧ (mI M 1400 o, tA σ 24 n) ∈ coL)) (h4 : mR M 1404 o = 0) (h25 : tA σ 25 n = nI x) (h26 : tA σ 26 n = nI z) (A : AR P (tN σ) (tQ σ) (cm C) ar nf (cfn C) M σ d s (mR M 1402 o) x) (A2 : AR P (tN σ) (tQ σ) (cm C) ar nf (cfn C) M σ d s (mR M 1403 o) z) :
    FlO md x0 l X N0 z7 C B P mss fss V I Bm Lp dc x3 s (h + 1) N D M σ K N (KB_X0_flatten_3 cfK o ((pl D 99).getD i 0) x3 x4 (nI (100 - h)) M) (B_build cfT (nI n) (nI i) tw (nI (100 - h)) σ) := by
  have N7 := Fs.N7 hB1
  have h0 := Fs.2.2.2.2.2.2.2
  have nl := Fs.nl
  have x5 := d100 hd
  have i9 : inb (nI n) 9000 := inb_nI' (by omega) (by decide)
  have x9 : ix (nI n) = n := ix_nI (by omega)
  have z3 := ar_n0 Fs.1 A2
  obtain ⟨op, hop, hmk, bi⟩ : ∃ op, OpK (mI M 1400 o) op ∧ ((s = 0 ∧ (op, tA σ 24 n) ∈ biF) ∨ (s = 1 ∧ (op, tA σ 24 n) ∈ coF)) ∧ tA σ 24 n ∈ biT := by
    rcases ho with ⟨a1, a2⟩ | ⟨a1, a2⟩
    · obtain ⟨op, b1, b2⟩ := OpK.bi _ a2
      refine ⟨op, b1, Or.inl ⟨a1, b2⟩, ?_⟩
      simp only [biL, List.mem_cons, List.not_mem_nil, or_false, Prod.mk.injEq] at a2
      rcases a2 with ⟨-, q⟩ | ⟨-, q⟩ | ⟨-, q⟩ | ⟨-, q⟩ | ⟨-, q⟩ | ⟨-, q⟩ <;> rw [q] <;> decide
    · obtain ⟨op, b1, b2⟩ := OpK.co _ a2
      refine ⟨op, b1, Or.inr ⟨a1, b2⟩, ?_⟩
      simp only [coL, List.mem_cons, List.not_mem_nil, or_false, Prod.mk.injEq] at a2
      rcases a2 with ⟨-, q⟩ | ⟨-, q⟩ <;> rw [q] <;> decide
  rw [k_gen Po.2 x5 hop.1, t_b21 h0 x5, t_bi h0 (by omega) rfl bi, h25]
  refine ih.go Fs hd hnf A cx (fun M' σ' w y g => ?_) (fun D' M' σ' K' N' a n' zz1 Fs' T k1 n1 nd sz1 sz2 => ?_)
  · obtain ⟨z, s', e1, e2⟩ := g.mk (Or.inr (Or.inr (Or.inl ⟨bi, g.2.1, by decide⟩)) : MkA (tA σ 24 n) y 0 0)
    exact ⟨z, s', by rw [ifT i9, hF _ _ _ _ _ g.1.2.1.2.2.1, ob_some, e1, ob_some], e2⟩
  · have so := T.so Po.1
    have ko : mk M' o = 8 := by rw [so.k]; exact Po.2
    rw [ifT ko, so.r, ifF z3, ifT ko, ifT i9, x9, T.t4 hn 26 (by decide), h26, ← T.p99 nl.2.1]
    refine ih.go Fs' hd hnf (T.arr hnf A2) (T.cx cx) (fun M2 σ2 w y g => ?_) (fun D2 M2 σ2 K2 N2 a2 n2 zz2 Fs2 T2 k2 n2' nd2 sz3 sz4 => ?_)
    · have := Fs'.nl
      have nb := nd.nb
      obtain ⟨z, s', e1, e2⟩ := g.mk (Or.inr (Or.inr (Or.inl ⟨bi, inb_nI' (by omega) (by decide), g.2.1⟩)) : MkA (tA σ 24 n) (nI n') y 0)
      exact ⟨z, s', by rw [e1, ob_some], e2⟩
    · have so2 := T2.so Po.1
      have so3 := so.tr so2
      have ko2 : mk M2 o = 8 := by rw [so3.k]; exact Po.2
      rw [k_482 ko2, so3.r, ifT h4, k_511' Fs2 ko2 (by rw [so3.i]; exact hop), ob_id]
      exact mk_bi (vl := 0) Fs2 (by omega) (nd.mv T2.2.2.1 k2 n2' (Nat.le_refl V) h h _ _ _ (Nat.le_refl h)) nd2 hmk Fs.n1 (SzR.mv T2.2.2.1.n4 n2' _ _ _ _ _ (Nat.le_refl _) (Nat.le_refl _) sz1) sz3 ⟨by omega, by have := nd.nb; omega⟩
/-- a relation -/
theorem z_rl (hB1 : B ≤ 1280) (hF : ∀ a b c d s, tI s 0 ≠ 0 → cfT a b c d s = some (0, s)) (ih : FlJ md x0 l X N0 z7 C B P mss fss V I Bm Lp x3 i cfK cfT h) (Fs : FSt md x0 l X N0 z7 C B P mss fss D M σ V I Bm K N Lp dc x3) (hd : dc + (h + 1) ≤ 100) (hnf : nf ≤ cnf C) (cx : CaX P D M x4 tw dc ar) (Po : P o ∧ mk M o = 8) (hn : n < tN σ) (ho : (mI M 1400 o, tA σ 25 n) ∈ rlL) (h24 : tA σ 24 n = 20) (h4 : mR M 1404 o = 0) (h26 : tA σ 26 n = nI x) (h27 : tA σ 27 n = nI z) (A : AR P (tN σ) (tQ σ) (cm C) ar nf (cfn C) M σ d 0 (mR M 1402 o) x) (A2 : AR P (tN σ) (tQ σ) (cm C) ar nf (cfn C) M σ d 0 (mR M 1403 o) z) :
    FlO md x0 l X N0 z7 C B P mss fss V I Bm Lp dc x3 1 (h + 1) N D M σ K N (KB_X0_flatten_3 cfK o ((pl D 99).getD i 0) x3 x4 (nI (100 - h)) M) (B_build cfT (nI n) (nI i) tw (nI (100 - h)) σ) := by
  have N7 := Fs.N7 hB1
  have h0 := Fs.2.2.2.2.2.2.2
  have nl := Fs.nl
  have x5 := d100 hd
  have i9 : inb (nI n) 9000 := inb_nI' (by omega) (by decide)
  have x9 : ix (nI n) = n := ix_nI (by omega)
  have z3 := ar_n0 Fs.1 A2
  obtain ⟨op, hop, hmk⟩ := OpK.rl _ ho
  rw [k_gen Po.2 x5 hop.1, t_b21 h0 x5, t_rl h0 (by omega) h24, h26]
  refine ih.go Fs hd hnf A cx (fun M' σ' w y g => ?_) (fun D' M' σ' K' N' a n' zz1 Fs' T k1 n1 nd sz1 sz2 => ?_)
  · obtain ⟨z, s', e1, e2⟩ := g.mk (Or.inr (Or.inr (Or.inr (Or.inl ⟨rfl, g.2.1, by decide⟩))) : MkA 20 (tA σ' 25 (ix (nI n))) y 0)
    exact ⟨z, s', by rw [ifT i9, ifT i9, hF _ _ _ _ _ g.1.2.1.2.2.1, ob_some, e1, ob_some], e2⟩
  · have so := T.so Po.1
    have ko : mk M' o = 8 := by rw [so.k]; exact Po.2
    rw [ifT ko, so.r, ifF z3, ifT ko, ifT i9, ifT i9, x9, T.t4 hn 27 (by decide), h27, ← T.p99 nl.2.1]
    refine ih.go Fs' hd hnf (T.arr hnf A2) (T.cx cx) (fun M2 σ2 w y g => ?_) (fun D2 M2 σ2 K2 N2 a2 n2 zz2 Fs2 T2 k2 n2' nd2 sz3 sz4 => ?_)
    · have := Fs'.nl
      have nb := nd.nb
      obtain ⟨z, s', e1, e2⟩ := g.mk (Or.inr (Or.inr (Or.inr (Or.inl ⟨rfl, inb_nI' (by omega) (by decide), g.2.1⟩))) : MkA 20 (tA σ' 25 n) (nI n') y)
      exact ⟨z, s', by rw [e1, ob_some], e2⟩
    · have so2 := T2.so Po.1
      have so3 := so.tr so2
      have ko2 : mk M2 o = 8 := by rw [so3.k]; exact Po.2
      rw [k_482 ko2, so3.r, ifT h4, k_511' Fs2 ko2 (by rw [so3.i]; exact hop), ob_id, T.t4 hn 25 (by decide)]
      exact mk_rl (vl := 0) Fs2 (by omega) (nd.mv T2.2.2.1 k2 n2' (Nat.le_refl V) h h _ _ _ (Nat.le_refl h)) nd2 hmk Fs.n1 (SzR.mv T2.2.2.1.n4 n2' _ _ _ _ _ (Nat.le_refl _) (Nat.le_refl _) sz1) sz3 ⟨by omega, by have := nd.nb; omega⟩
/-- if -/
theorem z_if (hB1 : B ≤ 1280) (hF : ∀ a b c d s, tI s 0 ≠ 0 → cfT a b c d s = some (0, s)) (ih : FlJ md x0 l X N0 z7 C B P mss fss V I Bm Lp x3 i cfK cfT h) (Fs : FSt md x0 l X N0 z7 C B P mss fss D M σ V I Bm K N Lp dc x3) (hd : dc + (h + 1) ≤ 100) (hnf : nf ≤ cnf C) (cx : CaX P D M x4 tw dc ar) (Po : P o ∧ mk M o = 8) (hn : n < tN σ) (ho : mI M 1400 o = 21) (h24 : tA σ 24 n = 16) (h25 : tA σ 25 n = nI x) (h26 : tA σ 26 n = nI z) (h27 : tA σ 27 n = nI q) (A : AR P (tN σ) (tQ σ) (cm C) ar nf (cfn C) M σ d 1 (mR M 1402 o) x) (A2 : AR P (tN σ) (tQ σ) (cm C) ar nf (cfn C) M σ d 0 (mR M 1403 o) z) (A3 : AR P (tN σ) (tQ σ) (cm C) ar nf (cfn C) M σ d 0 (mR M 1404 o) q) :
    FlO md x0 l X N0 z7 C B P mss fss V I Bm Lp dc x3 0 (h + 1) N D M σ K N (KB_X0_flatten_3 cfK o ((pl D 99).getD i 0) x3 x4 (nI (100 - h)) M) (B_build cfT (nI n) (nI i) tw (nI (100 - h)) σ) := by
  have N7 := Fs.N7 hB1
  have h0 := Fs.2.2.2.2.2.2.2
  have nl := Fs.nl
  have x5 := d100 hd
  have i9 : inb (nI n) 9000 := inb_nI' (by omega) (by decide)
  have x9 : ix (nI n) = n := ix_nI (by omega)
  have z3 := ar_n0 Fs.1 A2
  have z4 := ar_n0 Fs.1 A3
  have hop : OpK (mI M 1400 o) 14 := by rw [ho]; exact OpK.if_
  rw [k_gen Po.2 x5 hop.1, t_b21 h0 x5, t_if h0 (by omega) h24, h25]
  refine ih.go Fs hd hnf A cx (fun M' σ' w y g => ?_) (fun D' M' σ' K' N' a n' zz1 Fs' T k1 n1 nd sz1 sz2 => ?_)
  · obtain ⟨z, s', e1, e2⟩ := g.mk (Or.inr (Or.inr (Or.inr (Or.inr ⟨rfl, g.2.1, by decide, by decide⟩))) : MkA 16 y 0 0)
    exact ⟨z, s', by rw [ifT i9, hF _ _ _ _ _ g.1.2.1.2.2.1, ob_some, ifT i9, hF _ _ _ _ _ g.1.2.1.2.2.1, ob_some, e1, ob_some], e2⟩
  · have so := T.so Po.1
    have ko : mk M' o = 8 := by rw [so.k]; exact Po.2
    rw [ifT ko, so.r, ifF z3, ifT ko, ifT i9, x9, T.t4 hn 26 (by decide), h26, ← T.p99 nl.2.1]
    refine ih.go Fs' hd hnf (T.arr hnf A2) (T.cx cx) (fun M2 σ2 w y g => ?_) (fun D2 M2 σ2 K2 N2 a2 n2 zz2 Fs2 T2 k2 n2' nd2 sz3 sz4 => ?_)
    · have := Fs'.nl
      have nb := nd.nb
      obtain ⟨z, s', e1, e2⟩ := g.mk (Or.inr (Or.inr (Or.inr (Or.inr ⟨rfl, inb_nI' (by omega) (by decide), g.2.1, by decide⟩))) : MkA 16 (nI n') y 0)
      exact ⟨z, s', by rw [ifT i9, hF _ _ _ _ _ g.1.2.1.2.2.1, ob_some, e1, ob_some], e2⟩
    · have so2 := T2.so Po.1
      have so3 := so.tr so2
      have ko2 : mk M2 o = 8 := by rw [so3.k]; exact Po.2
      have T12 := T.tr T2 k1 n1
      rw [k_482 ko2, so3.r, ifF z4, ifT i9, T12.t4 hn 27 (by decide), h27, ← T2.p99 nl.2.1]
      refine ih.go Fs2 hd hnf (T12.arr hnf A3) (T12.cx cx) (fun M3 σ3 w y g => ?_) (fun D3 M3 σ3 K3 N3 a3 n3 zz3 Fs3 T3 k3 n3' nd3 sz5 sz6 => ?_)
      · have := Fs2.nl
        have nb := nd.nb
        have nb2 := nd2.nb
        obtain ⟨z, s', e1, e2⟩ := g.mk (Or.inr (Or.inr (Or.inr (Or.inr ⟨rfl, inb_nI' (by omega) (by decide), inb_nI' (by omega) (by decide), g.2.1⟩))) : MkA 16 (nI n') (nI n2) y)
        exact ⟨z, s', by rw [e1, ob_some], e2⟩
      · have so4 := so3.tr (T3.so Po.1)
        have ko3 : mk M3 o = 8 := by rw [so4.k]; exact Po.2
        rw [k_511' Fs3 ko3 (by rw [so4.i]; exact hop), ob_id]
        have T23 := T2.tr T3 k2 n2'
        exact mk_if (vl := 0) Fs3 (by omega) (nd.mv T23.2.2.1 (by omega) (by omega) (Nat.le_refl V) h h _ _ _ (Nat.le_refl h)) (nd2.mv T3.2.2.1 k3 n3' (Nat.le_refl V) h h _ _ _ (Nat.le_refl h)) nd3 Fs.n1 (SzR.mv T23.2.2.1.n4 (by omega) _ _ _ _ _ (Nat.le_refl _) (Nat.le_refl _) sz1) (SzR.mv T3.2.2.1.n4 n3' _ _ _ _ _ (Nat.le_refl _) (Nat.le_refl _) sz3) sz5 ⟨by omega, by have := nd.nb; omega, by have := nd2.nb; omega⟩
end OPS2
