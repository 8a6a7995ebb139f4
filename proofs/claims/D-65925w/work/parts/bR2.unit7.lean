/-! Layer B: units: both sides find the same -/
set_option maxRecDepth 100000
/-- a variable's unit, both sides -/
def UnH (M0 : CM) (σ0 : TS) (v : Nat) : Prop := ∃ e vo, bU 7 e ∧ (∀ σ, Ft FJ σ0 σ → F_unitOf (nI v) σ = some (pU e, σ)) ∧ (∀ M, Ku M0 M → K_J2_get 98 (nI v) M = some (vo, M)) ∧ mk M0 vo = 17 ∧ (mk M0 (mR M0 3204 vo) = 50 ∧ ml M0 (mR M0 3204 vo) = 3) ∧ mR M0 3204 vo ≠ 116 ∧ (mA M0 (mR M0 3204 vo) 0 = iI e.1 ∧ mA M0 (mR M0 3204 vo) 1 = iI e.2.1 ∧ mA M0 (mR M0 3204 vo) 2 = iI e.2.2)
section UNIT7
variable {D : FQ} {M0 : CM} {σ0 : TS} {K N V v : Nat} {u : UV}
theorem bU7 {e : E3} {z : Nat} (h : bU 7 e) (hz : 1 ≤ z) : bU (8 * z) e ∧ bU (8 * z) (eDr e) := by
  obtain ⟨⟨a1, a2⟩, ⟨b1, b2⟩, c1, c2⟩ := h
  unfold bU eDr
  exact ⟨⟨⟨by omega, by omega⟩, ⟨by omega, by omega⟩, by omega, by omega⟩, ⟨by simp only; omega, by simp only; omega⟩, ⟨by simp only; omega, by simp only; omega⟩, by simp only; omega, by simp only; omega⟩
theorem bV.sg {b : Nat} : bV b (uSg u) := by cases u <;> trivial
theorem bV.sq {b : Nat} (h : bV b u) (hb : b ≤ 100000) : bV b (uSq u) := by
  cases u with
  | none => trivial
  | some u =>
    cases u with
    | none => trivial
    | some e =>
      show bV b (if eEv e then some (some (eHf e)) else none)
      by_cases y : eEv e
      · rw [ifT y]
        obtain ⟨y1, y2, y3⟩ := y
        obtain ⟨⟨a1, a2⟩, ⟨b1, b2⟩, c1, c2⟩ := (h : bU b e)
        show bU b (eHf e)
        unfold eHf
        exact ⟨⟨by simp only; omega, by simp only; omega⟩, ⟨by simp only; omega, by simp only; omega⟩, by simp only; omega, by simp only; omega⟩
      · rw [ifF y]; trivial
theorem z_unitN (g0 : K8 M0) (hK : ∀ k, k < K → mk M0 ((pl D 106).getD k 0) = 18) (hN : N ≤ 70000) (hv : ∀ v, v < V → UnH M0 σ0 v) : ∀ (h a n z : Nat), NdR 0 D M0 σ0 106 V h 0 K N a n → SzR σ0 N h n z → z ≤ 12001 → ∃ u, bV (8 * z) u ∧ CU M0 h a u ∧ TU σ0 h n u ∧ TSp σ0 h n u := by
  intro h
  induction h with
  | zero => intro a n z nd; exact nd.elim
  | succ h ih =>
    intro a n z nd sz hz
    obtain ⟨⟨⟨k, k1, k2, -⟩, n1, n2⟩, -, nd⟩ := nd
    obtain ⟨-, z1, z2, z3, zs, s2, s3, s4⟩ := sz
    replace s2 : tA σ0 121 n ∈ kd2 → ∃ x, tA σ0 122 n = nI x ∧ SzR σ0 N h x z1 := fun u => by
      obtain ⟨x, e, r, -⟩ := s2 u; exact ⟨x, e, r⟩
    replace s3 : tA σ0 121 n ∈ kd3 → ∃ x, tA σ0 123 n = nI x ∧ SzR σ0 N h x z2 := fun u => by
      obtain ⟨x, e, r, -⟩ := s3 u; exact ⟨x, e, r⟩
    replace s4 : tA σ0 121 n ∈ kd4 → ∃ x, tA σ0 124 n = nI x ∧ SzR σ0 N h x z3 := fun u => by
      obtain ⟨x, e, r, -⟩ := s4 u; exact ⟨x, e, r⟩
    have hn : n < 70000 := by omega
    have ka : mk M0 a = 18 := by rw [k2]; exact hK k k1
    have kid : ∀ (b x zc : Nat) (f : Nat), NdR 0 D M0 σ0 106 V h 0 K N b x → tA σ0 f n = nI x → (∃ x, tA σ0 f n = nI x ∧ SzR σ0 N h x zc) → zc ≤ 12001 → ∃ u, bV (8 * zc) u ∧ CU M0 h b u ∧ TU σ0 h x u ∧ TSp σ0 h x u := fun b x zc f r e ⟨x', e', r'⟩ hzc => by
      have b1 := r.nb
      have b2 : x' < N := by
        cases h with
        | zero => exact r'.elim
        | succ h => exact r'.1
      have : x = x' := (bI_eq (by omega) (by omega)).mp (e.symm.trans e')
      subst this
      exact ih b x zc r r' hzc
    rcases nd with ⟨-, c1, c2, -⟩ | ⟨-, c1, ⟨v, c2, c3, c4, -⟩, -⟩ | ⟨-, c1, c2, -⟩ | ⟨-, c1, ⟨x1, c2, c3⟩, -⟩ | ⟨-, c1, ⟨x1, c2, c3⟩, ⟨y1, c4, c5⟩, -⟩ | ⟨-, c1, c0, ⟨x1, c2, c3⟩, ⟨y1, c4, c5⟩, w1, c6, c7⟩ | ⟨c, -⟩ | ⟨c, -⟩ | ⟨c, -⟩ | ⟨c, -⟩
    · have T := TU.num (h := h) hn c2
      exact ⟨some none, trivial, CU.num g0 ka c1, T, TSp.na hn (by rw [c2]; unfold arO; decide) T⟩
    · obtain ⟨e, vo, q1, q2, q3, q4, q5, q6, q7⟩ := hv v c2
      obtain ⟨B1, B2⟩ := bU7 (z := z) q1 (by omega)
      simp only [List.mem_cons, List.not_mem_nil, or_false, Prod.mk.injEq] at c1
      rcases c1 with ⟨o, o'⟩ | ⟨o, o'⟩ | ⟨o, o'⟩
      · have T := TU.var (h := h) hn o' c4 q2
        exact ⟨some (some e), B1, CU.var g0 ka o c3 q3 q4 q5 q6 q7, T, TSp.na hn (by rw [o']; unfold arO; decide) T⟩
      · have T := TU.der (h := h) hn o' c4 (q1.mono (by decide)) q2
        exact ⟨some (some (eDr e)), B2, CU.der g0 ka o c3 q3 q4 q5 q6 q7, T, TSp.na hn (by rw [o']; unfold arO; decide) T⟩
      · have T := TU.pre (h := h) hn o' c4 q2
        exact ⟨some (some e), B1, CU.pre g0 ka o c3 q3 q4 q5 q6 q7, T, TSp.na hn (by rw [o']; unfold arO; decide) T⟩
    · have T := TU.tim (h := h) hn c2
      refine ⟨some (some (0, 1, 0)), ?_, CU.tim g0 ka c1, T, TSp.na hn (by rw [c2]; unfold arO; decide) T⟩
      exact ⟨⟨by simp only; omega, by simp only; omega⟩, ⟨by simp only; omega, by simp only; omega⟩, by simp only; omega, by simp only; omega⟩
    · simp only [List.mem_cons, List.not_mem_nil, or_false, Prod.mk.injEq] at c1
      have hk2 : tA σ0 121 n ∈ kd2 := by rcases c1 with ⟨-, o⟩ | ⟨-, o⟩ | ⟨-, o⟩ | ⟨-, o⟩ | ⟨-, o⟩ <;> rw [o] <;> decide
      obtain ⟨u, B, CC, TT, -⟩ := kid _ _ z1 122 c3 c2 (s2 hk2) (by omega)
      have B' : bV (8 * z) u := B.mono (by omega)
      have B5 : bV 100000 u := B.mono (by omega)
      rcases c1 with ⟨o, o'⟩ | ⟨o, o'⟩ | ⟨o, o'⟩ | ⟨o, o'⟩ | ⟨o, o'⟩
      · have T := TU.neg (h := h) hn o' c2 TT
        exact ⟨_, B', CU.neg g0 ka o CC, T, TSp.na hn (by rw [o']; unfold arO; decide) T⟩
      · have T := TU.abs (h := h) hn o' c2 TT
        exact ⟨_, B', CU.abs g0 ka o CC, T, TSp.na hn (by rw [o']; unfold arO; decide) T⟩
      · have T := TU.sqr (h := h) hn o' c2 TT B5
        exact ⟨_, B'.sq (by omega), CU.sqr g0 ka o CC B5, T, TSp.na hn (by rw [o']; unfold arO; decide) T⟩
      · have T := TU.sgn (h := h) hn o' c2 TT (B5.mono (by decide))
        exact ⟨_, bV.sg, CU.sgn g0 ka o CC, T, TSp.na hn (by rw [o']; unfold arO; decide) T⟩
      · have T := TU.flr (h := h) hn o' c2 TT
        exact ⟨_, B', CU.flr g0 ka o CC, T, TSp.na hn (by rw [o']; unfold arO; decide) T⟩
    · simp only [List.mem_cons, List.not_mem_nil, or_false, Prod.mk.injEq] at c1
      have hk2 : tA σ0 121 n ∈ kd2 ∧ tA σ0 121 n ∈ kd3 := by rcases c1 with ⟨-, o⟩ | ⟨-, o⟩ | ⟨-, o⟩ | ⟨-, o⟩ | ⟨-, o⟩ | ⟨-, o⟩ <;> rw [o] <;> decide
      obtain ⟨u, B, CC, TT, SS⟩ := kid _ _ z1 122 c3 c2 (s2 hk2.1) (by omega)
      obtain ⟨w, B2, CC2, TT2, -⟩ := kid _ _ z2 123 c5 c4 (s3 hk2.2) (by omega)
      have B5 : bV 100000 u := B.mono (by omega)
      have B6 : bV 100000 w := B2.mono (by omega)
      have al : bV (8 * z) (uAl u w) := (B.al B2).mono (by omega)
      have ar : arO (tA σ0 121 n) → TSp σ0 (h + 1) n (uOp (tA σ0 121 n) u w) ∧ TU σ0 (h + 1) n (uOp (tA σ0 121 n) u w) ∧ bV (8 * z) (uOp (tA σ0 121 n) u w) := fun ho => by
        have S := TSp.ar hn ho c2 c4 SS TT2 B5 B6
        exact ⟨S, TU.ar hn ho S, (B.oper B2).mono (by omega)⟩
      rcases c1 with ⟨o, o'⟩ | ⟨o, o'⟩ | ⟨o, o'⟩ | ⟨o, o'⟩ | ⟨o, o'⟩ | ⟨o, o'⟩
      · obtain ⟨S, T, -⟩ := ar (by rw [o']; unfold arO; decide)
        have e : uOp (tA σ0 121 n) u w = uAl u w := by rw [o']; exact ifT (Or.inl rfl)
        rw [e] at S T
        exact ⟨_, al, CU.add g0 ka o CC CC2 B5 B6, T, S⟩
      · obtain ⟨S, T, -⟩ := ar (by rw [o']; unfold arO; decide)
        have e : uOp (tA σ0 121 n) u w = uAl u w := by rw [o']; exact ifT (Or.inr rfl)
        rw [e] at S T
        exact ⟨_, al, CU.sub g0 ka o CC CC2 B5 B6, T, S⟩
      · obtain ⟨S, T, bb⟩ := ar (by rw [o']; unfold arO; decide)
        have e : uOp (tA σ0 121 n) u w = uMu 1 u w := by rw [o']; unfold uOp; rw [ifF (by decide), ifT rfl]
        rw [e] at S T bb
        exact ⟨_, bb, CU.mul g0 ka o CC CC2, T, S⟩
      · obtain ⟨S, T, bb⟩ := ar (by rw [o']; unfold arO; decide)
        have e : uOp (tA σ0 121 n) u w = uMu (-1) u w := by rw [o']; unfold uOp; rw [ifF (by decide), ifF (by decide)]
        rw [e] at S T bb
        exact ⟨_, bb, CU.div g0 ka o CC CC2, T, S⟩
      · have T := TU.mn (h := h) hn o' c2 c4 TT TT2 (B5.mono (by decide)) (B6.mono (by decide))
        exact ⟨_, al, CU.mn g0 ka o CC CC2 B5 B6, T, TSp.na hn (by rw [o']; unfold arO; decide) T⟩
      · have T := TU.mx (h := h) hn o' c2 c4 TT TT2 (B5.mono (by decide)) (B6.mono (by decide))
        exact ⟨_, al, CU.mx g0 ka o CC CC2 B5 B6, T, TSp.na hn (by rw [o']; unfold arO; decide) T⟩
    · obtain ⟨u, B, CC, TT, -⟩ := kid _ _ z2 123 c5 c4 (s3 (by rw [c0]; decide)) (by omega)
      obtain ⟨w, B2, CC2, TT2, -⟩ := kid _ _ z3 124 c7 c6 (s4 (by rw [c0]; decide)) (by omega)
      have B5 : bV 100000 u := B.mono (by omega)
      have B6 : bV 100000 w := B2.mono (by omega)
      have al : bV (8 * z) (uAl u w) := (B.al B2).mono (by omega)
      have T := TU.if_ (h := h) hn c0 c4 c6 TT TT2 (B5.mono (by decide)) (B6.mono (by decide))
      exact ⟨_, al, CU.if_ g0 ka c1 CC CC2 B5 B6, T, TSp.na hn (by rw [c0]; unfold arO; decide) T⟩
    · exact absurd c (by decide)
    · exact absurd c (by decide)
    · exact absurd c (by decide)
    · exact absurd c (by decide)
end UNIT7
