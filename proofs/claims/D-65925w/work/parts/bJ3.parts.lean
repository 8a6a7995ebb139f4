/-! Layer B: the flat model: an expression with parts, both sides -/
set_option maxRecDepth 100000
/-- a fault, and the twin's answer -/
def FfN (C : PC) (B : Nat) (P : Nat → Prop) (mss fss : List Nat) (M M' : CM) (σ σ' : TS) (w : Nat) (y : Int32) : Prop := FfG C B P mss fss M M' σ σ' w ∧ inb y 70000 ∧ ∃ N', N' ≤ 70000 ∧ tI σ' 126 = nI N'
/-- the induction's hypothesis: expressions at depth 101 - h -/
def FlJ (md x0 l X N0 : Nat) (z7 : Nat → Nat) (C : PC) (B : Nat) (P : Nat → Prop) (mss fss : List Nat) (V I Bm Lp : Nat) (x3 : Int32) (i : Nat) (cfK : Nat → Nat → Int32 → Int32 → Int32 → CM → Option ((Nat ⊕ Nat) × CM)) (cfT : Int32 → Int32 → Int32 → Int32 → TS → Option (Int32 × TS)) (h : Nat) : Prop := ∀ D M σ K N dc x4 tw ar nf d s o n, FSt md x0 l X N0 z7 C B P mss fss D M σ V I Bm K N Lp dc x3 → dc + h ≤ 100 → nf ≤ cnf C → AR P (tN σ) (tQ σ) (cm C) ar nf (cfn C) M σ d s o n → CaX P D M x4 tw dc ar → FlO md x0 l X N0 z7 C B P mss fss V I Bm Lp dc x3 s h N D M σ K N (cfK o ((pl D 99).getD i 0) x3 x4 (nI (101 - h)) M) (cfT (nI n) (nI i) tw (nI (101 - h)) σ)
section PARTS
variable {C : PC} {D D' D1 D2 : FQ} {M M' M1 M2 M3 : CM} {σ σ' σ1 σ2 : TS} {mss fss ps : List Nat} {B V I Bm b c e f z w q L Lp dc n j p x o o1 o2 o3 md x0 l X N0 K K' K1 N N' N1 ar nf d h s s1 s2 a i u1 u2 u3 : Nat} {P T : Nat → Prop} {x3 x4 tw op op' vl y y2 y3 y4 tok kop : Int32} {z7 : Nat → Nat} {S : List Nat} {kr : Option ((Nat ⊕ Nat) × CM)} {tr : Option (Int32 × TS)} {cfK : Nat → Nat → Int32 → Int32 → Int32 → CM → Option ((Nat ⊕ Nat) × CM)} {cfT : Int32 → Int32 → Int32 → Int32 → TS → Option (Int32 × TS)} {kk : Nat → CM → Option ((Nat ⊕ Nat) × CM)} {tt : Int32 → TS → Option (Int32 × TS)}
theorem FfG.tws (h : FfG C B P mss fss M M' σ σ' w) (f : Ft S σ' σ2) (hS : S.all fgS.contains = true) (hK : itK.all (fun k => !S.contains k) = true) (h0 : S.contains 0 = false ∧ S.contains 1 = false) : FfG C B P mss fss M M' σ σ2 w := by
  obtain ⟨⟨D', ⟨a1, a2, a3, a4⟩, b1, b2⟩, ⟨e1, e2, e3, e4, e5⟩, g⟩ := h
  obtain ⟨I', v⟩ := a1.mv (X := none_) Fz.rf (fun o ho z => absurd z (fun q => q)) rfl f hK
  exact ⟨⟨D', ⟨I', a2, a3, a4⟩, b1, b2⟩, ⟨e1, by rw [(f 0 h0.1).1]; exact e2, by rw [(f 0 h0.1).1]; exact e3, e4, by rw [(f 1 h0.2).1]; exact e5⟩, g.tr (SgX.tw f hS)⟩
theorem FfN.mk (h : FfN C B P mss fss M M' σ σ' w y) (ho : MkA op y2 y3 y4) : ∃ z s', F_make op y2 y3 y4 σ' = some (z, s') ∧ FfN C B P mss fss M M' σ s' w z := by
  obtain ⟨z, s', e1, e2, e3, e4⟩ := t_makeF h.1.2.1.2.2.1 h.2.2 ho
  exact ⟨z, s', e1, h.1.tws e3 (by decide) (by decide) (by decide), e2, e4⟩
theorem FfN.out (hh : FfN C B P mss fss M M' σ σ' w y) (hk : kr = some (.inr w, M')) (ht : tr = some (y, σ')) : FlO md x0 l X N0 z7 C B P mss fss V I Bm Lp dc x3 s h L D M σ K N kr tr := Or.inl ⟨M', σ', w, y, hk, ht, hh⟩
theorem FSt.nl (Fs : FSt md x0 l X N0 z7 C B P mss fss D M σ V I Bm K N Lp dc x3) : l ≠ 98 ∧ l ≠ 99 ∧ l ≠ 100 ∧ l ≠ 109 ∧ N ≤ 60000 := by
  obtain ⟨-, -, ⟨⟨-, n2⟩, ⟨-, -, n3, -⟩, ⟨-, n4, n5, -⟩, -⟩, -⟩ := Fs
  rcases n2 with ⟨rfl, rfl, rfl, -⟩ | ⟨rfl, rfl, rfl, -⟩ | ⟨rfl, rfl, rfl, -⟩ | ⟨rfl, rfl, rfl, -⟩ <;> exact ⟨by decide, by decide, by decide, by decide, by omega⟩
theorem FSt.N7 (hB1 : B ≤ 1280) (Fs : FSt md x0 l X N0 z7 C B P mss fss D M σ V I Bm K N Lp dc x3) : tN σ < 9000 ∧ tQ σ < 9000 := by
  obtain ⟨N, n1, n2, n3⟩ := Fs.1.1.2.2.2.2.2.2.2.2.2.1
  obtain ⟨Q, q1, q2, q3⟩ := Fs.1.1.2.2.2.2.2.2.2.2.2.2
  unfold tN tQ
  rw [n1, q1, ix_nI (by omega), ix_nI (by omega)]
  omega
theorem FSt.n1 (Fs : FSt md x0 l X N0 z7 C B P mss fss D M σ V I Bm K N Lp dc x3) : 1 ≤ N := by
  have h1 := Fs.2.2.1.2.2.1.2.1
  have h2 := Fs.2.2.1.2.2.1.2.2.2
  omega
/-- a fault of both sides now -/
theorem FSt.bad (Fs : FSt md x0 l X N0 z7 C B P mss fss D M σ V I Bm K N Lp dc x3) (hr : x4 ≠ 0) : K_X0_wrong x4 0 M = some (mn M, wM M x4 0) ∧ F_bad x4 0 σ = some ((), badT σ x4) ∧ FfN C B P mss fss M (wM M x4 0) σ (badT σ x4) (mn M) 0 := by
  obtain ⟨b1, b2, b3⟩ := Fs.1.badG hr Fs.2.2.2.2.2.2.2
  exact ⟨b1, b2, b3, by decide, N, by have := Fs.nl; omega, Fs.2.2.1.2.2.1.1⟩
/-- what was read, later -/
theorem FTr.arr (T : FTr x0 C P l K N dc D M σ D' M' σ') (hnf : nf ≤ cnf C) (A : AR P (tN σ) (tQ σ) (cm C) ar nf (cfn C) M σ d s o n) : AR P (tN σ') (tQ σ') (cm C) ar nf (cfn C) M' σ' d s o n :=
  AR.wz T.1 (fun _ z => z) ⟨Nat.le_refl _, by have := T.1.2.2.2.2.1.1; omega, hnf⟩ d d s o n (Nat.le_refl _) A
theorem FTr.cx (T : FTr x0 C P l K N dc D M σ D' M' σ') (h : CaX P D M x4 tw dc ar) : CaX P D' M' x4 tw dc ar := h.mv T.1 (fun _ _ => by rw [T.2.2.2.2.2.2.2.2.2.1])
theorem FTr.so (T : FTr x0 C P l K N dc D M σ D' M' σ') (h : P o) : So M M' o := T.1.2.1.1 o h
theorem FTr.t4 (T : FTr x0 C P l K N dc D M σ D' M' σ') (hn : n < tN σ) : ∀ k, k = 24 ∨ k = 25 ∨ k = 26 ∨ k = 27 → tA σ' k n = tA σ k n := fun k hk => T.1.2.2.2.1.1.2.1 k hk n hn
theorem FTr.p99 (T : FTr x0 C P l K N dc D M σ D' M' σ') (hl : l ≠ 99) : pl D' 99 = pl D 99 := T.2.2.2.2.2.2.2.2.1 99 (fun z => hl z.symm) (by decide)
/-- one part, and on -/
theorem FlJ.go (ih : FlJ md x0 l X N0 z7 C B P mss fss V I Bm Lp x3 i cfK cfT h) (Fs : FSt md x0 l X N0 z7 C B P mss fss D M σ V I Bm K N Lp dc x3) (hd : dc + (h + 1) ≤ 100) (hnf : nf ≤ cnf C) (A : AR P (tN σ) (tQ σ) (cm C) ar nf (cfn C) M σ d s1 o x) (cx : CaX P D M x4 tw dc ar)
    (hbad : ∀ M' σ' w y, FfN C B P mss fss M M' σ σ' w y → ∃ y2 σ2, tt y σ' = some (y2, σ2) ∧ FfN C B P mss fss M M' σ σ2 w y2)
    (hgood : ∀ D' M' σ' K' N' a n' z, FSt md x0 l X N0 z7 C B P mss fss D' M' σ' V I Bm K' N' Lp dc x3 → FTr x0 C P l K N dc D M σ D' M' σ' → K ≤ K' → N ≤ N' → NdR x3 D' M' σ' l V h s1 K' N' a n' → SzR σ' N' h n' z → z + N ≤ n' + 1 → FlO md x0 l X N0 z7 C B P mss fss V I Bm Lp dc x3 s2 (h + 1) L D' M' σ' K' N' (kk a M') (tt (nI n') σ')) :
    FlO md x0 l X N0 z7 C B P mss fss V I Bm Lp dc x3 s2 (h + 1) L D M σ K N (obS (cfK o ((pl D 99).getD i 0) x3 x4 (nI (100 - h) + 1) M) (fun w M => some (.inr w, M)) kk) (ob (cfT (nI x) (nI i) tw (nI (100 - h) + 1) σ) tt) := by
  have e1 : nI (100 - h) + 1 = nI (101 - h) := by rw [nI_addL]; congr 1; omega
  rw [e1]
  rcases ih D M σ K N dc x4 tw ar nf d s1 o x Fs (by omega) hnf A cx with ⟨M', σ', w, y, b1, b2, b3⟩ | ⟨D', M', σ', K', N', a, n', b1, b2, Fs', ⟨k1, n1⟩, T, nd, z, sz1, sz2⟩
  · obtain ⟨y2, σ2, e2, g⟩ := hbad M' σ' w y b3
    exact g.out (by rw [b1, obS_inr]) (by rw [b2, ob_some, e2])
  · rw [b1, obS_inl, b2, ob_some]
    exact FlO.pre T k1 n1 (hgood D' M' σ' K' N' a n' z Fs' T k1 n1 nd sz1 sz2)
end PARTS
