/-! Layer B: the flat model: an operation, both sides -/
set_option maxRecDepth 100000
section OPS
variable {C : PC} {D D' D1 D2 : FQ} {M M' M1 M2 M3 : CM} {σ σ' σ1 σ2 : TS} {mss fss ps : List Nat} {B V I Bm b c e f z w q Lp dc n j p x o o1 o2 o3 md x0 l X N0 K K' K1 N N' N1 ar nf d h s s1 s2 a i u1 u2 u3 : Nat} {P T : Nat → Prop} {x3 x4 tw op op' vl y y2 y3 y4 tok kop : Int32} {z7 : Nat → Nat} {S : List Nat} {kr : Option ((Nat ⊕ Nat) × CM)} {tr : Option (Int32 × TS)} {cfK : Nat → Nat → Int32 → Int32 → Int32 → CM → Option ((Nat ⊕ Nat) × CM)} {cfT : Int32 → Int32 → Int32 → Int32 → TS → Option (Int32 × TS)} {kk : Nat → CM → Option ((Nat ⊕ Nat) × CM)} {tt : Int32 → TS → Option (Int32 × TS)}
theorem d100 (hd : dc + (h + 1) ≤ 100) : nI (100 - h) ≤ 100 := by
  rw [show (100 : Int32) = nI 100 from rfl, bI_le (by omega) (by decide)]; omega
/-- which sort -/
def OpK (k op : Int32) : Prop := (∀ j, j ∈ ([26, 27, 29, 30, 100, 101, 102, 108, 109] : List Int32) → ¬ k = j) ∧ ((k = 21 ∧ op = 14) ∨ (¬ k = 21 ∧ ∀ M, K_X0_opOf k M = some (op, M)))
theorem OpK.un : ∀ p, p ∈ unL → ∃ op, OpK p.1 op ∧ (op, p.2) ∈ unF := by
  intro p hp
  simp only [unL, List.mem_cons, List.not_mem_nil, or_false] at hp
  rcases hp with rfl | rfl | rfl | rfl | rfl
  · exact ⟨7, ⟨by decide, Or.inr ⟨by decide, fun _ => rfl⟩⟩, by decide⟩
  · exact ⟨8, ⟨by decide, Or.inr ⟨by decide, fun _ => rfl⟩⟩, by decide⟩
  · exact ⟨9, ⟨by decide, Or.inr ⟨by decide, fun _ => rfl⟩⟩, by decide⟩
  · exact ⟨12, ⟨by decide, Or.inr ⟨by decide, fun _ => rfl⟩⟩, by decide⟩
  · exact ⟨13, ⟨by decide, Or.inr ⟨by decide, fun _ => rfl⟩⟩, by decide⟩
theorem OpK.bi : ∀ p, p ∈ biL → ∃ op, OpK p.1 op ∧ (op, p.2) ∈ biF := by
  intro p hp
  simp only [biL, List.mem_cons, List.not_mem_nil, or_false] at hp
  rcases hp with rfl | rfl | rfl | rfl | rfl | rfl
  · exact ⟨3, ⟨by decide, Or.inr ⟨by decide, fun _ => rfl⟩⟩, by decide⟩
  · exact ⟨4, ⟨by decide, Or.inr ⟨by decide, fun _ => rfl⟩⟩, by decide⟩
  · exact ⟨5, ⟨by decide, Or.inr ⟨by decide, fun _ => rfl⟩⟩, by decide⟩
  · exact ⟨6, ⟨by decide, Or.inr ⟨by decide, fun _ => rfl⟩⟩, by decide⟩
  · exact ⟨10, ⟨by decide, Or.inr ⟨by decide, fun _ => rfl⟩⟩, by decide⟩
  · exact ⟨11, ⟨by decide, Or.inr ⟨by decide, fun _ => rfl⟩⟩, by decide⟩
theorem OpK.rl : ∀ p, p ∈ rlL → ∃ op, OpK p.1 op ∧ (op, p.2) ∈ rlF := by
  intro p hp
  simp only [rlL, List.mem_cons, List.not_mem_nil, or_false] at hp
  rcases hp with rfl | rfl | rfl | rfl | rfl | rfl
  · exact ⟨20, ⟨by decide, Or.inr ⟨by decide, fun _ => rfl⟩⟩, by decide⟩
  · exact ⟨21, ⟨by decide, Or.inr ⟨by decide, fun _ => rfl⟩⟩, by decide⟩
  · exact ⟨22, ⟨by decide, Or.inr ⟨by decide, fun _ => rfl⟩⟩, by decide⟩
  · exact ⟨23, ⟨by decide, Or.inr ⟨by decide, fun _ => rfl⟩⟩, by decide⟩
  · exact ⟨24, ⟨by decide, Or.inr ⟨by decide, fun _ => rfl⟩⟩, by decide⟩
  · exact ⟨25, ⟨by decide, Or.inr ⟨by decide, fun _ => rfl⟩⟩, by decide⟩
theorem OpK.co : ∀ p, p ∈ coL → ∃ op, OpK p.1 op ∧ (op, p.2) ∈ coF := by
  intro p hp
  simp only [coL, List.mem_cons, List.not_mem_nil, or_false] at hp
  rcases hp with rfl | rfl
  · exact ⟨26, ⟨by decide, Or.inr ⟨by decide, fun _ => rfl⟩⟩, by decide⟩
  · exact ⟨27, ⟨by decide, Or.inr ⟨by decide, fun _ => rfl⟩⟩, by decide⟩
theorem OpK.not : OpK 25 28 := ⟨by decide, Or.inr ⟨by decide, fun _ => rfl⟩⟩
theorem OpK.if_ : OpK 21 14 := ⟨by decide, Or.inl ⟨rfl, rfl⟩⟩
/-- the end of it -/
theorem k_511' (Fs : FSt md x0 l X N0 z7 C B P mss fss D M σ V I Bm K N Lp dc x3) (ko : mk M o = 8) {x6 x7 y0 : Nat} (hop : OpK (mI M 1400 o) op) : KJ_X0_flatten_3_511 cfK o x6 x7 y0 M = K_X3_make x0 op 0 x6 x7 y0 M := by
  obtain ⟨W, FX, ⟨⟨n1, n2⟩, -⟩, -⟩ := Fs
  have kx : mk M x0 = 4 := by
    obtain ⟨f1, f2, f3⟩ := W.2.2.2.1
    rcases n2 with ⟨rfl, -⟩ | ⟨rfl, -⟩ | ⟨rfl, -⟩ | ⟨rfl, -⟩
    · exact (f1 (105, 4, 0) (by decide)).1
    · exact (f1 (107, 4, 0) (by decide)).1
    · exact (f1 (133, 4, 0) (by decide)).1
    · exact (f1 (135, 4, 0) (by decide)).1
  refine k_511 ko n1 kx ?_
  rcases hop.2 with ⟨h1, h2⟩ | ⟨h1, h2⟩
  · exact Or.inl ⟨h1, h2⟩
  · exact Or.inr ⟨h1, h2 M⟩
/-- one part -/
theorem z_un (hB1 : B ≤ 1280) (ih : FlJ md x0 l X N0 z7 C B P mss fss V I Bm Lp x3 i cfK cfT h) (Fs : FSt md x0 l X N0 z7 C B P mss fss D M σ V I Bm K N Lp dc x3) (hd : dc + (h + 1) ≤ 100) (hnf : nf ≤ cnf C) (cx : CaX P D M x4 tw dc ar) (Po : P o ∧ mk M o = 8) (hn : n < tN σ) (ho : (s = 0 ∧ (mI M 1400 o, tA σ 24 n) ∈ unL) ∨ (s = 1 ∧ mI M 1400 o = 25 ∧ tA σ 24 n = 23)) (h3 : mR M 1403 o = 0) (h4 : mR M 1404 o = 0) (h25 : tA σ 25 n = nI x) (A : AR P (tN σ) (tQ σ) (cm C) ar nf (cfn C) M σ d s (mR M 1402 o) x) :
    FlO md x0 l X N0 z7 C B P mss fss V I Bm Lp dc x3 s (h + 1) N D M σ K N (KB_X0_flatten_3 cfK o ((pl D 99).getD i 0) x3 x4 (nI (100 - h)) M) (B_build cfT (nI n) (nI i) tw (nI (100 - h)) σ) := by
  have N7 := Fs.N7 hB1
  have h0 := Fs.2.2.2.2.2.2.2
  have x5 := d100 hd
  obtain ⟨op, hop, hmk, un⟩ : ∃ op, OpK (mI M 1400 o) op ∧ ((s = 0 ∧ (op, tA σ 24 n) ∈ unF) ∨ (s = 1 ∧ op = 28 ∧ tA σ 24 n = 23)) ∧ tA σ 24 n ∈ unT_ := by
    rcases ho with ⟨a1, a2⟩ | ⟨a1, a2, a3⟩
    · obtain ⟨op, b1, b2⟩ := OpK.un _ a2
      refine ⟨op, b1, Or.inl ⟨a1, b2⟩, ?_⟩
      simp only [unL, List.mem_cons, List.not_mem_nil, or_false, Prod.mk.injEq] at a2
      rcases a2 with ⟨-, q⟩ | ⟨-, q⟩ | ⟨-, q⟩ | ⟨-, q⟩ | ⟨-, q⟩ <;> rw [q] <;> decide
    · exact ⟨28, by rw [a2]; exact OpK.not, Or.inr ⟨a1, rfl, a3⟩, by rw [a3]; decide⟩
  rw [k_gen Po.2 x5 hop.1, t_b21 h0 x5, t_un h0 (by omega) rfl un, h25]
  refine ih.go Fs hd hnf A cx (fun M' σ' w y g => ?_) (fun D' M' σ' K' N' a n' z Fs' T k1 n1 nd sz1 sz2 => ?_)
  · obtain ⟨z, s', e1, e2⟩ := g.mk (Or.inr (Or.inl ⟨un, g.2.1⟩) : MkA (tA σ 24 n) y 0 0)
    exact ⟨z, s', by rw [e1, ob_some], e2⟩
  · have so := T.so Po.1
    have ko : mk M' o = 8 := by rw [so.k]; exact Po.2
    rw [ifT ko, so.r, ifT h3, k_482 ko, so.r, ifT h4, k_511' Fs' ko (by rw [so.i]; exact hop)]
    have := mk_un (vl := 0) Fs' (by omega) nd hmk Fs.n1 sz1 sz2
    rw [show (ob (F_make (tA σ 24 n) (nI n') 0 0 σ') fun r s => some (r, s)) = F_make (tA σ 24 n) (nI n') 0 0 σ' from ob_id _]
    exact this
end OPS
