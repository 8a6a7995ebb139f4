/-! Layer B: running: the world it runs in, and what it writes -/
set_option maxRecDepth 100000
abbrev rnI : List Nat := [4, 5, 85, 86, 90, 91, 92, 95, 96, 97, 800, 3213, 3214, 3804, 3805]
abbrev rnA : List Nat := [124, 125, 148, 149, 150, 152, 153, 154, 155, 156, 157, 158, 159, 160, 161, 162, 165, 166]
abbrev rnT : List Nat := [0, 1, 2, 3, 110, 111, 163, 165, 166, 167, 168, 169, 170, 171, 222, 225, 226, 227, 228, 229, 230, 231, 232, 233, 234, 235, 236, 237, 238, 239, 240, 241, 242, 243, 244, 245]
/-- a solvable model -/
def RnW (C : PC) (B : Nat) (P : Nat → Prop) (mss fss : List Nat) (V U S q A Wn K1 K2 N : Nat) (D : FQ) (M : CM) (σ : TS) : Prop := FW C B P mss fss D M σ ∧ (∃ z7 I Bm K Nf E qs hd sg c, FP C P mss D M σ z7 V I Bm K Nf E A Wn q qs ∧ SvS V E A Wn q U S K1 K2 N hd sg c D M σ) ∧ Kn V σ
/-- values of both sides are alike -/
def VaE (x2 : Int32) (V U Wn : Nat) (D : FQ) (M : CM) (σ : TS) : Prop :=
  (tI σ 0 = 0 ∧ mI M 85 1 = tI σ 165 ∧ ((x2 = 1 ∧ ¬ mI M 86 1 = 0) ∨ (¬ x2 = 1 ∧ mI M 86 1 = 0))) ∧ (∀ u, u < U → mA M 124 u = tA σ 166 u ∧ mA M 125 u = tA σ 167 u) ∧
  (∀ v, v < V → tA σ 94 v = 2 → mI M 3213 ((pl D 98).getD v 0) = tA σ 168 v ∧ mI M 3214 ((pl D 98).getD v 0) = tA σ 169 v) ∧
  (∀ r, r < 24 → nI r < tI σ 154 → mA M 148 r = tA σ 163 r ∧ (tA σ 163 r = 0 ∨ tA σ 163 r = 1)) ∧ (tI σ 171 = nI 0 ∧ mI M 90 1 = tI σ 222) ∧ ∀ w, w < Wn → mI M 3804 ((pl D 113).getD w 0) = tA σ 235 w ∧ (tA σ 235 w = 0 ∨ tA σ 235 w = 1)
/-- parameters keep their values -/
def PaK (V : Nat) (D : FQ) (σ : TS) (M M' : CM) : Prop := ∀ v, v < V → tA σ 94 v = 1 → mI M' 3213 ((pl D 98).getD v 0) = mI M 3213 ((pl D 98).getD v 0)
section WORLD5
variable {C : PC} {B : Nat} {P : Nat → Prop} {mss fss : List Nat} {V U S q A Wn K1 K2 N e r w v u : Nat} {D : FQ} {M M' M1 : CM} {σ σ' s : TS} {I0 A0 T : List Nat} {x2 : Int32}
theorem RnW.kf (w : RnW C B P mss fss V U S q A Wn K1 K2 N D M σ) (k : KF D I0 [] A0 [] M M') (hI : I0.all rnI.contains = true) (hA : A0.all rnA.contains = true) (f : Ft T σ σ') (hT : T.all rnT.contains = true) (h0 : tI σ' 0 = 0) (hv : PaK V D σ M M') : RnW C B P mss fss V U S q A Wn K1 K2 N D M' σ' := by
  obtain ⟨W, ⟨z7, I, Bm, K, Nf, E, qs, hd, sg, c, fp, sv⟩, kn⟩ := w
  have k : KF D rnI [] rnA [] M M' := k.mono hI rfl hA rfl
  have f : Ft rnT σ σ' := f.mono hT
  obtain ⟨W', wz⟩ := W.kf k (by decide) (by decide) (by decide) f (by decide)
  have X := fp.1
  have i3 : ∀ g, rnI.contains g = false → ∀ o, mI M' g o = mI M g o := fun g hg o => k.i hg o
  have nr : ∀ g, 3000 ≤ g → g < 3210 → rnI.contains g = false := fun g h1 h2 => by
    cases e : rnI.contains g with
    | false => rfl
    | true =>
      have : g ∈ rnI := by simpa using e
      simp only [List.mem_cons, List.not_mem_nil, or_false] at this
      omega
  have FX : FlY z7 C P D mss M' σ' V I Bm := X.kpw W k.1 (fun t z => z.toV) (fun j hj => ⟨fun f h1 h2 => i3 f (nr f h1 h2) _, fun f _ _ => k.r rfl _⟩) wz (Dx.rf D M) f (by decide) ⟨k.i rfl 1, k.i rfl 1⟩
  have nk : NdK D M σ D M' σ' 106 K Nf := ⟨fun j hj => ⟨rfl, fun f hf => i3 f (by
    have : ∀ f, f ∈ [3400, 3401, 3402, 3403, 3404] → rnI.contains f = false := by decide
    exact this f hf) _, fun f _ => k.r rfl _⟩, fun f hf n _ => (‹Ft rnT σ σ'› f (by
    have : ∀ f, f ∈ [121, 122, 123, 124, 134, 162] → rnT.contains f = false := by decide
    exact this f hf)).2.2.1 n, fun v => (‹Ft rnT σ σ'› 94 rfl).2.2.1 v⟩
  refine ⟨W', ⟨z7, I, Bm, K, Nf, E, qs, hd, sg, c, ?_, ?_⟩, kn.ft f rfl rfl⟩
  · refine FP.mv fp FX nk ⟨fun _ _ => rfl, fun v _ => ⟨k.r rfl _, k.r rfl _⟩, fun j _ => ⟨k.r rfl _, k.r rfl _⟩, fun j _ => ⟨k.i rfl _, k.i rfl _, k.r rfl _⟩, fun j _ => ⟨k.r rfl _, k.i rfl _, k.i rfl _⟩, ⟨fun g hg => i3 g (by
      have : ∀ f, f ∈ [35, 37, 39, 41, 43] → rnI.contains f = false := by decide
      exact this g hg) 1, k.i rfl _⟩, fun j => k.gx rfl j, fun g hg => (f g (by
      have : ∀ f, f ∈ [128, 129, 130, 144, 148, 152, 154, 156] → rnT.contains f = false := by decide
      exact this g hg)).1, fun g hg => (f g (by
      have : ∀ f, f ∈ [145, 146, 147, 149, 150, 151, 153, 158, 159, 174, 175] → rnT.contains f = false := by decide
      exact this g hg)).2.2.1⟩ (fun v hvV => ?_) ?_ ?_
    · obtain ⟨-, -, x3, x4⟩ := fp.2.2.1 v hvV
      refine ⟨fun z => ?_, by rw [k.i rfl, (f 105 rfl).2.2.1]; exact x4⟩
      rw [(f 94 rfl).2.2.1] at z
      have := x3 z
      unfold Fl0 at this ⊢
      rw [hv v hvV z, (f 104 rfl).2.2.1]
      exact this
    · exact fp.2.2.2.2.2.2.2.1.mv (fun j => k.ga rfl j) (f 155 rfl).2.2.1 (f 74 rfl).2.2.1 (f 75 rfl).2.2.1
    · exact fp.2.2.2.2.2.2.2.2.1.ft f (by decide)
  · refine SvS.mv sv ⟨⟨sv.1.1.1.kf k (by decide) (by decide) (by decide), sv.2.2.2.2.1.1.kf k (by decide) (by decide) (by decide), SnL.kf k (by decide), SnL.kf k (by decide)⟩, fun _ _ => rfl, fun v _ g hg => i3 g (by
      have : ∀ f, f ∈ [3203, 3217, 3218, 3219] → rnI.contains f = false := by decide
      exact this g hg) _, fun j _ => ⟨fun g hg => i3 g (by
      have : ∀ f, f ∈ [4000, 4001, 4004] → rnI.contains f = false := by decide
      exact this g hg) _, k.r rfl _⟩, fun j _ => k.r rfl _, fun g hg => i3 g (by
      have : ∀ f, f ∈ [57, 65, 66, 74, 75] → rnI.contains f = false := by decide
      exact this g hg) 1, k.r rfl 1, fun a ha j => k.ga (by
      have : ∀ f, f ∈ [119, 120, 121, 122, 123, 128, 129, 130, 131, 132, 140, 141, 142, 143, 144] → rnA.contains f = false := by decide
      exact this a ha) j, fun a ha j => k.gx rfl j⟩ f (by decide) h0
/-- what stands in a solvable model -/
theorem RnW.st (w : RnW C B P mss fss V U S q A Wn K1 K2 N D M σ) : (V ≤ 96 ∧ V ≤ (pl D 98).length ∧ U ≤ 180 ∧ S ≤ 180 ∧ q ≤ 24 ∧ N ≤ 70000) ∧ (mI M 15 1 = nI V ∧ tI σ 107 = nI V) ∧ (mI M 57 1 = nI U ∧ tI σ 197 = nI U) ∧ (mI M 41 1 = nI q ∧ tI σ 154 = nI q) ∧ ((mI M 39 1 = nI Wn ∧ tI σ 148 = nI Wn) ∧ Wn ≤ 12 ∧ Wn ≤ (pl D 113).length) ∧ UkR V M σ U ∧ StR U M σ ∧ BlR S U M σ ∧ RolR M σ U ∧ ((mn M ≤ 601024 ∧ ms M + 8 ≤ 7293034) ∧ mn M ≠ 0) := by
  obtain ⟨W, ⟨z7, I, Bm, K, Nf, E, qs, hd, sg, c, fp, sv⟩, kn⟩ := w
  obtain ⟨X, -, -, -, -, ⟨d0, -, -⟩, ⟨⟨b1, b2, b3⟩, -⟩, -⟩ := id fp
  obtain ⟨i, ⟨ro, st, bl⟩, -⟩ := id sv
  have rm := W.rm
  have n167 := W.n167
  exact ⟨⟨X.2.1.1, X.1.1.1, i.2.2.1.1.2.2, i.2.1.2.2.1, b3, SxR.n7 i⟩, ⟨X.2.2.2.1.1, X.2.2.1.1⟩, ⟨i.2.2.1.1.1, i.2.2.1.1.2.1⟩, ⟨b1, b2⟩, ⟨⟨d0.1, d0.2.1⟩, d0.2.2.1, d0.2.2.2⟩, i.2.2.1, st, bl, ro, ⟨by omega, by omega⟩, by omega⟩
theorem RnW.vr (w : RnW C B P mss fss V U S q A Wn K1 K2 N D M σ) (hv : v < V) : mk M ((pl D 98).getD v 0) = 17 ∧ K_J2_get 98 (nI v) M = some ((pl D 98).getD v 0, M) ∧ (∃ k, k < 3 ∧ mI M 3203 ((pl D 98).getD v 0) = nI k ∧ tA σ 94 v = nI k) ∧ mI M 3212 ((pl D 98).getD v 0) = tA σ 105 v ∧ TZ (tgof D ((pl D 98).getD v 0)) ∧ 167 ≤ (pl D 98).getD v 0 := by
  obtain ⟨W, ⟨z7, I, Bm, K, Nf, E, qs, hd, sg, c, fp, sv⟩, kn⟩ := w
  obtain ⟨a1, a2, a3, -⟩ := fp.1.vr W hv
  exact ⟨a1, ls_get (W.2.1.1 98 (by decide)).1 a3, a2, (fp.2.2.1 v hv).2.2.2, TZ.vr W.2.1 a3, (W.2.1.2.1 98 (by decide) v a3).2.1.1⟩
/-- evaluation may go -/
theorem RnW.ev (w : RnW C B P mss fss V U S q A Wn K1 K2 N D M σ) (d : VaE x2 V U Wn D M σ) : EvV x2 V U K1 K2 N D M σ ∧ tI σ 171 = nI 0 := by
  obtain ⟨⟨V96, V98, U180, -, -, h7⟩, -, -, -, -, uk, -, -, -, hc⟩ := w.st
  obtain ⟨d1, d2, d3, d4, ⟨d5, -⟩, -⟩ := d
  refine ⟨⟨d1, fun u hu => ⟨(d2 u hu).1, (d2 u hu).2, (uk.2 u hu).2.2.1, (uk.2 u hu).2.2.2.imp id (fun ⟨w, _, w2, w3⟩ => ⟨w, w2, w3⟩)⟩, fun v hv => ?_, fun r hr z => (d4 r hr z).1, hc, ?_, V96, U180, h7⟩, d5⟩
  · obtain ⟨b1, b2, ⟨k, k1, k2, k3⟩, -⟩ := w.vr hv
    refine ⟨⟨fun z => ?_, d3 v hv⟩, ⟨k, k1, k3⟩, b1, b2⟩
    obtain ⟨W, ⟨z7, I, Bm, K, Nf, E, qs, hd, sg, c, fp, sv⟩, kn⟩ := w
    exact ⟨(fp.2.2.1 v hv).2.2.1 z, kn v hv z⟩
  · obtain ⟨W, ⟨z7, I, Bm, K, Nf, E, qs, hd, sg, c, fp, sv⟩, kn⟩ := w
    have l1 := sv.1.1.1.2.2.2.1.2.1
    have l2 := sv.2.2.2.2.1.1.2.2.2.1.2.1
    exact ⟨fun k hk => (W.2.1.2.1 134 (by decide) k (by omega)).1, fun k hk => (W.2.1.2.1 136 (by decide) k (by omega)).1⟩
/-- an equation's sides -/
theorem RnW.eq (w : RnW C B P mss fss V U S q A Wn K1 K2 N D M σ) (he : e < S) (h : tA σ 180 e = 0) : ∃ n1 n2, (tA σ 141 e = nI n1 ∧ SxP U V K1 N D M σ 200 0 (mX M 126 e) n1) ∧ tA σ 142 e = nI n2 ∧ SxP U V K1 N D M σ 200 0 (mX M 127 e) n2 := by
  obtain ⟨⟨-, -, U180, -, -, h7⟩, -⟩ := w.st
  obtain ⟨W, ⟨z7, I, Bm, K, Nf, E, qs, hd, sg, c, fp, sv⟩, kn⟩ := w
  obtain ⟨-, -, -, -, eqs, -, -, -, rb, uwE⟩ := sv.1
  obtain ⟨n1, n2, ⟨a1, a2, -⟩, ⟨b1, b2, -⟩, c⟩ := (eqs e he).2.1 h
  obtain ⟨u1, u2⟩ := uwE e he h
  have w1 := a2.nb
  have w2 := b2.nb
  rw [a1, ix_nI (by omega)] at u1
  rw [b1, ix_nI (by omega)] at u2
  have low : ∀ u, (OcU σ 200 n1 u ∨ OcU σ 200 n2 u) → u < U := fun u o => by
    have u180 : u < 180 := o.elim (fun o => OcU.lt _ _ _ o) (fun o => OcU.lt _ _ _ o)
    by_cases z : u < U
    · exact z
    · have a := rb e u he (by omega) u180
      rw [((c u u180).1 o).2] at a
      exact absurd a (by decide)
  exact ⟨n1, n2, ⟨a1, a2, LvB.of _ _ (fun u o => low u (Or.inl o)) u1⟩, b1, b2, LvB.of _ _ (fun u o => low u (Or.inr o)) u2⟩
end WORLD5
