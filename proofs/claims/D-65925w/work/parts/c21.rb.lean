/-! Layer B: running: what stands behind a fault -/
set_option maxRecDepth 100000
/-- old objects but for fields that are written -/
def RbF (I A0 : List Nat) (M M' : CM) : Prop := (∀ g o, o < mn M → I.contains g = false → mI M' g o = mI M g o) ∧ (∀ g o, o < mn M → mR M' g o = mR M g o) ∧ (∀ a j, a < mn M → A0.contains a = false → mA M' a j = mA M a j) ∧ (∀ a j, a < mn M → mX M' a j = mX M a j) ∧ mn M ≤ mn M'
abbrev ruI : List Nat := [85, 86, 90, 95, 96, 97, 800, 3213, 3214, 3804, 3805]
abbrev ruA : List Nat := [124, 125, 148, 149, 150, 152, 153, 154, 155, 156, 157, 158, 159, 160, 161, 162]
abbrev ruT : List Nat := [0, 1, 163, 165, 166, 167, 168, 169, 170, 171, 222, 225, 226, 228, 229, 230, 231, 232, 233, 234, 235, 236, 237, 238, 239, 240, 241, 242, 243, 244]
section RBS
variable {pq : Bool} {C C' : PC} {B : Nat} {P : Nat → Prop} {mss fss : List Nat} {V U S q A Wn K1 K2 N e r w v u b n i j k a m h wo nb : Nat} {D : FQ} {M M' M1 : CM} {σ σ' s : TS} {x x1 x2 x3 y z y1 y2 y3 : Int32} {I A0 T : List Nat}
theorem RbF.wm1 (h : RbF I A0 M M1) (x y : Int32) : RbF I A0 M (wM M1 x y) := by
  obtain ⟨a1, a2, a3, a4, a5⟩ := h
  have so : ∀ o, o < mn M → So M1 (wM M1 x y) o := fun o ho => (wM_f M1 x y).so (by omega) (fun q => q)
  exact ⟨fun g o ho hg => ((so o ho).i g).trans (a1 g o ho hg), fun g o ho => ((so o ho).r g).trans (a2 g o ho), fun a j ha hA => ((so a ha).a j).trans (a3 a j ha hA), fun a j ha => ((so a ha).x j).trans (a4 a j ha), Nat.le_trans a5 (wM_f M1 x y).1⟩
theorem RbF.kf (h : RbF I A0 M M1) (k : KF D I [] A0 [] M1 M') : RbF I A0 M M' := by
  obtain ⟨a1, a2, a3, a4, a5⟩ := h
  exact ⟨fun g o ho hg => (k.i hg o).trans (a1 g o ho hg), fun g o ho => (k.r rfl o).trans (a2 g o ho), fun a j ha hA => (k.ga hA j).trans (a3 a j ha hA), fun a j ha => (k.gx rfl j).trans (a4 a j ha), by rw [k.n]; exact a5⟩
theorem RbF.rf : RbF I A0 M M := ⟨fun _ _ _ _ => rfl, fun _ _ _ => rfl, fun _ _ _ _ => rfl, fun _ _ _ => rfl, Nat.le_refl _⟩
theorem RbF.of : ∀ (n : Nat) (M' : CM), RB D I A0 n M M' → RbF I A0 M M'
  | 0, _, k => RbF.rf.kf k
  | n + 1, _, ⟨M1, x, y, h1, h2⟩ => ((RbF.of n M1 h1).wm1 x y).kf h2
theorem FW.rb (W : FW C B P mss fss D M σ) : ∀ (n : Nat) (M' : CM), RB D rnI rnA n M M' → cN C + n ≤ 601024 → cS C + 8 * n ≤ 7293034 → FW (C.rm (cN C + n) (cS C + 8 * n)) B P mss fss D M' σ ∧ Wz C (C.rm (cN C + n) (cS C + 8 * n)) P M M' σ σ ∧ Fq D TZ M M' ∧ RbF rnI rnA M M'
  | 0, M', k, c1, c2 => by
    have k : KF D rnI [] rnA [] M M' := k
    obtain ⟨W1, v1⟩ := W.kf k (by decide) (by decide) (by decide) (Ft.rf [] σ) (by decide)
    have rm := W1.2.2.2.2.1
    exact ⟨W1.rmm ⟨by omega, by omega⟩ ⟨c1, c2⟩, v1.tr (Wz.rm W1.c12) (fun _ z => z), k.1, RbF.kf (⟨fun _ _ _ _ => rfl, fun _ _ _ => rfl, fun _ _ _ _ => rfl, fun _ _ _ => rfl, Nat.le_refl _⟩ : RbF rnI rnA M M) k⟩
  | n + 1, M', ⟨M1, x, y, h1, h2⟩, c1, c2 => by
    obtain ⟨W1, v1, f1, g1⟩ := FW.rb W n M1 h1 (by omega) (by omega)
    obtain ⟨W2, v2, F2⟩ := W1.wm x y ⟨show cN C + n + 1 ≤ 601024 by omega, show cS C + 8 * n + 8 ≤ 7293034 by omega⟩
    obtain ⟨W3, v3⟩ := W2.kf h2 (by decide) (by decide) (by decide) (Ft.rf [] σ) (by decide)
    have f2 : Fq D TZ M1 (wM M1 x y) := F2.mono (fun o ho z => absurd z (fun q => q))
    have v : Wz C (C.rm (cN C + (n + 1)) (cS C + 8 * (n + 1))) P M M' σ σ := ((v1.tr v2 (fun _ z => z)).tr (Wz.rm W1.c12) (fun _ z => z)).tr v3 (fun _ z => z)
    exact ⟨W3, v, (f1.tr f2 (Dx.rf D M)).tr h2.1 (Dx.rf D M), (g1.wm1 x y).kf h2⟩
/-- a solvable model behind objects of faults -/
theorem RnW.rb (w : RnW C B P mss fss V U S q A Wn K1 K2 N D M σ) (h0 : tI σ 0 = 0) (h : RB D rnI rnA n M M') (pk : PaK V D σ M M') (c1 : cN C + n ≤ 601024) (c2 : cS C + 8 * n ≤ 7293034) : RnW (C.rm (cN C + n) (cS C + 8 * n)) B P mss fss V U S q A Wn K1 K2 N D M' σ := by
  obtain ⟨W, ⟨z7, I1, Bm, K, Nf, E, qs, hd, sg, c, fp, sv⟩, kn⟩ := w
  obtain ⟨W', wz, fq, i3, r3, a3, x3, hn⟩ := FW.rb W n M' h c1 c2
  have X := fp.1
  have n167 := W.n167
  have lt : ∀ l, l ∈ flL → ∀ k, k < (pl D l).length → (pl D l).getD k 0 < mn M := fun l hl k hk => (W.2.1.2.1 l hl k hk).2.1.2
  obtain ⟨V96, V98⟩ : V ≤ 96 ∧ V ≤ (pl D 98).length := ⟨X.2.1.1, X.1.1.1⟩
  obtain ⟨⟨m1, m2, m3⟩, -⟩ := fp.2.1
  obtain ⟨⟨-, -, -, e4⟩, -⟩ := fp.2.2.2.1
  obtain ⟨⟨-, -, d4⟩, -⟩ := fp.2.2.2.2.1
  obtain ⟨⟨-, -, -, g4⟩, -⟩ := fp.2.2.2.2.2.1
  have nr : ∀ g, (3000 ≤ g ∧ g < 3210) ∨ (3400 ≤ g ∧ g ≤ 3407) → rnI.contains g = false := fun g h1 => by
    cases e : rnI.contains g with
    | false => rfl
    | true =>
      have : g ∈ rnI := by simpa using e
      simp only [List.mem_cons, List.not_mem_nil, or_false] at this
      omega
  have FX : FlY z7 (C.rm (cN C + n) (cS C + 8 * n)) P D mss M' σ V I1 Bm := X.kpw W fq (fun t z => z.toV) (fun j hj => ⟨fun f h1 h2 => i3 f _ (lt 98 (by decide) j (by omega)) (nr f (Or.inl ⟨h1, h2⟩)), fun f _ _ => r3 f _ (lt 98 (by decide) j (by omega))⟩) wz (Dx.rf D M) (Ft.rf [] σ) (by decide) ⟨i3 15 1 (by omega) (by decide), i3 16 1 (by omega) (by decide)⟩
  have nk : NdK D M σ D M' σ 106 K Nf := ⟨fun j hj => ⟨rfl, fun f hf => i3 f _ (lt 106 (by decide) j (by omega)) (by
    have : ∀ f, f ∈ [3400, 3401, 3402, 3403, 3404] → rnI.contains f = false := by decide
    exact this f hf), fun f _ => r3 f _ (lt 106 (by decide) j (by omega))⟩, fun _ _ _ _ => rfl, fun _ => rfl⟩
  have rm := W'.2.2.2.2
  have rm' : (rmN D M' + 4 ≤ cN C + n ∧ rmS D M' + 60200 ≤ cS C + 8 * n) := rm.1
  have ar : ∀ {x0 l X0 K : Nat}, ArS x0 l X0 D M K → x0 < 167 → ArS x0 l X0 D M' K := fun {x0 l X0 K} ⟨_, _, _, ⟨e1, e2, e3⟩, _, _⟩ hx => ⟨W'.2.1, W'.2.2.2.1, W'.n167, ⟨(i3 604 x0 (by omega) (by decide)).trans e1, e2, e3⟩, by omega, by omega⟩
  have ar1 := sv.1.1.1
  have ar2 := sv.2.2.2.2.1.1
  have sn : ∀ {x0 l X0 K : Nat}, ArS x0 l X0 D M K → l ∈ flL → SnL D M D M' l K := fun {x0 l X0 K} a hl k hk => by
    have l1 := a.2.2.2.1.2.1
    have := lt l hl k (by omega)
    exact ⟨rfl, fun f h1 h2 => i3 f _ this (nr f (Or.inr ⟨h1, h2⟩)), fun f _ _ => r3 f _ this⟩
  refine ⟨W', ⟨z7, I1, Bm, K, Nf, E, qs, hd, sg, c, ?_, ?_⟩, kn⟩
  · refine FP.mv fp FX nk ⟨fun _ _ => rfl, fun v hv => ⟨r3 _ _ (lt 98 (by decide) v (by omega)), r3 _ _ (lt 98 (by decide) v (by omega))⟩, fun j hj => ⟨r3 _ _ (lt 111 (by decide) j (by omega)), r3 _ _ (lt 111 (by decide) j (by omega))⟩, fun j hj => ⟨i3 _ _ (lt 112 (by decide) j (by omega)) (by decide), i3 _ _ (lt 112 (by decide) j (by omega)) (by decide), r3 _ _ (lt 112 (by decide) j (by omega))⟩, fun j hj => ⟨r3 _ _ (lt 113 (by decide) j (by omega)), i3 _ _ (lt 113 (by decide) j (by omega)) (by decide), i3 _ _ (lt 113 (by decide) j (by omega)) (by decide)⟩, ⟨fun g hg => i3 g 1 (by omega) (by
      have : ∀ f, f ∈ [35, 37, 39, 41, 43] → rnI.contains f = false := by decide
      exact this g hg), i3 _ _ (by omega) (by decide)⟩, fun j => x3 114 j (by omega), fun _ _ => rfl, fun _ _ _ => rfl⟩ (fun v hvV => ?_) ?_ ?_
    · obtain ⟨-, -, x3, x4⟩ := fp.2.2.1 v hvV
      have lv := lt 98 (by decide) v (by omega)
      refine ⟨fun z => ?_, by rw [i3 3212 _ lv (by decide)]; exact x4⟩
      have := x3 z
      unfold Fl0 at this ⊢
      rw [pk v hvV z]
      exact this
    · exact fp.2.2.2.2.2.2.2.1.mv (fun j => a3 115 j (by omega) (by decide)) (fun _ => rfl) (fun _ => rfl) (fun _ => rfl)
    · exact fp.2.2.2.2.2.2.2.2.1
  · refine SvS.mv sv ⟨⟨ar ar1 (by decide), ar ar2 (by decide), sn ar1 (by decide), sn ar2 (by decide)⟩, fun _ _ => rfl, fun v hv g hg => i3 g _ (lt 98 (by decide) v (by omega)) (by
      have : ∀ f, f ∈ [3203, 3217, 3218, 3219] → rnI.contains f = false := by decide
      exact this g hg), fun j hj => ⟨fun g hg => i3 g _ (lt 112 (by decide) j (by omega)) (by
      have : ∀ f, f ∈ [4000, 4001, 4004] → rnI.contains f = false := by decide
      exact this g hg), r3 _ _ (lt 112 (by decide) j (by omega))⟩, fun j hj => r3 _ _ (lt 113 (by decide) j (by omega)), fun g hg => i3 g 1 (by omega) (by
      have : ∀ f, f ∈ [57, 65, 66, 74, 75] → rnI.contains f = false := by decide
      exact this g hg), r3 _ 1 (by omega), fun a ha j => a3 a j (by
      have : ∀ f, f ∈ [119, 120, 121, 122, 123, 128, 129, 130, 131, 132, 140, 141, 142, 143, 144] → f < 167 := by decide
      have := this a ha
      omega) (by
      have : ∀ f, f ∈ [119, 120, 121, 122, 123, 128, 129, 130, 131, 132, 140, 141, 142, 143, 144] → rnA.contains f = false := by decide
      exact this a ha), fun a ha j => x3 a j (by
      have : ∀ f, f ∈ [126, 127, 137] → f < 167 := by decide
      have := this a ha
      omega)⟩ (Ft.rf [] σ) rfl h0
/-- both go back behind a fault -/
theorem back_fo (w : RnW C B P mss fss V U S q A Wn K1 K2 N D M σ) (ke : KeR 0 V U Wn D M σ) (h : FoR true I A0 T nb V D M σ M' σ' wo) (hI : I.all ruI.contains = true ∧ I.contains 800 = false) (hA : A0.all ruA.contains = true ∧ [152, 153, 154, 155, 156, 157].all (fun k => !A0.contains k) = true) (hT : T.all ruT.contains = true ∧ [228, 229, 230, 231, 232, 233, 234].all (fun k => !T.contains k) = true) (c1 : cN C + nb ≤ 601024) (c2 : cS C + 8 * nb ≤ 7293034) :
    ∃ n M2 σ2, (n ≤ nb ∧ K_X0_back M' = some ((), M2) ∧ F_back 0 σ' = some ((), σ2)) ∧ RB D ruI ruA n M M2 ∧ Ft ruT σ σ2 ∧ VaV V U Wn D M2 σ2 ∧ PaK V D σ M M2 ∧ (wo < mn M2 ∧ mk M2 wo = 7 ∧ mI M2 1200 wo = tI σ2 0 ∧ mI M2 1201 wo = tI σ2 1 ∧ tI σ2 0 ≠ 0) ∧ (tI σ2 171 = nI 0 ∧ mI M2 90 1 = tI σ2 222) ∧ (mI M2 95 1 = mI M' 95 1 ∧ tI σ2 237 = tI σ' 237 ∧ tI σ2 238 = tI σ' 238 ∧ tI σ2 239 = tI σ' 239) := by
  obtain ⟨n, r, ⟨n1, rb⟩, ⟨o1, o2, o3⟩, r0, ⟨e0, e1⟩, f, ⟨h171, h90⟩, pk⟩ := h
  have fR : Ft ruT σ σ' := f.mono hT.1
  have rbI : RB D ruI ruA n M M' := RB.mono hI.1 hA.1 n M M' rb
  have rbS : RB D rnI rnA n M M' := RB.mono (by decide) (by decide) n M M' rbI
  obtain ⟨⟨V96, V98, U180, -, q24, -⟩, ⟨h15, h107⟩, ⟨-, h197⟩, ⟨-, h154⟩, ⟨⟨h39, h148⟩, W12, Wl⟩, -⟩ := w.st
  have n167 := w.1.n167
  have ltv := w.lt.2
  obtain ⟨W', -, -, i3, -, a3, -, -⟩ := FW.rb w.1 n M' rbS (by omega) (by omega)
  obtain ⟨W2, -⟩ := W'.kf (I0 := []) (R := []) (A0 := []) (X0 := []) KF.rf rfl rfl rfl fR (by decide)
  -- what is kept
  have rb2 : (mI M' 800 151 = mI M 800 151) ∧ ∀ a, a ∈ [152, 153, 154, 155, 156, 157] → ∀ j, mA M' a j = mA M a j := by
    obtain ⟨k1, -, k3, -, -⟩ := RbF.of n M' rb
    exact ⟨k1 800 151 (by omega) hI.2, fun a ha j => k3 a j (by
      have : ∀ a, a ∈ [152, 153, 154, 155, 156, 157] → a < 167 := by decide
      have := this a ha
      omega) (by simpa using List.all_eq_true.mp hA.2 a ha)⟩
  obtain ⟨b1, b2⟩ := rb2
  have hT' : ∀ k, k ∈ [228, 229, 230, 231, 232, 233, 234] → T.contains k = false := fun k hk => by simpa using List.all_eq_true.mp hT.2 k hk
  have ta : ∀ k, k ∈ [228, 229, 230, 231, 232, 233, 234] → ∀ j, tA σ' k j = tA σ k j := fun k hk => (f k (hT' k hk)).2.2.1
  have ke2 : KeR 0 V U Wn D M' σ' := by
    obtain ⟨d1, d2, d3, d4, d5⟩ := ke
    refine ⟨by rw [b1, ta 232 (by decide)]; exact d1, fun u hu => ?_, fun v hv => ⟨fun z => ?_, fun z => ?_⟩, fun r hr z => ?_, fun w hw => ?_⟩
    · rw [b2 152 (by decide), b2 153 (by decide), ta 228 (by decide), ta 229 (by decide)]; exact d2 u hu
    · rw [(fR 94 rfl).2.2.1] at z
      rw [b2 154 (by decide), pk v hv z]; exact (d3 v hv).1 z
    · rw [(fR 94 rfl).2.2.1] at z
      rw [b2 154 (by decide), b2 155 (by decide), ta 230 (by decide), ta 231 (by decide)]; exact (d3 v hv).2 z
    · rw [(fR 154 rfl).1] at z
      rw [b2 156 (by decide), ta 233 (by decide)]; exact d4 r hr z
    · rw [b2 157 (by decide), ta 234 (by decide)]; exact d5 w hw
  obtain ⟨M2, σ2, g1, g2, ⟨g3, g4, g5⟩, g6⟩ := z_goback W2 ⟨V98, V96⟩ ⟨Wl, W12⟩ U180 q24 ((i3 15 1 (by omega) (by decide)).trans h15) ((i3 39 1 (by omega) (by decide)).trans h39) ((fR 197 rfl).1.trans h197) ((fR 107 rfl).1.trans h107) ((fR 154 rfl).1.trans h154) ((fR 148 rfl).1.trans h148) ke2
  have g3' : KF D ruI [] ruA [] M' M2 := g3.mono (by decide) (by decide) (by decide) (by decide)
  refine ⟨n, M2, σ2, ⟨n1, g1, g2⟩, RB.kf g3' n rbI, fR.tr (g4.mono (by decide)), g6, pk.tr g5 (fun v => (fR 94 rfl).2.2.1 v), ⟨by rw [g3.n]; exact o1, (g3.k _).trans o2, ?_, ?_, ?_⟩, ⟨(g4 171 rfl).1.trans h171, by rw [g3.i rfl, (g4 222 rfl).1]; exact h90⟩, g3.i rfl 1, (g4 237 rfl).1, (g4 238 rfl).1, (g4 239 rfl).1⟩
  · rw [g3.i rfl, o3, (g4 0 rfl).1]; exact e0.symm
  · rw [g3.i rfl, (g4 1 rfl).1]; exact e1 rfl
  · rw [(g4 0 rfl).1, e0]; exact r0
end RBS
