/-! Layer B: set: what stands afterwards -/
set_option maxRecDepth 100000
section SETX
variable {C C' : PC} {B : Nat} {P : Nat → Prop} {mss fss : List Nat} {D : FQ} {V K N v k w v30 I Bm E A Wn q qs U S K1 K2 Ns c : Nat} {z7 : Nat → Nat} {M M' M0 M1 M2 : CM} {σ σ' σ0 s s1 : TS} {x x1 x2 x3 y r p t : Int32} {hd : Nat → Nat} {sg : Nat → Int32}
theorem FP.set (W : FW C B P mss fss D M σ) (fp : FP C P mss D M σ z7 V I Bm K N E A Wn q qs) (wz : Wz C C' P M M' σ σ') (fq : Fq D TZ M M') (sd : SeD M M') (ft : Ft seU σ σ') (hv : ∀ v, v < V → Vx1 D M' σ' V K N v ∧ (tA σ' 94 v = 1 → Fl0 D M' σ' v) ∧ mI M' 3212 ((pl D 98).getD v 0) = tA σ' 105 v) : FP C' P mss D M' σ' z7 V I Bm K N E A Wn q qs := by
  obtain ⟨i3, r3, a3, x3, -, hn⟩ := sd
  have X := fp.1
  have n167 := W.n167
  have lt : ∀ l, l ∈ flL → ∀ k, k < (pl D l).length → (pl D l).getD k 0 < mn M := fun l hl k hk => (W.2.1.2.1 l hl k hk).2.1.2
  obtain ⟨V96, V98⟩ : V ≤ 96 ∧ V ≤ (pl D 98).length := ⟨X.2.1.1, X.1.1.1⟩
  obtain ⟨⟨m1, m2, m3⟩, -⟩ := fp.2.1
  obtain ⟨⟨-, -, -, e4⟩, -⟩ := fp.2.2.2.1
  obtain ⟨⟨-, -, d4⟩, -⟩ := fp.2.2.2.2.1
  obtain ⟨⟨-, -, -, g4⟩, -⟩ := fp.2.2.2.2.2.1
  have nr : ∀ g, (3000 ≤ g ∧ g < 3210) ∨ (3400 ≤ g ∧ g ≤ 3407) → seJ.contains g = false := fun g h1 => by
    cases e : seJ.contains g with
    | false => rfl
    | true =>
      have : g ∈ seJ := by simpa using e
      simp only [List.mem_cons, List.not_mem_nil, or_false] at this
      omega
  have FX : FlY z7 C' P D mss M' σ' V I Bm := X.kpw W fq (fun t z => z.toV) (fun j hj => ⟨fun f h1 h2 => i3 f _ (lt 98 (by decide) j (by omega)) (nr f (Or.inl ⟨h1, h2⟩)), fun f h1 h2 => r3 f _ (lt 98 (by decide) j (by omega)) (by omega)⟩) wz (Dx.rf D M) ft (by decide) ⟨i3 15 1 (by omega) (by decide), i3 16 1 (by omega) (by decide)⟩
  have nk : NdK D M σ D M' σ' 106 K N := ⟨fun j hj => ⟨rfl, fun f hf => i3 f _ (lt 106 (by decide) j (by omega)) (by
    have : ∀ f, f ∈ [3400, 3401, 3402, 3403, 3404] → seJ.contains f = false := by decide
    exact this f hf), fun f hf => r3 f _ (lt 106 (by decide) j (by omega)) (fun e => by rw [e] at hf; exact absurd hf (by decide))⟩, fun g hg n _ => (ft g (by
    have : ∀ f, f ∈ [121, 122, 123, 124, 134, 162] → seU.contains f = false := by decide
    exact this g hg)).2.2.1 n, fun v => (ft 94 rfl).2.2.1 v⟩
  refine FP.mvx fp FX nk ⟨fun _ _ => rfl, fun v hv => r3 _ _ (lt 98 (by decide) v (by omega)) (by decide), fun j hj => ⟨r3 _ _ (lt 111 (by decide) j (by omega)) (by decide), r3 _ _ (lt 111 (by decide) j (by omega)) (by decide)⟩, fun j hj => ⟨i3 _ _ (lt 112 (by decide) j (by omega)) (by decide), i3 _ _ (lt 112 (by decide) j (by omega)) (by decide), r3 _ _ (lt 112 (by decide) j (by omega)) (by decide)⟩, fun j hj => ⟨r3 _ _ (lt 113 (by decide) j (by omega)) (by decide), i3 _ _ (lt 113 (by decide) j (by omega)) (by decide), i3 _ _ (lt 113 (by decide) j (by omega)) (by decide)⟩, ⟨fun g hg => i3 g 1 (by omega) (by
      have : ∀ f, f ∈ [35, 37, 39, 41, 43] → seJ.contains f = false := by decide
      exact this g hg), i3 _ _ (by omega) (by decide)⟩, fun j => x3 114 j (by omega), fun g hg => (ft g (by
      have : ∀ f, f ∈ [128, 129, 130, 144, 148, 152, 154, 156] → seU.contains f = false := by decide
      exact this g hg)).1, fun g hg => (ft g (by
      have : ∀ f, f ∈ [145, 146, 147, 149, 150, 151, 153, 159, 174, 175] → seU.contains f = false := by decide
      exact this g hg)).2.2.1⟩ (fun v hvV => (hv v hvV).2) (fun v hvV => (hv v hvV).1) ?_ ?_
  · exact fp.2.2.2.2.2.2.2.1.mv (fun j => a3 115 j (by omega) (by decide)) (ft 155 rfl).2.2.1 (ft 74 rfl).2.2.1 (ft 75 rfl).2.2.1
  · exact fp.2.2.2.2.2.2.2.2.1.ft ft (by decide)
theorem SvS.set (W : FW C B P mss fss D M σ) (W' : FW C' B P mss fss D M' σ') (hV : V ≤ (pl D 98).length) (hW : Wn ≤ (pl D 113).length) (sd : SeD M M') (ft : Ft seU σ σ') (t0 : tI σ' 0 = 0) (sv : SvS V E A Wn q U S K1 K2 Ns hd sg c D M σ) : SvS V E A Wn q U S K1 K2 Ns hd sg c D M' σ' := by
  obtain ⟨i3, r3, a3, x3, -, hn⟩ := sd
  have n167 := W.n167
  have rm := W'.2.2.2.2.1
  have lt : ∀ l, l ∈ flL → ∀ k, k < (pl D l).length → (pl D l).getD k 0 < mn M := fun l hl k hk => (W.2.1.2.1 l hl k hk).2.1.2
  have nr : ∀ g, (3000 ≤ g ∧ g < 3210) ∨ (3400 ≤ g ∧ g ≤ 3407) → seJ.contains g = false := fun g h1 => by
    cases e : seJ.contains g with
    | false => rfl
    | true =>
      have : g ∈ seJ := by simpa using e
      simp only [List.mem_cons, List.not_mem_nil, or_false] at this
      omega
  have cc := W'.2.2.2.2.2
  have ar : ∀ {x0 l X0 K : Nat}, ArS x0 l X0 D M K → x0 < 167 → ArS x0 l X0 D M' K := fun {x0 l X0 K} ⟨_, _, _, ⟨e1, e2, e3⟩, _, _⟩ hx => ⟨W'.2.1, W'.2.2.2.1, W'.n167, ⟨(i3 604 x0 (by omega) (by decide)).trans e1, e2, e3⟩, by omega, by omega⟩
  have sn : ∀ {x0 l X0 K : Nat}, ArS x0 l X0 D M K → l ∈ flL → SnL D M D M' l K := fun {x0 l X0 K} a hl k hk => by
    have l1 := a.2.2.2.1.2.1
    have := lt l hl k (by omega)
    exact ⟨rfl, fun f h1 h2 => i3 f _ this (nr f (Or.inr ⟨h1, h2⟩)), fun f h1 h2 => r3 f _ this (by omega)⟩
  have A112 := sv.2.2.2.2.1.2.1
  refine SvS.mv sv ⟨⟨ar sv.1.1.1 (by decide), ar sv.2.2.2.2.1.1 (by decide), sn sv.1.1.1 (by decide), sn sv.2.2.2.2.1.1 (by decide)⟩, fun _ _ => rfl, fun v hv g hg => i3 g _ (lt 98 (by decide) v (by omega)) (by
      have : ∀ f, f ∈ [3203, 3217, 3218, 3219] → seJ.contains f = false := by decide
      exact this g hg), fun j hj => ⟨fun g hg => i3 g _ (lt 112 (by decide) j (by omega)) (by
      have : ∀ f, f ∈ [4000, 4001, 4004] → seJ.contains f = false := by decide
      exact this g hg), r3 _ _ (lt 112 (by decide) j (by omega)) (by decide)⟩, fun j hj => r3 _ _ (lt 113 (by decide) j (by omega)) (by decide), fun g hg => i3 g 1 (by omega) (by
      have : ∀ f, f ∈ [57, 65, 66, 74, 75] → seJ.contains f = false := by decide
      exact this g hg), r3 _ 1 (by omega) (by decide), fun a ha j => a3 a j (by
      have : ∀ f, f ∈ [119, 120, 121, 122, 123, 128, 129, 130, 131, 132, 140, 141, 142, 143, 144] → f < 167 := by decide
      have := this a ha
      omega) (by
      have : ∀ f, f ∈ [119, 120, 121, 122, 123, 128, 129, 130, 131, 132, 140, 141, 142, 143, 144] → ([163, 164] : List Nat).contains f = false := by decide
      exact this a ha), fun a ha j => x3 a j (by
      have : ∀ f, f ∈ [126, 127, 137] → f < 167 := by decide
      have := this a ha
      omega)⟩ ft (by decide) t0
/-- what set leaves -/
def SeQ (C C' : PC) (B : Nat) (P : Nat → Prop) (mss fss : List Nat) (D : FQ) (V : Nat) (M : CM) (σ : TS) (M' : CM) (σ' : TS) : Prop := (FW C' B P mss fss D M' σ' ∧ Wz C C' P M M' σ σ' ∧ Fq D TZ M M' ∧ SeD M M' ∧ Ft seU σ σ') ∧ (tI σ' 0 = 0 ∧ tI σ' 171 = nI 0) ∧ Kn V σ'
theorem z_set_n (h : mI M 30 1 = 0 ∧ tI σ 108 = 0) (x y : Int32) : AcR M σ (K_X0_set x y M) (F_set x y σ) := by
  unfold K_X0_set F_set
  rw [ifT h.1, ifT h.2]; exact AcR.st _
theorem z_set (fp : FP C P mss D M σ z7 V I Bm K N E A Wn q qs) (W : FW C B P mss fss D M σ) (kn : Kn V σ) (h171 : tI σ 171 = nI 0) (h : ¬ mI M 30 1 = 0 ∧ ¬ tI σ 108 = 0) (hcc : cN C + 2 ≤ 601024 ∧ cS C + 16 ≤ 7293034) (x y : Int32) : AcR M σ (K_X0_set x y M) (F_set x y σ) ∨ ∃ r C' M' σ', K_X0_set x y M = some (r, M') ∧ F_set x y σ = some (r, σ') ∧ SeQ C C' B P mss fss D V M σ M' σ' ∧ FP C' P mss D M' σ' z7 V I Bm K N E A Wn q qs ∧ ((C' = C ∧ (mI M' 91 1 = 0 ∧ tI σ' 110 = 0) ∧ mI M' 4 1 = mI M 4 1 ∧ mI M' 5 1 = mI M 5 1 ∧ tI σ' 2 = tI σ 2 ∧ tI σ' 3 = tI σ 3) ∨ (C' = C.rm (cN C + 2) (cS C + 16) ∧ (mI M' 91 1 = mI M 91 1 ∧ tI σ' 110 = tI σ 110 ∧ tI σ' 111 = tI σ 111) ∧ (mI M' 4 1 = tI σ' 2 ∧ mI M' 5 1 = tI σ' 3) ∧ ∀ v, v < V → mI M' 3213 ((pl D 98).getD v 0) = mI M 3213 ((pl D 98).getD v 0))) := by
  have X := fp.1
  have h15 := X.2.2.2.1.1
  have h107 := X.2.2.1.1
  have V96 := X.2.1.1
  have V98 := X.1.1.1
  have fu := FUb
  unfold K_X0_set F_set
  rw [ifF h.1, ifF h.2, h15, t_isv h107 V96, ob_some]
  by_cases q0 : x < 0
  · rw [ifT q0, ifT q0, ifT (rfl : (0 : Int32) = 0)]; exact Or.inl (AcR.st _)
  rw [ifF q0, ifF q0]
  obtain ⟨v, rfl, v2⟩ := bI_of (Int32.not_lt.mp q0)
  by_cases q2 : nI v < nI V
  · have hv : v < V := (bI_lt v2 (by omega)).mp q2
    rw [ifT q2, ifF (Int32.not_le.mpr q2), ifF (by decide : ¬ (1 : Int32) = 0)]
    obtain ⟨k17, ⟨k, k1, k2, k3⟩, l98, v96⟩ := X.vr W hv
    have gt : K_J2_get 98 (nI v) M = some ((pl D 98).getD v 0, M) := ls_get (W.2.1.1 98 (by decide)).1 l98
    have i96 : inb (nI v) 96 := inb_nI' v96 (by decide)
    have xv : ix (nI v) = v := ix_nI (by omega)
    rw [gt, ob_some, ifT (Or.inr k17), ifT k17, k2, ifT i96, xv, k3]
    by_cases kd : nI k = 1
    · rw [ifT kd, ifT kd]
      by_cases ym : y = -2147483648
      · rw [ifT ym, ifT ym]; exact Or.inl (AcR.st _)
      rw [ifF ym, ifF ym]
      right
      have inj : ∀ u, u < V → (pl D 98).getD u 0 = (pl D 98).getD v 0 → u = v := fun u hu e => (W.2.1.inj (by decide) (by decide) (by omega) (by omega) e).2
      have tz := TZ.vr W.2.1 l98
      have vb := (W.2.1.2.1 98 (by decide) v l98).2.1
      -- the component, up to where it works
      obtain ⟨M27, a1, a2, a3⟩ := k_57 (x2 := y) W ⟨V98, V96⟩ h15 (r3 := (pl D 98).getD v 0) V 0 FU M (by omega) (by omega) KF.rf (fun i hi => absurd hi (Nat.not_lt_zero _))
      obtain ⟨M32, h32⟩ : ∃ z, z = msR M27 3210 ((pl D 98).getD v 0) 0 := ⟨_, rfl⟩
      obtain ⟨M34, h34⟩ : ∃ z, z = msI M32 3213 ((pl D 98).getD v 0) y := ⟨_, rfl⟩
      obtain ⟨M35, h35⟩ : ∃ z, z = msI M34 33 1 0 := ⟨_, rfl⟩
      have b32 : KF D seJ [3210] [163, 164] [] M M32 := by rw [h32]; exact (a2.mono (by decide) (by decide) (by decide) rfl).wR rfl tz
      have b34 : KF D seJ [3210] [163, 164] [] M M34 := by rw [h34]; exact b32.wI rfl tz
      have b35 : KF D seJ [3210] [163, 164] [] M M35 := by rw [h35]; exact b34.wI rfl TZ.one
      obtain ⟨W35, -⟩ := W.kf b35 rfl rfl rfl (Ft.rf [] σ) rfl
      obtain ⟨M19, c1, c2, c3⟩ := k_flagsK W35 ⟨V98, V96⟩ (by rw [b35.i rfl]; exact h15)
      have b19 : KF D seJ [3210] [163, 164] [] M M19 := b35.tr (c2.mono (by decide) (by decide) (by decide) rfl)
      -- the twin
      obtain ⟨s8, hs8⟩ : ∃ z, z = tsI (tsI σ 0 0) 161 0 := ⟨_, rfl⟩
      have f8 : Ft [0, 161] σ s8 := by rw [hs8]; exact ((Ft.rf _ σ).p_tsI rfl).p_tsI rfl
      obtain ⟨s20, d1, d2, -, d4⟩ := t_52 (x1 := nI v) (x2 := y) V96 V 0 FU s8 (by omega) (by omega) ((f8 107 rfl).1.trans h107)
      obtain ⟨s27, hs27⟩ : ∃ z, z = tsA (tsA s20 158 v 0) 104 v y := ⟨_, rfl⟩
      have f27 : Ft [104, 158] s20 s27 := by rw [hs27]; exact ((Ft.rf _ s20).p_tsA rfl).p_tsA rfl
      have g27 : Ft [0, 104, 158, 160, 161, 248, 249] σ s27 := ((f8.mono (by decide)).tr (d2.mono (by decide))).tr (f27.mono (by decide))
      have v27 : ∀ u, tA s27 104 u = (if u = v then y else tA σ 104 u) ∧ tA s27 158 u = (if u = v then 0 else tA σ 158 u) := fun u => by
        have e1 : tA s20 104 u = tA σ 104 u := by rw [(d2 104 rfl).2.2.1, (f8 104 rfl).2.2.1]
        have e2 : tA s20 158 u = tA σ 158 u := by rw [(d2 158 rfl).2.2.1, (f8 158 rfl).2.2.1]
        rw [hs27, ← e1, ← e2]
        by_cases e : u = v <;> simp +decide only [tA_tsA, e, ↓reduceIte]
      have r19 : ∀ u, u < V → mR M19 3210 ((pl D 98).getD u 0) = if u = v then 0 else mR M 3210 ((pl D 98).getD u 0) := fun u hu => by
        rw [c2.r rfl, h35, h34, show mR (msI (msI M32 3213 ((pl D 98).getD v 0) y) 33 1 0) 3210 ((pl D 98).getD u 0) = mR M32 3210 ((pl D 98).getD u 0) from rfl, h32, mR_msR]
        by_cases e : u = v
        · rw [ifT ⟨rfl, by rw [e]⟩, ifT e]
        · rw [ifF (fun z => e (inj u hu z.2)), ifF e, a2.r rfl]
      have i19 : ∀ u, u < V → mI M19 3213 ((pl D 98).getD u 0) = if u = v then y else mI M 3213 ((pl D 98).getD u 0) := fun u hu => by
        rw [c2.i rfl, h35, mI_msI, ifF (by omega), h34, mI_msI]
        by_cases e : u = v
        · rw [ifT ⟨rfl, by rw [e]⟩, ifT e]
        · rw [ifF (fun z => e (inj u hu z.2)), ifF e, show mI M32 3213 ((pl D 98).getD u 0) = mI M27 3213 ((pl D 98).getD u 0) from by rw [h32]; rfl, a2.i rfl]
      have W19 := (W.kf b19 rfl rfl rfl g27 (by decide))
      have nk : NdK D M σ D M19 s27 106 K N := ⟨fun j hj => ⟨rfl, fun f hf => b19.i (by
        have : ∀ f, f ∈ [3400, 3401, 3402, 3403, 3404] → seJ.contains f = false := by decide
        exact this f hf) _, fun f hf => b19.r (by
        cases e : ([3210] : List Nat).contains f with
        | false => rfl
        | true =>
          have : f = 3210 := by simpa using e
          rw [this] at hf; exact absurd hf (by decide)) _⟩, fun g hg n _ => (g27 g (by
        have : ∀ f, f ∈ [121, 122, 123, 124, 134, 162] → ([0, 104, 158, 160, 161, 248, 249] : List Nat).contains f = false := by decide
        exact this g hg)).2.2.1 n, fun v => (g27 94 rfl).2.2.1 v⟩
      have hN : K ≤ (pl D 106).length ∧ N ≤ 70000 := by
        obtain ⟨⟨m1, m2, m3⟩, ⟨m4, -⟩, -⟩ := fp.2.1
        exact ⟨m2, by omega⟩
      have b : SeB C B P mss fss D V K N M19 s27 := by
        refine ⟨W19.1, ⟨V98, V96⟩, hN, fun u hu => ?_, by rw [b19.i rfl]; exact h15, by rw [(g27 107 rfl).1]; exact h107⟩
        obtain ⟨x1, x2, -⟩ := fp.2.2.1 u hu
        obtain ⟨-, ⟨k', l1, l2, l3⟩, -⟩ := X.vr W hu
        refine ⟨?_, x2.mv nk (Nat.le_refl _) (Nat.le_refl _) (b19.r rfl _) ((g27 159 rfl).2.2.1 u), k', l1, by rw [b19.i rfl]; exact l2, by rw [(g27 94 rfl).2.2.1]; exact l3⟩
        by_cases e : u = v
        · exact Or.inl ⟨by rw [r19 u hu, ifT e], by rw [(v27 u).2, ifT e]⟩
        · exact x1.mv nk (Nat.le_refl _) (Nat.le_refl _) (by rw [r19 u hu, ifF e]) (by rw [(v27 u).2, ifF e])
      have st : SeS D V M19 s27 M19 s27 := by
        refine ⟨⟨KF.rf, Ft.rf _ _⟩, ⟨by rw [(f27 0 rfl).1, (d2 0 rfl).1, hs8]; rfl, by rw [(g27 171 rfl).1]; exact h171⟩, ⟨by rw [c2.i rfl, h35, mI_msI, ifT ⟨rfl, rfl⟩]; rfl, by rw [(f27 161 rfl).1, (d2 161 rfl).1, hs8]; rfl⟩, fun u hu z => ?_⟩
        rw [(g27 94 rfl).2.2.1] at z
        obtain ⟨e1, e2⟩ := c3 u hu
        refine ⟨?_, Or.inr (Or.inr ⟨e1, e2, by rw [(f27 160 rfl).2.2.1]; exact (d4 u (Nat.zero_le _) hu).2.2⟩)⟩
        rw [i19 u hu, (v27 u).1]
        by_cases e : u = v
        · rw [ifT e, ifT e]
        · rw [ifF e, ifF e]; exact (fp.2.2.1 u hu).2.2.1 z
      have i158 : tA s20 158 v = tA σ 158 v := by rw [(d2 158 rfl).2.2.1, (f8 158 rfl).2.2.1]
      have v30 : mR M27 3210 ((pl D 98).getD v 0) = mR M 3210 ((pl D 98).getD v 0) := a2.r rfl _
      have m27 : mk M27 ((pl D 98).getD v 0) = 17 := by rw [a2.k]; exact k17
      have m32 : mk M32 ((pl D 98).getD v 0) = 17 := by rw [b32.k]; exact k17
      -- behind a fault
      have flt : ∀ M' σ' w, SeF D M19 s27 M' σ' w → ∃ M2 σ2, KJ_X0_set_143 ((pl D 98).getD v 0) (mR M 3210 ((pl D 98).getD v 0)) w M' = some (-5, M2) ∧ J_set_191 (nI v) (tA σ 158 v) σ' = some (-5, σ2) ∧ SeQ C (C.rm (cN C + 2) (cS C + 16)) B P mss fss D V M σ M2 σ2 ∧ FP (C.rm (cN C + 2) (cS C + 16)) P mss D M2 σ2 z7 V I Bm K N E A Wn q qs ∧ (mI M2 91 1 = mI M 91 1 ∧ tI σ2 110 = tI σ 110 ∧ tI σ2 111 = tI σ 111) ∧ (mI M2 4 1 = tI σ2 2 ∧ mI M2 5 1 = tI σ2 3) ∧ ∀ v, v < V → mI M2 3213 ((pl D 98).getD v 0) = mI M 3213 ((pl D 98).getD v 0) := fun M' σ' w f => by
        obtain ⟨M2, σ2, t1, t2, ⟨t3, t4, t5, t6, t7, t8, t9⟩, t10, t11, t12, t13⟩ := se_tail b f hv hcc (tA σ 158 v) (mR M 3210 ((pl D 98).getD v 0))
        have sd : SeD M M2 := by
          obtain ⟨i1, i2, i3, i4, i5, i6⟩ := SeD.rf.kf b19 (by decide) (by decide)
          obtain ⟨j1, j2, j3, j4, j5, j6⟩ := t6
          exact ⟨fun g o ho hg => (j1 g o (by rw [b19.n]; exact ho) hg).trans (i1 g o ho hg), fun g o ho hg => (j2 g o (by rw [b19.n]; exact ho) hg).trans (i2 g o ho hg), fun a j ha hA => (j3 a j (by rw [b19.n]; exact ha) hA).trans (i3 a j ha hA), fun a j ha => (j4 a j (by rw [b19.n]; exact ha)).trans (i4 a j ha), fun o ho => ⟨(j5 o (by rw [b19.n]; exact ho)).1.trans (i5 o ho).1, (j5 o (by rw [b19.n]; exact ho)).2.trans (i5 o ho).2⟩, Nat.le_trans i6 j6⟩
        have ft : Ft seU σ σ2 := (g27.mono (by decide)).tr (t7.mono (by decide))
        have wz : Wz C (C.rm (cN C + 2) (cS C + 16)) P M M2 σ σ2 := W19.2.tr t4 (fun _ z => z)
        have fq : Fq D TZ M M2 := b19.1.tr t5 (Dx.rf D M)
        have s163 : ∀ u, u < V → mI M2 3213 ((pl D 98).getD u 0) = mI M 3213 ((pl D 98).getD u 0) ∧ mI M2 3212 ((pl D 98).getD u 0) = mI M 3212 ((pl D 98).getD u 0) := fun u hu => by
          obtain ⟨e1, e2, -⟩ := t10 u hu
          obtain ⟨e3, e4⟩ := a3 u hu
          have e5 : ∀ a i, mA M19 a i = mA M27 a i := fun a i => by rw [c2.ga rfl, h35, h34, h32]; rfl
          rw [e1, e2, e5, e5]; exact ⟨e3, e4⟩
        have s104 : ∀ u, u < V → tA σ2 104 u = tA σ 104 u ∧ tA σ2 105 u = tA σ 105 u ∧ tA σ2 160 u = 2 ∧ tA σ2 158 u = tA σ 158 u := fun u hu => by
          obtain ⟨e1, e2, e3, e4⟩ := t11 u hu
          obtain ⟨e5, e6, -⟩ := d4 u (Nat.zero_le _) hu
          rw [e1, e2, e3, e4, (f27 248 rfl).2.2.1, (f27 249 rfl).2.2.1, e5, e6, (f8 104 rfl).2.2.1, (f8 105 rfl).2.2.1, (v27 u).2]
          refine ⟨rfl, rfl, rfl, ?_⟩
          by_cases e : u = v
          · rw [ifT e, e]
          · rw [ifF e, ifF e]
        have nk2 : NdK D M σ D M2 σ2 106 K N := ⟨fun j hj => ⟨rfl, fun f hf => sd.1 f _ ((W.2.1.2.1 106 (by decide) j (by have := hN.1; omega)).2.1.2) (by
          have : ∀ f, f ∈ [3400, 3401, 3402, 3403, 3404] → seJ.contains f = false := by decide
          exact this f hf), fun f hf => sd.2.1 f _ ((W.2.1.2.1 106 (by decide) j (by have := hN.1; omega)).2.1.2) (fun e => by rw [e] at hf; exact absurd hf (by decide))⟩, fun g hg n _ => (ft g (by
          have : ∀ f, f ∈ [121, 122, 123, 124, 134, 162] → seU.contains f = false := by decide
          exact this g hg)).2.2.1 n, fun v => (ft 94 rfl).2.2.1 v⟩
        refine ⟨M2, σ2, t1, t2, ⟨⟨t3, wz, fq, sd, ft⟩, ⟨t8, t9⟩, fun u hu _ => (s104 u hu).2.2.1⟩, fp.set W wz fq sd ft (fun u hu => ?_), ⟨?_, ?_, ?_⟩, t12, fun u hu => (s163 u hu).1⟩
        · obtain ⟨x1, -, x3, x4⟩ := fp.2.2.1 u hu
          obtain ⟨e1, e2, e3, e4⟩ := s104 u hu
          obtain ⟨e5, e6⟩ := s163 u hu
          refine ⟨x1.mv nk2 (Nat.le_refl _) (Nat.le_refl _) ?_ e4, fun z => ?_, by rw [e6, e2]; exact x4⟩
          · rw [(t10 u hu).2.2, r19 u hu]
            by_cases e : u = v
            · rw [ifT e, e]
            · rw [ifF e, ifF e]
          · rw [(ft 94 rfl).2.2.1] at z
            have := x3 z
            unfold Fl0 at this ⊢
            rw [e5, e1]; exact this
        · rw [t13, c2.i rfl, h35, mI_msI, ifF (by omega), h34, mI_msI, ifF (by omega), h32]; exact a2.i rfl 1
        · rw [(t7 110 rfl).1, (g27 110 rfl).1]
        · rw [(t7 111 rfl).1, (g27 111 rfl).1]
      have kH : ∀ X : CM → Option (Int32 × CM), (ob (KL_X0_set_57 FU y ((pl D 98).getD v 0) 0 M) fun q26 M27 => if mk M27 ((pl D 98).getD v 0) = 17 then nm (mR M27 3210 ((pl D 98).getD v 0)) fun v30 => if mk M27 ((pl D 98).getD v 0) = 17 then nm (msR M27 3210 ((pl D 98).getD v 0) 0) fun M32 => if mk M32 ((pl D 98).getD v 0) = 17 then nm (msI M32 3213 ((pl D 98).getD v 0) y) fun M34 => obS (K_X0_workParameters M34) (fun w39 M35 => KJ_X0_set_143 ((pl D 98).getD v 0) v30 w39 M35) fun r36 M35 => obS (K_X0_workStarts M35) (fun w77 M73 => KJ_X0_set_143 ((pl D 98).getD v 0) v30 w77 M73) fun r74 M73 => X M73 else none else none else none) = obS (K_X0_workParameters M34) (fun w39 M35 => KJ_X0_set_143 ((pl D 98).getD v 0) (mR M 3210 ((pl D 98).getD v 0)) w39 M35) fun r36 M35 => obS (K_X0_workStarts M35) (fun w77 M73 => KJ_X0_set_143 ((pl D 98).getD v 0) (mR M 3210 ((pl D 98).getD v 0)) w77 M73) fun r74 M73 => X M73 := fun X => by
        rw [show (0 : Int32) = nI 0 from rfl, a1, ob_some, ifT m27, v30, nm_eq, ifT m27, nm_eq, ← h32, ifT m32, nm_eq, ← h34]
      have wpE : K_X0_workParameters M34 = obS (KL_X0_workParameters_53 FU (nI 0) M19) (fun r40 M37 => some (r40, M37)) fun q36 M37 => some (.inl (), M37) := by
        unfold K_X0_workParameters
        rw [nm_eq, ← h35, c1, ob_some]; rfl
      have kX := kH (fun M73 => nm (msI M73 91 1 0) fun M78 => some (0, M78))
      rw [kX, wpE, nm_eq, nm_eq, ← hs8, show (0 : Int32) = nI 0 from rfl, d1, ob_some, ifT i96, i158, nm_eq, ifT i96, nm_eq, ifT i96, nm_eq, show (nI 0 : Int32) = 0 from rfl, ← hs27]
      rcases se_params (x1 := nI v) (x3 := tA σ 158 v) b V 0 FU FU M19 s27 (by omega) (by omega) (by omega) st (fun v hv => absurd hv (Nat.not_lt_zero _)) with ⟨M', σ', w, p1, p2, p3⟩ | ⟨M3, s43, p1, p2, p3, p4⟩
      · obtain ⟨M2, σ2, t1, t2, t3, t4, t5⟩ := flt M' σ' w p3
        obtain ⟨g, hg⟩ : ∃ g, FU = g + 1 := ⟨FU - 1, by omega⟩
        refine ⟨-5, _, M2, σ2, ?_, ?_, t3, t4, Or.inr ⟨rfl, t5⟩⟩
        · rw [show (0 : Int32) = nI 0 from rfl, p1, obS_inr, obS_inr]; exact t1
        · rw [show (0 : Int32) = nI 0 from rfl, p2, ob_some]
          unfold J_set_160
          rw [hg, t_163c p3.ne, ob_some]; exact t2
      · rcases se_starts (x1 := nI v) (x3 := tA σ 158 v) b V 0 FU FU M3 s43 (by omega) (by omega) (by omega) p3 p4 (fun u hu => absurd hu (Nat.not_lt_zero _)) with ⟨M', σ', w, q1, q2, q3⟩ | ⟨M4, s57, q1, q2, q3, q4, q5⟩
        · obtain ⟨M2, σ2, t1, t2, t3, t4, t5⟩ := flt M' σ' w q3
          refine ⟨-5, _, M2, σ2, ?_, ?_, t3, t4, Or.inr ⟨rfl, t5⟩⟩
          · rw [show (0 : Int32) = nI 0 from rfl, p1, obS_inl, obS_inl]
            unfold K_X0_workStarts
            rw [show (0 : Int32) = nI 0 from rfl, q1, obS_inr, obS_inr]; exact t1
          · rw [show (0 : Int32) = nI 0 from rfl, p2, ob_some]
            unfold J_set_160
            rw [show (0 : Int32) = nI 0 from rfl, q2, ob_some]; exact t2
        · -- all is well
          obtain ⟨⟨kk, ff⟩, ⟨z0, z171⟩, -, zf⟩ := id q3
          have b4 : KF D seJ [3210] [163, 164] [] M (msI M4 91 1 0) := (b19.tr (kk.mono (by decide) (by decide) (by decide) rfl)).wI rfl TZ.one
          have ft : Ft seU σ (tsI (tsI s57 110 0) 111 0) := (((g27.mono (by decide)).tr (ff.mono (by decide))).p_tsI rfl).p_tsI rfl
          have hI : [0, 1, 2, 3, 104, 105, 110, 111, 158, 160, 161, 170, 171, 248, 249] = seU := rfl
          obtain ⟨W', wz⟩ := W.kf b4 rfl rfl rfl ft (by decide)
          have sd : SeD M (msI M4 91 1 0) := SeD.rf.kf b4 (by decide) (by decide)
          have ar := q3.at_ b
          have nz := (W.2.1.2.1 98 (by decide))
          refine ⟨0, C, msI M4 91 1 0, tsI (tsI s57 110 0) 111 0, ?_, ?_, ⟨⟨W', wz, b4.1, sd, ft⟩, ⟨z0, z171⟩, fun u hu z => q4 u hu z⟩, fp.set W wz b4.1 sd ft (fun u hu => ?_), Or.inl ⟨rfl, ⟨?_, rfl⟩, ?_, ?_, ?_, ?_⟩⟩
          · rw [show (0 : Int32) = nI 0 from rfl, p1, obS_inl, obS_inl]
            unfold K_X0_workStarts
            rw [show (0 : Int32) = nI 0 from rfl, q1, obS_inl, obS_inl, nm_eq]; rfl
          · rw [show (0 : Int32) = nI 0 from rfl, p2, ob_some]
            unfold J_set_160 J_set_191
            rw [show (0 : Int32) = nI 0 from rfl, q2, ob_some, t_isBad0 z0, ob_some, ifT (show (nI 0 : Int32) = nI 0 from rfl), nm_eq, nm_eq]; rfl
          · obtain ⟨x1, -⟩ := ar.2.2.2.1 u hu
            have ub := (nz u (by omega)).2.1.1
            refine ⟨?_, fun z => ?_, ?_⟩
            · rcases x1 with ⟨e1, e2⟩ | ⟨n, e1, e2⟩
              · exact Or.inl ⟨e1, e2⟩
              · refine Or.inr ⟨n, e1, NdR.mv (M' := msI M4 91 1 0) (σ' := tsI (tsI s57 110 0) 111 0) ⟨fun j hj => ⟨rfl, fun f hf => by
                  rw [mI_msI, ifF (fun z => by rw [z.1] at hf; exact absurd hf (by decide))], fun f _ => rfl⟩, fun _ _ _ _ => rfl, fun _ => rfl⟩ (Nat.le_refl _) (Nat.le_refl _) (Nat.le_refl V) 100 100 _ _ _ (Nat.le_refl _) e2⟩
            · have := zf u hu z
              unfold Fl0
              rw [mI_msI, ifF (by omega)]; exact this.1
            · rw [mI_msI, ifF (by omega)]; exact q5 u hu
          · rw [mI_msI, ifT ⟨rfl, rfl⟩]
          · rw [mI_msI, ifF (by omega), kk.i rfl, c2.i rfl, h35, mI_msI, ifF (by omega), h34, mI_msI, ifF (by omega), h32]; exact a2.i rfl 1
          · rw [mI_msI, ifF (by omega), kk.i rfl, c2.i rfl, h35, mI_msI, ifF (by omega), h34, mI_msI, ifF (by omega), h32]; exact a2.i rfl 1
          · show tI s57 2 = _
            rw [(ff 2 rfl).1, (g27 2 rfl).1]
          · show tI s57 3 = _
            rw [(ff 3 rfl).1, (g27 3 rfl).1]
    · rw [ifF kd, ifF kd]; exact Or.inl (AcR.st _)
  · rw [ifF q2, ifT (Int32.not_lt.mp q2), ifT (rfl : (0 : Int32) = 0)]; exact Or.inl (AcR.st _)
end SETX
