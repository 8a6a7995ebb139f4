/-! Layer B: the flat model: faces alone or not; sums of flows -/
set_option maxRecDepth 100000
/-- face f's set has another face -/
def alF (σ : TS) (I f : Nat) : Prop := ∃ g, g < 2 * I ∧ g ≠ f ∧ hdT σ g = f
/-- variables of the instances below n -/
def scd (σ : TS) (v d : Nat) : Nat → Nat
  | 0 => 0
  | n + 1 => scd σ v d n + cnt σ n v d
def indc (σ : TS) (v : Nat) : Nat → Nat
  | 0 => 0
  | n + 1 => indc σ v n + (if tA σ 96 v = nI n then 1 else 0)
section SUMS
variable {zb : Nat} {C : PC} {D D' : FQ} {M M' M1 M2 M0 : CM} {σ σ' σ1 σ2 s s1 σ0 : TS} {mss fss : List Nat} {B V I Bm K N K' N' E A Wn v l w d m i n k f g Lp hh : Nat} {P : Nat → Prop} {x3 x y r op x2 x3' x4 x5 : Int32} {z7 : Nat → Nat} {S : List Nat}
theorem indc_le : ∀ n, n ≤ 200 → indc σ v n ≤ 1 ∧ (1 ≤ indc σ v n → ∃ m, m < n ∧ tA σ 96 v = nI m) := by
  intro n
  induction n with
  | zero => intro _; exact ⟨Nat.zero_le _, fun z => absurd z (Nat.not_succ_le_zero 0)⟩
  | succ n ih =>
    intro hn
    obtain ⟨h1, h2⟩ := ih (by omega)
    have e : indc σ v (n + 1) = indc σ v n + (if tA σ 96 v = nI n then 1 else 0) := rfl
    rw [e]
    by_cases q : tA σ 96 v = nI n
    · rw [ifT q]
      refine ⟨?_, fun _ => ⟨n, by omega, q⟩⟩
      by_cases z : 1 ≤ indc σ v n
      · obtain ⟨m, m1, m2⟩ := h2 z
        rw [q] at m2
        have := (bI_eq (by omega) (by omega)).mp m2
        omega
      · omega
    · rw [ifF q]
      exact ⟨by omega, fun z => by obtain ⟨m, m1, m2⟩ := h2 (by omega); exact ⟨m, by omega, m2⟩⟩
theorem scd_s : ∀ n, scd σ v (d + 1) n = indc σ v n + scd σ (v + 1) d n := by
  intro n
  induction n with
  | zero => rfl
  | succ n ih =>
    show scd σ v (d + 1) n + ((if tA σ 96 v = nI n then 1 else 0) + cnt σ n (v + 1) d) = (indc σ v n + (if tA σ 96 v = nI n then 1 else 0)) + (scd σ (v + 1) d n + cnt σ n (v + 1) d)
    rw [ih]
    omega
theorem scd_0 : ∀ n, scd σ v 0 n = 0 := by
  intro n
  induction n with
  | zero => rfl
  | succ n ih => show scd σ v 0 n + 0 = 0; rw [ih]
theorem scd_le : ∀ (d v n : Nat), n ≤ 200 → scd σ v d n ≤ d := by
  intro d
  induction d with
  | zero => intro v n _; rw [scd_0]; exact Nat.le_refl _
  | succ d ih =>
    intro v n hn
    rw [scd_s]
    have := ih (v + 1) n hn
    have := (indc_le (σ := σ) (v := v) n hn).1
    omega
theorem scd_eq (h : ∀ j, tA σ' 96 j = tA σ 96 j) : ∀ n, scd σ' v d n = scd σ v d n := by
  intro n
  induction n with
  | zero => rfl
  | succ n ih =>
    show scd σ' v d n + cnt σ' n v d = scd σ v d n + cnt σ n v d
    rw [ih, cnt_eq _ _ (fun u _ _ => h u)]
theorem k_alone (h : BS zb z7 C B P mss fss V I Bm Lp x3 D M σ K N E A Wn) (hf : f < 400 ∧ f / 2 < I) (h0 : hdT σ f = f) : (alF σ I f ∧ K_X0_isAlone (nI f) M = some (0, M)) ∨ (¬ alF σ I f ∧ K_X0_isAlone (nI f) M = some (1, M)) := by
  have c2 := h.fx.2.2.2.1.2
  have I200 := h.fx.2.1.2.1
  obtain ⟨-, p1, -, -, -⟩ := z_hd h.2.2.2.2.2.1.1 hf.1
  rw [h0] at p1
  have loop : ∀ d g kf, g + d = 2 * I → d < kf → ((∃ u, g ≤ u ∧ u < 2 * I ∧ u ≠ f ∧ hdT σ u = f) ∧ KL_X0_isAlone_2 kf (nI f) (nI g) M = some (.inr 0, M)) ∨ (¬ (∃ u, g ≤ u ∧ u < 2 * I ∧ u ≠ f ∧ hdT σ u = f) ∧ KL_X0_isAlone_2 kf (nI f) (nI g) M = some (.inl (), M)) := by
    intro d
    induction d with
    | zero =>
      intro g kf hg hk
      obtain ⟨kf, rfl⟩ : ∃ g, kf = g + 1 := ⟨kf - 1, by omega⟩
      refine Or.inr ⟨fun ⟨u, u1, u2, _⟩ => by omega, ?_⟩
      unfold KL_X0_isAlone_2
      rw [c2, n_dbl, ifT ((bI_le (by omega) (by omega)).mpr (by omega))]
    | succ d ih =>
      intro g kf hg hk
      obtain ⟨kf, rfl⟩ : ∃ g, kf = g + 1 := ⟨kf - 1, by omega⟩
      unfold KL_X0_isAlone_2
      rw [c2, n_dbl, ifF (fun z => by have := (bI_le (by omega) (by omega)).mp z; omega)]
      have nx := ih (g + 1) kf (by omega) (by omega)
      by_cases q : g = f
      · rw [ifT (show nI g = nI f by rw [q]), nm_eq, nI_addL]
        rcases nx with ⟨⟨u, u1, u2⟩, n2⟩ | ⟨n1, n2⟩
        · exact Or.inl ⟨⟨u, by omega, u2⟩, n2⟩
        · exact Or.inr ⟨fun ⟨u, u1, u2, u3, u4⟩ => n1 ⟨u, by omega, u2, u3, u4⟩, n2⟩
      · rw [ifF (fun z => q ((bI_eq (by omega) (by omega)).mp z))]
        obtain ⟨q0, q1, -, -, -⟩ := z_hd h.2.2.2.2.2.1.1 (f := g) (by omega)
        rw [q1, ob_some, p1, ob_some]
        by_cases y : hdT σ g = f
        · rw [ifT (show nI (hdT σ g) = nI f by rw [y])]
          exact Or.inl ⟨⟨g, Nat.le_refl _, by omega, q, y⟩, rfl⟩
        · rw [ifF (fun z => y ((bI_eq (by omega) (by omega)).mp z)), nm_eq, nI_addL]
          rcases nx with ⟨⟨u, u1, u2⟩, n2⟩ | ⟨n1, n2⟩
          · exact Or.inl ⟨⟨u, by omega, u2⟩, n2⟩
          · refine Or.inr ⟨fun ⟨u, u1, u2, u3, u4⟩ => ?_, n2⟩
            by_cases z : u = g
            · rw [z] at u4; exact y u4
            · exact n1 ⟨u, by omega, u2, u3, u4⟩
  have hFU : 400 < FU := by unfold FU; decide
  unfold K_X0_isAlone
  rcases loop (2 * I) 0 FU (Nat.zero_add _) (by omega) with ⟨⟨u, u1, u2⟩, n2⟩ | ⟨n1, n2⟩
  · refine Or.inl ⟨⟨u, u2⟩, ?_⟩
    rw [show KL_X0_isAlone_2 FU (nI f) 0 M = some (.inr 0, M) from n2, obS_inr]
  · refine Or.inr ⟨fun ⟨u, u2⟩ => n1 ⟨u, Nat.zero_le _, u2⟩, ?_⟩
    rw [show KL_X0_isAlone_2 FU (nI f) 0 M = some (.inl (), M) from n2, obS_inl]
theorem t_61 (h : BS zb z7 C B P mss fss V I Bm Lp x3 D M σ K N E A Wn) (hf : f < 400) : ∀ d g tf c, g + d = 2 * I → d < tf → c ≤ g → ∃ c', L_connections_61 tf (nI f) x2 (nI c) (nI g) σ = some (nI c', σ) ∧ c ≤ c' ∧ c' ≤ 400 ∧ (c' = c ↔ ¬ ∃ u, g ≤ u ∧ u < 2 * I ∧ hdT σ u = f) := by
  have c1 := h.fx.2.2.1.2.1
  have I200 := h.fx.2.1.2.1
  intro d
  induction d with
  | zero =>
    intro g tf c hg ht hc
    obtain ⟨tf, rfl⟩ : ∃ g, tf = g + 1 := ⟨tf - 1, by omega⟩
    refine ⟨c, ?_, Nat.le_refl _, by omega, fun _ ⟨u, u1, u2, _⟩ => by omega, fun _ => rfl⟩
    unfold L_connections_61
    rw [c1, n_dbl, ifT ((bI_le (by omega) (by omega)).mpr (by omega))]
  | succ d ih =>
    intro g tf c hg ht hc
    obtain ⟨tf, rfl⟩ : ∃ g, tf = g + 1 := ⟨tf - 1, by omega⟩
    obtain ⟨q0, -, q1, -, -⟩ := z_hd h.2.2.2.2.2.1.1 (f := g) (by omega)
    unfold L_connections_61
    rw [c1, n_dbl, ifF (fun z => by have := (bI_le (by omega) (by omega)).mp z; omega), q1, ob_some]
    by_cases y : hdT σ g = f
    · rw [ifT (show nI (hdT σ g) = nI f by rw [y]), nm_eq, nm_eq, nI_addL, nI_addL]
      obtain ⟨c', a1, a2, a3, a4⟩ := ih (g + 1) tf (c + 1) (by omega) (by omega) (by omega)
      exact ⟨c', a1, by omega, a3, fun z => by omega, fun z => absurd ⟨g, Nat.le_refl _, by omega, y⟩ z⟩
    · rw [ifF (fun z => y ((bI_eq (by omega) (by omega)).mp z)), nm_eq, nI_addL]
      obtain ⟨c', a1, a2, a3, a4⟩ := ih (g + 1) tf c (by omega) (by omega) (by omega)
      refine ⟨c', a1, a2, a3, fun z ⟨u, u1, u2, u3⟩ => ?_, fun z => a4.mpr (fun ⟨u, u1, u2⟩ => z ⟨u, by omega, u2⟩)⟩
      by_cases w : u = g
      · rw [w] at u3; exact y u3
      · exact a4.mp z ⟨u, by omega, u2, u3⟩
theorem t_alone (h : BS zb z7 C B P mss fss V I Bm Lp x3 D M σ K N E A Wn) (hf : f < 400 ∧ f / 2 < I) (h0 : hdT σ f = f) : ∃ c, L_connections_61 FU (nI f) x2 0 (nI f) σ = some (nI c, σ) ∧ c ≤ 400 ∧ (c < 2 ↔ ¬ alF σ I f) := by
  have c1 := h.fx.2.2.1.2.1
  have I200 := h.fx.2.1.2.1
  obtain ⟨-, -, p1, -, -⟩ := z_hd h.2.2.2.2.2.1.1 hf.1
  obtain ⟨G, hG, hGl⟩ := FUg
  have hG : FU = G + 1 := hG
  obtain ⟨c', a1, a2, a3, a4⟩ := t_61 (x2 := x2) h hf.1 (2 * I - (f + 1)) (f + 1) G 1 (by omega) (by omega) (by omega)
  refine ⟨c', ?_, a3, fun z => ?_, fun z => ?_⟩
  · rw [hG]
    unfold L_connections_61
    rw [c1, n_dbl, ifF (fun z => by have := (bI_le (by omega) (by omega)).mp z; omega), p1, ob_some, ifT (by rw [h0]), nm_eq, nm_eq, nI_addL]
    exact a1
  · have := a4.mp (by omega)
    rintro ⟨u, u1, u2, u3⟩
    obtain ⟨q0, -⟩ := z_hd h.2.2.2.2.2.1.1 (f := u) (by omega)
    exact this ⟨u, by omega, u1, u3⟩
  · have := a4.mpr (fun ⟨u, u1, u2, u3⟩ => z ⟨u, u2, by omega, u3⟩)
    omega
/-- both faces of an instance are never in one set -/
theorem BS.bothF (h : BS zb z7 C B P mss fss V I Bm Lp x3 D M σ K N E A Wn) (hm : m < I) (hr : ¬ tA σ 74 m = tA σ 74 0) (h0 : hdT σ (2 * m) = f) (h1 : hdT σ (2 * m + 1) = f) : False := by
  have I200 := h.fx.2.1.2.1
  obtain ⟨-, -, -, s0, -⟩ := z_hd h.2.2.2.2.2.1.1 (f := 2 * m) (by omega)
  obtain ⟨-, -, -, s1, -⟩ := z_hd h.2.2.2.2.2.1.1 (f := 2 * m + 1) (by omega)
  rw [h0] at s0
  rw [h1] at s1
  have e := s0.2.symm.trans s1.2
  unfold cxF at e
  rw [ifT (show 2 * m % 2 = 0 by omega), ifF (show ¬ (2 * m + 1) % 2 = 0 by omega), show 2 * m / 2 = m by omega, show (2 * m + 1) / 2 = m by omega] at e
  obtain ⟨-, -, q, -⟩ := h.inst hm
  rcases q with ⟨q, -⟩ | ⟨p, p1, -, -, p2⟩
  · rw [q] at hr; exact hr rfl
  · rw [p2, ix_nI (by omega)] at e
    obtain ⟨-, -, q, -⟩ := h.inst (n := p) (by omega)
    rcases q with ⟨-, -, q⟩ | ⟨pp, u1, -, -, u2⟩
    · rw [q] at e
      have z : nI p < 0 := by rw [e]; decide
      rw [nI_ltL (by omega) (by decide)] at z
      exact absurd z (Nat.not_lt_zero _)
    · rw [u2] at e
      have := (bI_eq (by omega) (by omega)).mp e
      omega
/-- the twin's sums after a fault -/
theorem t_138b (J : JnX M0 σ) (hI : I ≤ 200) (hV : V ≤ 96) (hk : k ≤ 1000) (h82 : tI σ 82 = nI I) (h107 : tI σ 107 = nI V) : ∀ (d g tf : Nat) (x5 : Int32) (s : TS), g + d = 2 * I → d < tf → FfB C B P mss fss M M' σ0 s w → Ft sF_make σ s → inb x5 70000 → ∃ y s', L_setEquations_138 tf (nI f) (nI k) x4 x5 (nI g) s = some (y, s') ∧ FfB C B P mss fss M M' σ0 s' w ∧ Ft sF_make σ s' := by
  intro d
  induction d with
  | zero =>
    intro g tf x5 s hg ht hF fs h5
    obtain ⟨tf, rfl⟩ : ∃ g, tf = g + 1 := ⟨tf - 1, by omega⟩
    refine ⟨x5, s, ?_, hF, fs⟩
    unfold L_setEquations_138
    rw [(fs 82 rfl).1, h82, n_dbl, ifT ((bI_le (by omega) (by omega)).mpr (by omega))]
  | succ d ih =>
    intro g tf x5 s hg ht hF fs h5
    obtain ⟨tf, rfl⟩ : ∃ g, tf = g + 1 := ⟨tf - 1, by omega⟩
    have hd : F_headOf (nI g) s = some (nI (hdT σ g), s) := by
      obtain ⟨-, -, q1, -, -⟩ := z_hd J (f := g) (by omega)
      rcases t_hdF (σ' := s) (σ := σ) (fs 155 rfl).2.2.1 (nI g) with ⟨z, -⟩ | ⟨y, z1, z2⟩
      · rw [q1] at z; exact absurd z (by intro z; cases z)
      · rw [q1] at z1
        have := congrArg Prod.fst (Option.some.inj z1)
        have this : nI (hdT σ g) = y := this
        rw [z2, this]
    unfold L_setEquations_138
    rw [(fs 82 rfl).1, h82, n_dbl, ifF (fun z => by have := (bI_le (by omega) (by omega)).mp z; omega), hd, ob_some]
    have go : ∀ y1 : Int32, y1 ∈ biT → ∃ y s', J_setEquations_176_138 (L_setEquations_138 tf) (nI f) (nI k) x4 x5 (nI g) y1 s = some (y, s') ∧ FfB C B P mss fss M M' σ0 s' w ∧ Ft sF_make σ s' := fun y1 hy => by
      obtain ⟨y2, b1⟩ := t_mvA (n := g / 2) (k := k) (show tI s 107 = nI V by rw [(fs 107 rfl).1]; exact h107) hV hk
      obtain ⟨y3, s2, b2, b3, b4, b5⟩ := hF.mk1 (op := 2) (x2 := y2) (x3 := 0) (x4 := 0) (Or.inl (by decide))
      obtain ⟨y4, s3, d2, d3, d4, d5⟩ := b4.mk1 (op := y1) (x2 := x5) (x3 := y3) (x4 := 0) (Or.inr (Or.inr (Or.inl ⟨hy, h5, b3⟩)))
      unfold J_setEquations_176_138
      rw [n_half g (by omega), b1, ob_some, b2, ob_some, d2, ob_some, nm_eq, nI_addL]
      exact ih (g + 1) tf y4 s3 (by omega) (by omega) d4 ((fs.tr (b5.mono (by decide))).tr (d5.mono (by decide))) d3
    by_cases q : nI (hdT σ g) = nI f
    · rw [ifT q]
      by_cases q2 : nI g - nI g / 2 * 2 = 0
      · rw [ifT q2]; exact go 6 (by decide)
      · rw [ifF q2]; exact go 5 (by decide)
    · rw [ifF q, nm_eq, nI_addL]
      exact ih (g + 1) tf x5 s (by omega) (by omega) hF fs h5
end SUMS
