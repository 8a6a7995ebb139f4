/-! Layer B: the flat model: discrete variables are looked at -/
set_option maxRecDepth 100000
section DISCRETES
variable {zb zb' : Nat} {fx : Int32} {C : PC} {D D' D1 D2 : FQ} {M M' M1 M2 M3 M0 : CM} {σ σ' σ1 σ2 σ0 s1 s8 s : TS} {mss fss : List Nat} {B V I Bm K N K' N' E A Wn E' A' A0 Wn' v l k x0 dc md X N0 Lp Lp' w d i nf R a f h1 h2 eq L n : Nat} {os : List Nat} {P T Y : Nat → Prop} {x x2 x3 x3' x4 y r kd : Int32} {z7 : Nat → Nat} {S : List Nat}
theorem HdK.det {x : Int32} {h a : Nat} {p p' : Bool} (g1 : HdK M x h a p) (g2 : HdK M x h a p') : p = p' := by
  have e1 := g1 (h + 1) (by omega)
  have e2 := g2 (h + 1) (by omega)
  rw [e1] at e2
  have := (Prod.mk.inj (Option.some.inj e2)).1
  cases p <;> cases p' <;> first | rfl | (exact absurd this (by decide))
/-- one tree, in the state and in the failed state -/
theorem BS.hd (h : BS zb z7 C B P mss fss V I Bm Lp x3 D M σ K N E A Wn) (hn : NdR fx D M σ 106 V 100 0 K N a n) : ∃ p, K_X0_hasDer a x M = some (b1 p, M) ∧ ∀ s, Ft [0, 1] σ s → F_hasDer (nI n) x s = some (b1 p, s) := by
  have hl := h.hl
  obtain ⟨p, g1, -⟩ := z_hasDer h.fw rfl hl (x := x) 100 0 a n (Nat.le_refl _) hn
  refine ⟨p, g1 300 (by decide), fun s f => ?_⟩
  have nk : NdK D M σ D M s 106 K N := NdK.tws f (by decide)
  obtain ⟨p', g1', g2'⟩ := z_hasDer h.fw rfl hl (x := x) 100 0 a n (Nat.le_refl _) (hn.mv nk (Nat.le_refl _) (Nat.le_refl _) (Nat.le_refl _) 100 100 0 a n (Nat.le_refl _))
  rw [g1.det g1']
  exact g2'.g (Nat.le_refl _) 300 (by decide) (by decide)
/-- K_X0_isDerived and F_isDerived -/
theorem z_isDer (h : BS zb z7 C B P mss fss V I Bm Lp x3 D M σ K N E A Wn) (x : Int32) : ∃ p, K_X0_isDerived x M = some (b1 p, M) ∧ ∀ s, Ft [0, 1] σ s → F_isDerived x s = some (b1 p, s) := by
  have W := h.fw
  obtain ⟨⟨c1, c2, c3, c4⟩, c5⟩ := h.2.2.1
  have main : ∀ (m j f f' : Nat), j + m = E → m < f → m < f' → ∃ p : Bool, KL_X0_isDerived_2 f x (nI j) M = some (if p then .inr 1 else .inl (), M) ∧ ∀ s, Ft [0, 1] σ s → L_isDerived_2 f' x (nI j) s = some (if p then .inr 1 else .inl (), s) := by
    intro m
    induction m with
    | zero =>
      intro j f f' hj hf hf'
      obtain ⟨f, rfl⟩ : ∃ g, f = g + 1 := ⟨f - 1, by omega⟩
      obtain ⟨f', rfl⟩ : ∃ g, f' = g + 1 := ⟨f' - 1, by omega⟩
      have le : nI E ≤ nI j := (bI_le (by omega) (by omega)).mpr (by omega)
      refine ⟨false, ?_, fun s fs => ?_⟩
      · unfold KL_X0_isDerived_2
        rw [c1, ifT le]; rfl
      · unfold L_isDerived_2
        rw [(fs 143 rfl).1, c2, ifT le]; rfl
    | succ m ih =>
      intro j f f' hj hf hf'
      obtain ⟨f, rfl⟩ : ∃ g, f = g + 1 := ⟨f - 1, by omega⟩
      obtain ⟨f', rfl⟩ : ∃ g, f' = g + 1 := ⟨f' - 1, by omega⟩
      have nx : nI j + 1 = nI (j + 1) := nI_addL j 1
      have le : ¬ nI E ≤ nI j := fun z => by have := (bI_le (by omega) (by omega)).mp z; omega
      have get : K_J2_get 111 (nI j) M = some ((pl D 111).getD j 0, M) := ls_get (W.2.1.1 111 (by decide)).1 (by omega)
      have kk : mk M ((pl D 111).getD j 0) = 19 := (W.2.1.2.1 111 (by decide) j (by omega)).1
      obtain ⟨⟨n1, a1, b1'⟩, n2, a2, b2'⟩ := c5 j (by omega)
      have ij : inb (nI j) 400 := inb_nI' (by omega) (by decide)
      have xj : ix (nI j) = j := ix_nI (by omega)
      obtain ⟨p, g1, g2⟩ := ih (j + 1) f f' (by omega) (by omega) (by omega)
      obtain ⟨p1, u1, u2⟩ := h.hd (x := x) b1'
      obtain ⟨p2, v1, v2⟩ := h.hd (x := x) b2'
      refine ⟨p1 || p2 || p, ?_, fun s fs => ?_⟩
      · unfold KL_X0_isDerived_2
        rw [c1, ifF le, get, ob_some, ifT (Or.inr kk), ifT kk, u1, ob_some]
        cases p1
        · rw [ifT (show b1 false = 0 from rfl), get, ob_some, ifT (Or.inr kk), ifT kk, v1, ob_some]
          cases p2
          · rw [ifT (show b1 false = 0 from rfl), nm_eq, nx, g1]; rfl
          · rw [ifF (show ¬ b1 true = 0 by decide)]; rfl
        · rw [ifF (show ¬ b1 true = 0 by decide)]; rfl
      · unfold L_isDerived_2
        rw [(fs 143 rfl).1, c2, ifF le, ifT ij, xj, (fs 141 rfl).2.2.1, a1, u2 s fs, ob_some]
        cases p1
        · rw [ifT (show b1 false = 0 from rfl), ifT ij, (fs 142 rfl).2.2.1, a2, v2 s fs, ob_some]
          cases p2
          · rw [ifT (show b1 false = 0 from rfl), nm_eq, nx, g2 s fs]; rfl
          · rw [ifF (show ¬ b1 true = 0 by decide)]; rfl
        · rw [ifF (show ¬ b1 true = 0 by decide)]; rfl
  have hFU : 400 < FU := by unfold FU; decide
  obtain ⟨p, e1, e2⟩ := main E 0 FU FU (by omega) (by omega) (by omega)
  refine ⟨p, ?_, fun s fs => ?_⟩
  · unfold K_X0_isDerived
    rw [show (0 : Int32) = nI 0 from rfl, e1]
    cases p
    · rw [ifF (show ¬ false = true by decide), obS_inl]; rfl
    · rw [ifT rfl, obS_inr]; rfl
  · unfold F_isDerived
    rw [show (0 : Int32) = nI 0 from rfl, e2 s fs]
    cases p
    · rw [ifF (show ¬ false = true by decide), obS_inl]; rfl
    · rw [ifT rfl, obS_inr]; rfl
/-- the twin's failed state goes through the first loop -/
theorem t_ca2b (h : BS zb z7 C B P mss fss V I Bm Lp x3 D M σ K N E A Wn) (f0 : Ft [0, 1] σ s) (hb : tI s 0 ≠ 0) : ∀ (m j f : Nat), j + m = A → m < f → L_checkActions_2 f (nI j) s = some ((), s) := by
  obtain ⟨⟨c1, c2, c3, c4⟩, c5⟩ := h.2.2.2.1
  intro m
  induction m with
  | zero =>
    intro j f hj hf
    obtain ⟨f, rfl⟩ : ∃ g, f = g + 1 := ⟨f - 1, by omega⟩
    unfold L_checkActions_2
    rw [(f0 152 rfl).1, c2, ifT ((bI_le (by omega) (by omega)).mpr (by omega))]
  | succ m ih =>
    intro j f hj hf
    obtain ⟨f, rfl⟩ : ∃ g, f = g + 1 := ⟨f - 1, by omega⟩
    have nx : nI j + 1 = nI (j + 1) := nI_addL j 1
    have le : ¬ nI A ≤ nI j := fun z => by have := (bI_le (by omega) (by omega)).mp z; omega
    have ij : inb (nI j) 200 := inb_nI' (by omega) (by decide)
    have go := ih (j + 1) f (by omega) (by omega)
    unfold L_checkActions_2
    rw [(f0 152 rfl).1, c2, ifF le, ifT ij]
    by_cases q : tA s 149 (ix (nI j)) = 7
    · obtain ⟨p, -, g2⟩ := z_isDer h (tA s 150 (ix (nI j)))
      rw [ifT q, ifT ij, g2 s f0, ob_some]
      cases p
      · rw [ifT (show b1 false = 0 from rfl), t_bad1 hb, ob_some, nm_eq, nx, go]
      · rw [ifF (show ¬ b1 true = 0 by decide), nm_eq, nx, go]
    · rw [ifF q, nm_eq, nx, go]
/-- is a variable assigned: the twin's loop, in any state with the same tables -/
theorem t_ca90 (hA : A ≤ 200) (h152 : tI s 152 = nI A) : ∀ (m j f : Nat) (q y : Int32), j + m = A → m < f → ∃ r, L_checkActions_90 f x q y (nI j) s = some (r, s) := by
  intro m
  induction m with
  | zero =>
    intro j f q y hj hf
    obtain ⟨f, rfl⟩ : ∃ g, f = g + 1 := ⟨f - 1, by omega⟩
    unfold L_checkActions_90
    rw [h152, ifT ((bI_le (by omega) (by omega)).mpr (by omega))]
    exact ⟨_, rfl⟩
  | succ m ih =>
    intro j f q y hj hf
    obtain ⟨f, rfl⟩ : ∃ g, f = g + 1 := ⟨f - 1, by omega⟩
    have nx : nI j + 1 = nI (j + 1) := nI_addL j 1
    have le : ¬ nI A ≤ nI j := fun z => by have := (bI_le (by omega) (by omega)).mp z; omega
    have ij : inb (nI j) 200 := inb_nI' (by omega) (by decide)
    have go := fun y => ih (j + 1) f q y (by omega) (by omega)
    unfold L_checkActions_90
    rw [h152, ifF le]
    by_cases z1 : y = 0
    · rw [ifT z1, ifT ij]
      by_cases z2 : tA s 149 (ix (nI j)) = 6
      · rw [ifT z2, ifT ij]
        by_cases z3 : tA s 150 (ix (nI j)) = x
        · rw [ifT z3, nm_eq, nx]; exact go 1
        · rw [ifF z3, nm_eq, nx]; exact go 0
      · rw [ifF z2, nm_eq, nx]; exact go 0
    · rw [ifF z1, nm_eq, nx]; exact go 1
theorem t_ca49b (hA : A ≤ 200) (h152 : tI s 152 = nI A) (hV : V ≤ 96) (h107 : tI s 107 = nI V) (hb : tI s 0 ≠ 0) : ∀ (m j f : Nat), j + m = V → m < f → L_checkActions_49 f (nI j) s = some ((), s) := by
  have hFU : 200 < FU := by unfold FU; decide
  intro m
  induction m with
  | zero =>
    intro j f hj hf
    obtain ⟨f, rfl⟩ : ∃ g, f = g + 1 := ⟨f - 1, by omega⟩
    unfold L_checkActions_49
    rw [h107, ifT ((bI_le (by omega) (by omega)).mpr (by omega))]
  | succ m ih =>
    intro j f hj hf
    obtain ⟨f, rfl⟩ : ∃ g, f = g + 1 := ⟨f - 1, by omega⟩
    have nx : nI j + 1 = nI (j + 1) := nI_addL j 1
    have le : ¬ nI V ≤ nI j := fun z => by have := (bI_le (by omega) (by omega)).mp z; omega
    have ij : inb (nI j) 96 := inb_nI' (by omega) (by decide)
    have go := ih (j + 1) f (by omega) (by omega)
    have jj : ∀ y, J_checkActions_84_49 (L_checkActions_49 f) (nI j) y s = some ((), s) := fun y => by
      obtain ⟨r, e⟩ := t_ca90 (x := nI j) hA h152 A 0 FU y 0 (by omega) (by omega)
      unfold J_checkActions_84_49
      rw [show L_checkActions_90 FU (nI j) y 0 0 s = some (r, s) from e, ob_some]
      by_cases z1 : y = 0
      · rw [ifT z1, t_bad1 hb, ob_some, nm_eq, nx, go]
      · rw [ifF z1]
        by_cases z2 : r = 0
        · rw [ifT z2, t_bad1 hb, ob_some, nm_eq, nx, go]
        · rw [ifF z2, nm_eq, nx, go]
    unfold L_checkActions_49
    rw [h107, ifF le, ifT ij]
    by_cases z1 : tA s 94 (ix (nI j)) = 2
    · rw [ifT z1, ifT ij]
      by_cases z2 : tA s 100 (ix (nI j)) = 0
      · rw [ifT z2]; exact jj 1
      · rw [ifF z2]; exact jj 0
    · rw [ifF z1, nm_eq, nx, go]
end DISCRETES
