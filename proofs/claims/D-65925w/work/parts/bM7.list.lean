/-! Layer B: the flat model: a list of equations, both sides -/
set_option maxRecDepth 100000
section LIST7
variable {zb zb' : Nat} {C : PC} {D D' D1 D2 : FQ} {M M' M1 M2 M3 M0 : CM} {σ σ' σ1 σ2 σ0 s1 s8 : TS} {mss fss : List Nat} {B V I Bm K N K' N' E A Wn E' A' A0 Wn' v l k x0 dc md X N0 Lp Lp' w d s o n i nf R a b c n1 n2 f g h1 h2 j eq L E0 ow_ : Nat} {os : List Nat} {P T Y : Nat → Prop} {x2 x3 x3' x4 x y r kd : Int32} {z7 : Nat → Nat} {S : List Nat}
variable {cfK : Nat → Nat → CM → Option ((Unit ⊕ Nat) × CM)} {cfT : Int32 → Int32 → TS → Option (Unit × TS)}
abbrev hdL : Nat → CM → Option ((Unit ⊕ (Unit ⊕ Nat)) × CM) := fun w M => some (.inr (.inr w), M)
/-- what follows an equation -/
def Nxt (z7 : Nat → Nat) (C : PC) (B : Nat) (P : Nat → Prop) (mss fss : List Nat) (V I Bm Lp : Nat) (D : FQ) (M : CM) (σ : TS) (K N E A Wn : Nat) (kk : CM → Option ((Unit ⊕ (Unit ⊕ Nat)) × CM)) (tt : TS → Option (Unit × TS)) : Prop := (∀ D' M' σ' K' N' E' A' Wn', BS 1 z7 C B P mss fss V I Bm Lp 0 D' M' σ' K' N' E' A' Wn' → (K ≤ K' ∧ N ≤ N' ∧ E ≤ E' ∧ A ≤ A' ∧ Wn ≤ Wn') → BTr V C P K N D M σ D' M' σ' → BO (γ := Unit) (β := Unit) 1 z7 C B P mss fss V I Bm Lp 0 Sum.inr D' M' σ' K' N' E' A' Wn' (kk M') (tt σ')) ∧ ∀ s, tI s 0 ≠ 0 → tt s = some ((), s)
/-- left = right -/
theorem eq_61 {kk : CM → Option ((Unit ⊕ (Unit ⊕ Nat)) × CM)} {tt : TS → Option (Unit × TS)} (hB1 : B ≤ 1280) (hi : i < I) (h : BS 1 z7 C B P mss fss V I Bm Lp 0 D M σ K N E A Wn) (nx : Nxt z7 C B P mss fss V I Bm Lp D M σ K N E A Wn kk tt) (ke : P eq ∧ mk M eq = 13) {e : Nat} (he : e < 3000 ∧ e < tE σ) (R1 : EqP C P M σ 0 (mR M 2401 eq) (tA σ 67 e)) (R2 : EqP C P M σ 0 (mR M 2402 eq) (tA σ 68 e)) : BO (γ := Unit) (β := Unit) 1 z7 C B P mss fss V I Bm Lp 0 Sum.inr D M σ K N E A Wn (obS (K_X0_flatten_2 (mR M 2401 eq) ((pl D 99).getD i 0) 0 (-1) M) hdL fun r81 M80 => if mk M80 eq = 13 then obS (K_X0_flatten_2 (mR M80 2402 eq) ((pl D 99).getD i 0) 0 (-1) M80) hdL fun r87 M86 => obS (K_X0_equation r81 r87 M86) hdL fun _ M91 => kk M91 else none) (ob (F_build (tA σ 67 e) (nI i) 0 1 σ) fun r9 s8 => if inb (nI e) 3000 then ob (F_build (tA s8 68 e) (nI i) 0 1 s8) fun r14 s13 => ob (F_addEquation r9 r14 s13) fun _ s17 => tt s17 else none) := by
  have ie : inb (nI e) 3000 := inb_nI' he.1 (by decide)
  obtain ⟨n, d, hn, hn9, Ar⟩ := R1
  rw [h.fw.1.2.1.2.1] at Ar
  rw [hn]
  refine h.fl hB1 hi (Nat.le_refl _) Ar (fun M' σ' w y g hy => ?_) (fun D' M' σ' K' N' a n' h' le bt T nd sz1 => ?_)
  · refine ⟨(), σ', ?_, g⟩
    rw [ifT ie, t_buildB g.ne, ob_some, t_addB g.ne, ob_some, nx.2 _ g.ne]
  · have se := bt.1.2.1.1 eq ke.1
    have R2' := R2.wz bt.1 (fun _ z => z)
    have q68 := (bt.1.2.2.2.1.2.1.2 e he.2).1 68 (by decide)
    rw [← q68, ← se.r] at R2'
    obtain ⟨n2, d2, hn2, hn9', Ar2⟩ := R2'
    rw [h'.fw.1.2.1.2.1] at Ar2
    have e99 : (pl D' 99).getD i 0 = (pl D 99).getD i 0 := (bt.2.1.1 99 i (by have := h.fx.1.1.2.1; omega)).2
    rw [ifT (show mk M' eq = 13 by rw [se.k]; exact ke.2), ifT ie, hn2, ← e99]
    refine h'.fl hB1 hi (Nat.le_refl _) Ar2 (fun M2 σ2 w y g _ => ?_) (fun D2 M2 σ2 K2 N2 a2 m2 h2 le2 bt2 T2 nd2 sz2 => ?_)
    · exact ⟨(), σ2, by rw [t_addB g.ne, ob_some, nx.2 _ g.ne], g⟩
    · refine (z_equation h2 (fun zz => pd2 (h.sm zz) bt.2.2.1.n4 T.2.2.2.2.1 (by decide) le.2 bt2.2.2.1.n4 T2.2.2.2.2.1 (by decide) le2.2 sz1 sz2) (NdR.mv bt2.2.2.1 le2.1 le2.2 (Nat.le_refl V) 100 100 0 _ _ (Nat.le_refl _) nd) nd2).seq (fun _ _ => rfl) (fun M3 σ3 w y g => ?_) (fun D3 M3 σ3 K3 N3 E3 A3 Wn3 r y h3 le3 bt3 => ?_)
      · exact ⟨(), σ3, nx.2 _ g.ne, g⟩
      · exact nx.1 D3 M3 σ3 K3 N3 E3 A3 Wn3 h3 (by omega) ((bt.tr bt2 le.1 le.2).tr bt3 (by omega) (by omega))
/-- if -/
theorem eq_21 {kk : CM → Option ((Unit ⊕ (Unit ⊕ Nat)) × CM)} {tt : TS → Option (Unit × TS)} (ih : LsH z7 C B P mss fss V I Bm L d cfK cfT) (hL : Lp + d ≤ 18) (hB1 : B ≤ 1280) (hi : i < I) (h : BS 1 z7 C B P mss fss V I Bm Lp 0 D M σ K N E A Wn) (nx : Nxt z7 C B P mss fss V I Bm Lp D M σ K N E A Wn kk tt) (ke : P eq ∧ mk M eq = 13) {e p1 p2 : Nat} {os1 os2 : List Nat} (he : e < 3000 ∧ e < tE σ) (Ar : EqP C P M σ 1 (mR M 2401 eq) (tA σ 67 e)) (hl1 : LsP P M (mR M 2406 eq) os1) (hp1 : tA σ 68 e = nI p1) (hq1 : EqL (EqR C P M σ L d 0) L e σ os1 p1) (hl2 : LsP P M (mR M 2407 eq) os2) (hp2 : tA σ 69 e = nI p2) (hq2 : EqL (EqR C P M σ L d 0) L e σ os2 p2) : BO (γ := Unit) (β := Unit) 1 z7 C B P mss fss V I Bm Lp 0 Sum.inr D M σ K N E A Wn (kTr eq ((pl D 99).getD i 0) hdL (fun r130 M129 => if r130 = 0 then if mk M129 eq = 13 then obS (cfK ((pl D 99).getD i 0) (mR M129 2407 eq) M129) hdL fun _ M135 => kk M135 else none else if mk M129 eq = 13 then obS (cfK ((pl D 99).getD i 0) (mR M129 2406 eq) M129) hdL fun _ M142 => kk M142 else none) M) (ob (F_truth (tA σ 67 e) (nI i) σ) fun r70 s69 => ob (F_isBad s69) fun r74 s73 => if r74 = 0 then if r70 = 0 then if inb (nI e) 3000 then ob (cfT (tA s73 69 e) (nI i) s73) fun _ s80 => tt s80 else none else if inb (nI e) 3000 then ob (cfT (tA s73 68 e) (nI i) s73) fun _ s87 => tt s87 else none else tt s73) := by
  have ie : inb (nI e) 3000 := inb_nI' he.1 (by decide)
  rcases z_truth (hd := hdL) (kk := fun r130 M129 => if r130 = 0 then if mk M129 eq = 13 then obS (cfK ((pl D 99).getD i 0) (mR M129 2407 eq) M129) hdL fun _ M135 => kk M135 else none else if mk M129 eq = 13 then obS (cfK ((pl D 99).getD i 0) (mR M129 2406 eq) M129) hdL fun _ M142 => kk M142 else none) hB1 hi h ke Ar with ⟨M', σ', w, y, a1, a2, g⟩ | ⟨D', M', σ', r, y, a1, a2, a3, h', bt⟩
  · rw [a1, a2, ob_some, t_isBad1 g.ne, ob_some, ifF (show ¬ (1 : Int32) = 0 by decide), nx.2 _ g.ne]
    exact Or.inl ⟨M', σ', w, (), rfl, rfl, g⟩
  · rw [a1, a2, ob_some, t_isBad0 h'.h0, ob_some, ifT (rfl : (0 : Int32) = 0)]
    have se := bt.1.2.1.1 eq ke.1
    have km : mk M' eq = 13 := by rw [se.k]; exact ke.2
    have q6 := (bt.1.2.2.2.1.2.1.2 e he.2).1
    have e99 : (pl D' 99).getD i 0 = (pl D 99).getD i 0 := (bt.2.1.1 99 i (by have := h.fx.1.1.2.1; omega)).2
    have hE : e ≤ tE σ' ∧ e ≤ 3000 := ⟨by have := bt.1.2.2.2.1.2.1.1; omega, by omega⟩
    have fin : ∀ lx os p, LsP P M lx os → EqL (EqR C P M σ L d 0) L e σ os p → BO (γ := Unit) (β := Unit) 1 z7 C B P mss fss V I Bm Lp 0 Sum.inr D' M' σ' K N E A Wn (obS (cfK ((pl D 99).getD i 0) lx M') hdL fun _ M142 => kk M142) (ob (cfT (nI p) (nI i) σ') fun _ s87 => tt s87) := fun lx os p hl hq => by
      have := ih Lp 0 i D' M' σ' K N E A Wn lx os p e (by decide) hL hi h' (hl.wz bt.1 (fun _ z => z)) hE (hq.bt bt (by omega))
      rw [e99] at this
      refine this.seq (fun _ _ => rfl) (fun M3 σ3 w y g => ?_) (fun D3 M3 σ3 K3 N3 E3 A3 Wn3 r y h3 le3 bt3 => ?_)
      · exact ⟨(), σ3, nx.2 _ g.ne, g⟩
      · exact nx.1 D3 M3 σ3 K3 N3 E3 A3 Wn3 h3 le3 (bt.tr bt3 (Nat.le_refl _) (Nat.le_refl _))
    refine BO.pre bt ⟨Nat.le_refl _, Nat.le_refl _, Nat.le_refl _, Nat.le_refl _, Nat.le_refl _⟩ ?_
    show BO 1 z7 C B P mss fss V I Bm Lp 0 Sum.inr D' M' σ' K N E A Wn (if r = 0 then if mk M' eq = 13 then obS (cfK ((pl D 99).getD i 0) (mR M' 2407 eq) M') hdL fun _ M135 => kk M135 else none else if mk M' eq = 13 then obS (cfK ((pl D 99).getD i 0) (mR M' 2406 eq) M') hdL fun _ M142 => kk M142 else none) (if y = 0 then if inb (nI e) 3000 then ob (cfT (tA σ' 69 e) (nI i) σ') fun _ s80 => tt s80 else none else if inb (nI e) 3000 then ob (cfT (tA σ' 68 e) (nI i) σ') fun _ s87 => tt s87 else none)
    by_cases q : r = 0
    · rw [ifT q, ifT (a3.mp q), ifT km, ifT ie, se.r, q6 69 (by decide), hp2]
      exact fin _ os2 p2 hl2 hq2
    · rw [ifF q, ifF (fun z => q (a3.mpr z)), ifT km, ifT ie, se.r, q6 68 (by decide), hp1]
      exact fin _ os1 p1 hl1 hq1
theorem t_eq2b (h : tI σ 0 ≠ 0) (x : Int32) : L_equationsOf_2 cfT (k + 1) x2 x σ = some ((), σ) := by
  unfold L_equationsOf_2
  by_cases q : x = 0
  · rw [ifT q]
  · rw [ifF q, t_isBad1 h, ob_some, ifF (show ¬ (1 : Int32) = 0 by decide)]
end LIST7
