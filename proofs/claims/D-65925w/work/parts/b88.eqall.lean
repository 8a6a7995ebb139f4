/-! Layer B: equations: all of them -/
set_option maxRecDepth 100000
section EQALL
variable {C Cb : PC} {M M' Mb : CM} {σ σ' σ0 σb : TS} {i dep c s n ib depb cb' sb' nb' l fl m dK dT : Nat}
/-- what an equation owes where it may be nested m deep -/
def EqO (m : Nat) : Prop := ∀ (C : PC) (M : CM) (σ : TS) (i dep c s n dK dT fl : Nat) (x : Int32), PE C M σ i dep c s n → 80 ≤ c → 8000 ≤ s → 20 ≤ n → 17 ≤ dep + m → 3 * m + 1 ≤ dK → 3 * m + 1 ≤ dT → fl ≠ 1 → (x = 0 ∨ x = 1 ∧ fl = 2) → Rje C M σ (GE C M σ i dep (c + 16) (s + 2048) n fl) (kU (KG_X2_equation dK).1 x M) ((G_equations dT).2.1 x σ)
/-- a row inside, of units -/
theorem row_in (h : EqO m) (Pb : PE Cb Mb σ0 ib depb cb' sb' nb') (hD : ∀ M o, Dp C M o → Dp Cb M o) (hc : 80 ≤ c) (hs : 8000 ≤ s) (hn : 20 ≤ n) (hm : 17 ≤ dep + m) (hK : 3 * m + 2 ≤ dK) (hT : 3 * m + 2 ≤ dT) (hib : ib ≤ i) (E : Ek Mb M) (P : PE C M σ i dep c s n) (hL : LsQ Mb M l []) : Rje C Mb σ (GR C Mb σ i dep c s n 0 l M) ((KG_X2_equation dK).2.1 l 0 M) ((G_equations dT).1 0 σ) := by
  obtain ⟨dK, rfl⟩ : ∃ k, dK = k + 1 := ⟨dK - 1, by omega⟩
  obtain ⟨dT, rfl⟩ : ∃ k, dT = k + 1 := ⟨dT - 1, by omega⟩
  exact erow_ok Pb hD (fun M σ i _ P => h C M σ i dep c s n dK dT 0 0 P hc hs hn hm (by omega) (by omega) (by decide) (Or.inl rfl)) hc hs hib E P hL
/-- a fault is kept by a row inside -/
theorem bwe_eqs {C : PC} {σ1 s1 : TS} (hT : 1 ≤ dT) (h : Bre C σ1 s1) : BWe C σ1 ((G_equations dT).1 0 s1) := by
  obtain ⟨dT, rfl⟩ : ∃ k, dT = k + 1 := ⟨dT - 1, by omega⟩
  show BWe C σ1 (B_equations (G_equations dT).2.1 0 s1)
  unfold B_equations
  rw [FUs, L_equations_4, t_isBad1 h.b, ob_some, ifF (by decide), obS_inl]
  exact BWe.sm h
theorem eqo_all : ∀ m, EqO m := by
  intro m
  induction m with
  | zero =>
    intro C M σ i dep c s n dK dT fl x P hc hs hn hm
    have := P.1.2.2.1.2.2
    omega
  | succ m ih =>
    intro C M σ i dep c s n dK dT fl x P hc hs hn hm hK hT hfl hx
    obtain ⟨dK, rfl⟩ : ∃ k, dK = k + 2 := ⟨dK - 2, by omega⟩
    obtain ⟨dT, rfl⟩ : ∃ k, dT = k + 2 := ⟨dT - 2, by omega⟩
    refine unit_ok (f1 := (G_equations (dT + 1)).2.2.1) (f2 := (G_equations (dT + 1)).2.2.2) P hc hs hn hfl (fun M1 σ1 P1 h0 => ?_) (fun M1 σ1 P1 h0 => ?_)
    · have hx' : x = 0 ∨ x = 1 := by rcases hx with h | h; exact Or.inl h; exact Or.inr h.1
      refine eq_hB (cE := (KG_X2_equation (dK + 1)).2.1) (cI := (KG_X2_equation (dK + 1)).2.2) P1 hc hs hn hfl hx' (fun M' hk hi h11 h18 => ?_) (fun hi h11 h21 => ?_) (fun hx1 hi h11 h16 => ?_)
      · have hk2 : M' = msI M1 405 90 (nI (i + 1)) := by
          rcases z_takeKey P1.1 (j := 18) (x := 18) (y := 6713202) rfl (by decide) (by decide) with ⟨σ', t1, _⟩ | ⟨t1, _⟩
          · rw [t1] at hk; injection hk with hk; injection hk with _ hk; exact hk.symm
          · rw [t1] at hk; injection hk with hk; injection hk with hk _; exact absurd hk (by decide)
        rw [hk2]
        exact eqn_18 P1 hc hs hn hfl hi (fun hd w M4 σ4 i4 l h4 E4 P4 L4 => row_in (C := C.fo w) ih P1 (fun _ _ h => h) hc hs hn (by omega) (by omega) (by omega) h4 E4.1 P4 L4)
      · exact eqn_21 P1 hc hs hn hfl hi (fun _ _ hb => bwe_eqs (by omega) hb) (fun hd M4 σ4 i4 l h4 E4 P4 L4 => row_in ih P1 (fun _ _ h => h) hc hs hn (by omega) (by omega) (by omega) h4 E4.1 P4 L4)
      · rcases hx with h | ⟨_, h⟩
        · rw [h] at hx1; exact absurd hx1 (by decide)
        · rw [h]; exact eqn_16 P1 hc hs hn hi
    · exact eq_end P1 hc hs h0
/-- the equations of a class -/
theorem z_eqs (Pb : PE C Mb σ0 ib depb cb' sb' nb') (hc : 80 ≤ c) (hs : 8000 ≤ s) (hn : 20 ≤ n) (hd : 0 ≤ dep) (hib : ib ≤ i) (E : Ek Mb M) (P : PE C M σ i dep c s n) (hL : LsQ Mb M l []) : Rje C Mb σ (GR C Mb σ i dep c s n 2 l M) (K_X2_equations l 1 M) (F_equations 1 σ) :=
  erow_ok (cfK := (KG_X2_equation 59).1) (cfT := (G_equations 59).2.1) Pb (fun _ _ h => h) (fun M σ i _ P => eqo_all 17 C M σ i dep c s n 59 59 2 1 P hc hs hn (by omega) (by decide) (by decide) (by decide) (Or.inr ⟨rfl, rfl⟩)) hc hs hib E P hL
end EQALL
