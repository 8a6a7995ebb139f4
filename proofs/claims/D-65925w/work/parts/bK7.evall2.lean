/-! Layer B: values of nodes: both sides alike, by induction -/
set_option maxRecDepth 100000
/-- leaves and relations: what the evaluation does there -/
def LfH (Inv : IvT) (Bad : BdT) (M0 : CM) (σ0 : TS) (R : Nat → Nat → Nat → Nat → Prop) (Lf : Nat → Nat → Nat → Prop) (KV KC : Nat → KVT) (k0 t0 L : Nat) (x2 : Int32) : Prop :=
  (∀ h kf tf s t M σ a n, k0 ≤ kf → t0 ≤ tf → R (h + 1) 0 a n → Lf 0 a n → Inv s t M σ → s ≤ L → VO Inv Bad s t (KV kf a M) (gW tf (nI n) x2 σ)) ∧
  (∀ a n, Lf 0 a n → ¬ (tA σ0 121 n = 5 ∨ tA σ0 121 n = 6 ∨ tA σ0 121 n = 8 ∨ tA σ0 121 n = 9)) ∧
  (∀ h kf tf s t M σ a n, k0 ≤ kf → t0 ≤ tf → R (h + 1) 1 a n → Lf 1 a n → Inv s t M σ → s ≤ L → VO Inv Bad s t (KC kf a M) (gH tf (nI n) x2 σ)) ∧
  ∀ h, EvN Inv Bad R KV k0 t0 L x2 h → ∀ kf tf s t M σ a n x z, k0 + (h + 1) ≤ kf → t0 + 2 * (h + 1) ≤ tf → R (h + 1) 1 a n → tA σ0 121 n = 20 → (mI M0 3400 a, tA σ0 122 n) ∈ rlF → tA σ0 123 n = nI x → R h 0 (mR M0 3405 a) x → tA σ0 124 n = nI z → R h 0 (mR M0 3406 a) z → Inv s t M σ → s + (h + 1) ≤ L → VO Inv Bad s t (KC kf a M) (gH tf (nI n) x2 σ)
section EVALL2
variable {Inv : IvT} {Bad : BdT} {R : Nat → Nat → Nat → Nat → Prop} {KV KC : Nat → KVT} {k0 t0 L h kf tf d s a n x z q : Nat} {x2 op tok : Int32} {M0 M : CM} {σ0 σ : TS} {t : Nat → Int32} {Lf : Nat → Nat → Nat → Prop}
theorem ev_num (hS : Sk Inv Bad M0 σ0 R) (hE : KEq KV KC) (r0 : R (h + 1) 0 a n) (h1 : mI M0 3400 a = 0) (h2 : tA σ0 121 n = 0) (h3 : mI M0 3401 a = tA σ0 122 n) (hk : 1 ≤ kf) (ht : 1 ≤ tf) (I : Inv s t M σ) : VO Inv Bad s t (KV kf a M) (gW tf (nI n) x2 σ) := by
  obtain ⟨kf, rfl⟩ : ∃ g, kf = g + 1 := ⟨kf - 1, by omega⟩
  obtain ⟨tf, rfl⟩ : ∃ g, tf = g + 1 := ⟨tf - 1, by omega⟩
  obtain ⟨⟨i1, i2, i3⟩, ⟨i4, i5⟩, i6⟩ := hS.1 s t M σ I
  obtain ⟨⟨n1, n2⟩, ⟨n3, n4, n5, n6, n7⟩, n8, n9, n10, n11⟩ := i6 _ _ _ _ r0
  rw [(hE kf a M n1).1 (n3.trans h1), t_wNum i1 n2 (n8.trans h2), n4, n9, h3]
  exact Or.inr ⟨_, M, σ, rfl, rfl, I⟩
/-- a chain, from above -/
theorem ev_ch (hS : Sk Inv Bad M0 σ0 R) (hE : KEq KV KC) (hL : L ≤ 70000) (sp : SpA Inv Bad R KV k0 t0 L x2 h) (ev : EvN Inv Bad R KV k0 t0 L x2 h) (r0 : R (h + 1) 0 a n) (hop : (mI M0 3400 a, tA σ0 121 n) ∈ arP) (hx : tA σ0 122 n = nI x) (rx : R h 0 (mR M0 3405 a) x) (hz : tA σ0 123 n = nI z) (rz : R h 0 (mR M0 3406 a) z) (hk : k0 + (h + 1) ≤ kf) (ht : t0 + 2 * (h + 1) ≤ tf) (I : Inv s t M σ) (hs : s + (h + 1) ≤ L) : VO Inv Bad s t (KV kf a M) (gW tf (nI n) x2 σ) := by
  have fu : 200000 ≤ FU := by unfold FU; decide
  obtain ⟨e, rfl⟩ : ∃ e, tf = e + 1 + 1 := ⟨tf - 2, by omega⟩
  obtain ⟨m, m1, m2⟩ := sp_step (d := e) hS hE hL sp ev r0 hop hx rx hz rz hk (by omega) I hs
  obtain ⟨hS1, push, pop, bad, bpop, mkb⟩ := hS
  obtain ⟨⟨i1, i2, i3⟩, ⟨i4, i5⟩, i6⟩ := hS1 s t M σ I
  obtain ⟨⟨n1, n2⟩, ⟨n3, n4, n5, n6, n7⟩, n8, n9, n10, n11⟩ := i6 _ _ _ _ r0
  have ar : tA σ0 121 n = 5 ∨ tA σ0 121 n = 6 ∨ tA σ0 121 n = 8 ∨ tA σ0 121 n = 9 := by
    simp only [arP, List.mem_cons, List.not_mem_nil, or_false, Prod.mk.injEq] at hop
    rcases hop with ⟨q1, q2⟩ | ⟨q1, q2⟩ | ⟨q1, q2⟩ | ⟨q1, q2⟩ <;> rw [q2] <;> decide
  have g1 : gW (e + 1 + 1) (nI n) x2 σ = spn e FU FU s n x2 σ := by
    rw [t_wCh (op := tA σ0 121 n) i1 n2 n8 ar, gC_s]
    unfold B_chainValue spn
    rw [i2, nm_eq]
    congr 1
    funext q s14
    congr 1
    funext r s16
    exact ob_id _
  have g2 : ∀ y σ', tI σ' 171 = nI s → L_chainValue_63 (gW e) (FU - m) x2 (nI s) y σ' = some (y, σ') := fun y σ' hh => by
    obtain ⟨g, hg⟩ : ∃ g, FU - m = g + 1 := ⟨FU - m - 1, by omega⟩
    rw [hg, L_chainValue_63, hh, ifT ((bI_le (by omega) (by omega)).mpr (Nat.le_refl s))]
  have fm : FU - m + m = FU := by omega
  rw [g1]
  rcases m2 with ⟨M', σ', w, y, b1, b2, b3⟩ | ⟨v, M', σ', b1, b2, b3⟩
  · have := b3 s FU (FU - m) (Nat.le_refl s) (by omega)
    rw [fm, g2 y σ' (bad _ _ _ _ _ b2).2] at this
    exact Or.inl ⟨M', σ', w, y, b1, this, b2⟩
  · have := b3 s FU (FU - m) (Nat.le_refl s) (by omega)
    rw [fm, g2 v σ' (hS1 _ _ _ _ b2).1.2.1] at this
    exact Or.inr ⟨v, M', σ', b1, this, b2⟩
/-- no chain: the bottom -/
theorem sp_bot (hS : Sk Inv Bad M0 σ0 R) (r0 : R h 0 a n) (hop : ¬ (tA σ0 121 n = 5 ∨ tA σ0 121 n = 6 ∨ tA σ0 121 n = 8 ∨ tA σ0 121 n = 9)) (I : Inv s t M σ) (hv : VO Inv Bad s t (KV kf a M) (gW d (nI n) x2 σ)) : SpO Inv Bad x2 h d s t n (KV kf a M) σ := by
  obtain ⟨⟨i1, i2, i3⟩, ⟨i4, i5⟩, i6⟩ := hS.1 s t M σ I
  obtain ⟨⟨n1, n2⟩, ⟨n3, n4, n5, n6, n7⟩, n8, n9, n10, n11⟩ := i6 _ _ _ _ r0
  have down : ∀ base f g, h < f → spn d f g base n x2 σ = ob (gW d (nI n) x2 σ) fun r s => L_chainValue_63 (gW d) g x2 (nI base) r s := fun base f g hf => by
    obtain ⟨f, rfl⟩ : ∃ g, f = g + 1 := ⟨f - 1, by omega⟩
    unfold spn
    rw [L_chainValue_8, ifT (inb_nI' n2 (by decide)), ix_nI (show n < 2147483648 by omega), t_arith, ob_some, n8, if_neg hop, ifT rfl, ob_some]
  refine ⟨0, Nat.zero_le _, ?_⟩
  rcases hv with ⟨M', σ', w, y, b1, b2, b3⟩ | ⟨v, M', σ', b1, b2, b3⟩
  · exact Or.inl ⟨M', σ', w, y, b1, b3, fun base f g _ hf => by rw [down base f _ hf, b2, ob_some]; rfl⟩
  · exact Or.inr ⟨v, M', σ', b1, b3, fun base f g _ hf => by rw [down base f _ hf, b2, ob_some]; rfl⟩
theorem ev_all (hS : Sk Inv Bad M0 σ0 R) (hE : KEq KV KC) (hL : L ≤ 70000) (hk0 : 1 ≤ k0) (ht0 : 1 ≤ t0) (hR0 : ∀ s a n, ¬ R 0 s a n) (hR : ∀ h s a n, R (h + 1) s a n → NoC M0 σ0 Lf (R h) s a n) (hLf : LfH Inv Bad M0 σ0 R Lf KV KC k0 t0 L x2) : ∀ h, EvN Inv Bad R KV k0 t0 L x2 h ∧ EvC Inv Bad R KC k0 t0 L x2 h ∧ SpA Inv Bad R KV k0 t0 L x2 h := by
  intro h
  induction h with
  | zero => exact ⟨fun _ _ _ _ _ _ _ _ _ _ r0 => absurd r0 (hR0 _ _ _), fun _ _ _ _ _ _ _ _ _ _ r0 => absurd r0 (hR0 _ _ _), fun _ _ _ _ _ _ _ _ _ _ r0 => absurd r0 (hR0 _ _ _)⟩
  | succ h ih =>
    obtain ⟨evn, evc, spa⟩ := ih
    obtain ⟨l1, l2, l3, l4⟩ := hLf
    have arith : ∀ a n, (mI M0 3400 a, tA σ0 121 n) ∈ biF → (mI M0 3400 a, tA σ0 121 n) ∈ arP ∨ ((mI M0 3400 a = 10 ∧ tA σ0 121 n = 14) ∨ (mI M0 3400 a = 11 ∧ tA σ0 121 n = 15)) := fun a n hop => by
      simp only [List.mem_cons, List.not_mem_nil, or_false, Prod.mk.injEq] at hop
      simp only [arP, List.mem_cons, List.not_mem_nil, or_false, Prod.mk.injEq]
      rcases hop with z | z | z | z | z | z
      · exact Or.inl (Or.inl z)
      · exact Or.inl (Or.inr (Or.inl z))
      · exact Or.inl (Or.inr (Or.inr (Or.inl z)))
      · exact Or.inl (Or.inr (Or.inr (Or.inr z)))
      · exact Or.inr (Or.inl z)
      · exact Or.inr (Or.inr z)
    have N : EvN Inv Bad R KV k0 t0 L x2 (h + 1) := by
      intro kf tf s t M σ a n hk ht r0 I hs
      rcases hR h 0 a n r0 with z | ⟨-, z1, z2, z3⟩ | ⟨-, z1, x, z2, z3⟩ | ⟨-, z1, ⟨x, z2, z3⟩, y, z4, z5⟩ | ⟨-, z1, z2, ⟨x, z3, z4⟩, ⟨y, z5, z6⟩, q, z7, z8⟩ | ⟨z, -⟩ | ⟨z, -⟩ | ⟨z, -⟩
      · exact l1 h kf tf s t M σ a n (by omega) (by omega) r0 z I (by omega)
      · exact ev_num hS hE r0 z1 z2 z3 (by omega) (by omega) I
      · exact ev_un hS hE ht0 evn r0 z1 z2 z3 hk ht I hs
      · rcases arith a n z1 with w | w
        · exact ev_ch hS hE hL spa evn r0 w z2 z3 z4 z5 hk ht I hs
        · exact ev_mm hS hE ht0 evn r0 w z2 z3 z4 z5 hk ht I hs
      · exact ev_if hS hE ht0 evn evc r0 z1 z2 z3 z4 z5 z6 z7 z8 hk ht I hs
      · exact absurd z (by decide)
      · exact absurd z (by decide)
      · exact absurd z (by decide)
    refine ⟨N, ?_, ?_⟩
    · intro kf tf s t M σ a n hk ht r0 I hs
      rcases hR h 1 a n r0 with z | ⟨z, -⟩ | ⟨z, -⟩ | ⟨z, -⟩ | ⟨z, -⟩ | ⟨-, z1, z2, ⟨x, z3, z4⟩, y, z5, z6⟩ | ⟨-, z1, ⟨x, z2, z3⟩, y, z4, z5⟩ | ⟨-, z1, z2, x, z3, z4⟩
      · exact l3 h kf tf s t M σ a n (by omega) (by omega) r0 z I (by omega)
      · exact absurd z (by decide)
      · exact absurd z (by decide)
      · exact absurd z (by decide)
      · exact absurd z (by decide)
      · exact l4 h evn kf tf s t M σ a n x y hk ht r0 z1 z2 z3 z4 z5 z6 I hs
      · exact ev_co hS hE ht0 evc r0 z1 z2 z3 z4 z5 hk ht I hs
      · exact ev_not hS hE evc r0 z1 z2 z3 z4 hk ht I hs
    · intro kf d s t M σ a n hk ht r0 I hs
      have bot : ¬ (tA σ0 121 n = 5 ∨ tA σ0 121 n = 6 ∨ tA σ0 121 n = 8 ∨ tA σ0 121 n = 9) → SpO Inv Bad x2 (h + 1) d s t n (KV kf a M) σ := fun hop => sp_bot hS r0 hop I (N kf d s t M σ a n hk ht r0 I hs)
      rcases hR h 0 a n r0 with z | ⟨-, z1, z2, z3⟩ | ⟨-, z1, x, z2, z3⟩ | ⟨-, z1, ⟨x, z2, z3⟩, y, z4, z5⟩ | ⟨-, z1, z2, ⟨x, z3, z4⟩, ⟨y, z5, z6⟩, q, z7, z8⟩ | ⟨z, -⟩ | ⟨z, -⟩ | ⟨z, -⟩
      · exact bot (l2 a n z)
      · exact bot (by rw [z2]; decide)
      · refine bot ?_
        simp only [List.mem_cons, List.not_mem_nil, or_false, Prod.mk.injEq] at z1
        rcases z1 with ⟨-, q⟩ | ⟨-, q⟩ | ⟨-, q⟩ | ⟨-, q⟩ | ⟨-, q⟩ <;> rw [q] <;> decide
      · rcases arith a n z1 with w | w
        · exact sp_step hS hE hL spa evn r0 w z2 z3 z4 z5 hk (by omega) I hs
        · refine bot ?_
          rcases w with ⟨-, q⟩ | ⟨-, q⟩ <;> rw [q] <;> decide
      · exact bot (by rw [z2]; decide)
      · exact absurd z (by decide)
      · exact absurd z (by decide)
      · exact absurd z (by decide)
end EVALL2
